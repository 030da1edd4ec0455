set_option maxRecDepth 100000
/-! SB: the text; Optional -/
theorem sx_shr0 {x : Int32} : x >>> ((0 : Int32) &&& 31) = x := by
  rw [show ((0 : Int32) &&& 31) = 0 from by decide]
  apply Int32.toBitVec_inj.mp
  simp
theorem sx_shl0 {x : Int32} : x <<< ((0 : Int32) &&& 31) = x := by
  rw [show ((0 : Int32) &&& 31) = 0 from by decide]
  apply Int32.toBitVec_inj.mp
  simp
theorem sb_le {a b : Nat} (h : a ≤ b) (hb : b < 1000000) : nI a - nI b ≤ 0 := by
  have t : (nI a - nI b).toInt = (a : Int) - b := by
    rw [Int32.toInt_sub, nI_toInt (by omega), nI_toInt (by omega), Int.bmod_eq_of_le (by omega) (by omega)]
  refine Int32.le_iff_toInt_le.mpr ?_
  rw [t, show (0 : Int32).toInt = 0 from rfl]
  omega
theorem jmax_n {a b : Nat} (h : a ≤ b) (hb : b < 2 ^ 31) : jmax (nI a) (nI b) = nI b := by
  unfold jmax
  by_cases c : nI a < nI b
  · rw [if_pos c]
  · rw [if_neg c]
    have : ¬ a < b := fun q => c ((nI_ltI (by omega) hb).mpr q)
    rw [show a = b by omega]
theorem jmin_n {a b : Nat} (h : a < b) (hb : b < 2 ^ 31) : jmin (nI a) (nI b) = nI a := by
  unfold jmin
  rw [if_neg (fun c => by have := (nI_ltI (a := b) (b := a) hb (by omega)).mp c; omega)]
theorem jmin_n2 {a b : Nat} (h : a ≤ b) (hb : b < 2 ^ 31) : jmin (nI a) (nI b) = nI a := by
  unfold jmin
  rw [if_neg (fun c => by have := (nI_ltI (a := b) (b := a) hb (by omega)).mp c; omega)]
set_option maxHeartbeats 4000000 in
set_option maxRecDepth 100000 in
theorem jt_asb_init (l : Launch) (G : mg) (A : Nat → Prop) (M1 : mh) (a : Nat)  (h_a : M1 a = some (.inr (12, [.null, .int (0 : Int32), .int (0 : Int32), .int (0 : Int32)])))   : Met l yJ9_init (ws_ yJ9_init cJ9_init 2 (none)) ({ frames := 1, cells := 1, slots := 16, locals := 12 }) (va_Pc [.ref a, .int (16 : Int32)] (mU G A (fun M => M = M1))) (mQv G A (fun M => ∃ q : Nat, M1 q = none ∧ M = (va_up (va_up (va_up M1 q (some (mIc (G.1.1 102) 16 (fun _ => 0)))) a (some (.inr (12, [.ref q, .int (0 : Int32), .int (0 : Int32), .int (0 : Int32)])))) a (some (.inr (12, [.ref q, .int (0 : Int32), .int (0 : Int32), .int (0 : Int32)])))))) 1 16 A := by
  refine mx_ofv (by decide) (Nat.le_of_ble_eq_true rfl) ?_
  intro p e R s m av below meth c M H Q ls X hRf hRl hRc hRs hin eM w fin hl
  subst M
  have X : CallFix p m c cJ9_init 2 s av lw_all "java/lang/AbstractStringBuilder" := X
  have hx := X.1
  have hb := X.2.1
  have hl : lv_has ls 2 [(0, .ref a), (1, .int (16 : Int32))] := hl
  have hRf : R.frames = 1 := hRf
  have hRl : R.locals = 12 := hRl
  have hRc : R.cells = 1 := hRc
  have hRs : R.slots = 16 := hRs
  have hin : meth.name = "<init>" := hin
  generalize ([] : List Loc) = locs at w ⊢
  refine lv_aload_n hx hb dJ9_init_0 rfl (lv_at hl 0 rfl) ?_
  refine W.objInit hx hb X.2.2.2.1 (X.2.2.2.2 _ q447) (X.2.2.2.2 _ q144) (X.2.2.2.2 _ q145) rfl (by rw [X.2.2.1]; exact hl.1) rfl dJ9_init_1 (by rw [hRf]; decide) (by rw [hRl]; exact Nat.le_of_ble_eq_true rfl) ?_
  refine W.eq (g2 := F0 m 4 ls []) rfl ?_
  refine mx_gets (v := .int (1 : Int32)) X w (C := "java/lang/String") (by simp [kcZ]) q448 (fun _ h => h) dJ9_init_4 ?_
  refine lv_if_eq (tgt := 25) hx hb dJ9_init_7 (by decide) (fun c_7 => absurd c_7 (by decide)) (fun c_7 => ?_)
  refine lv_aload_n hx hb dJ9_init_10 rfl (lv_at hl 0 rfl) ?_
  refine lv_iload_n hx hb dJ9_init_11 rfl (lv_at hl 1 rfl) ?_
  refine mx_newB X w q470 16 rfl (by first | decide | omega) (by rw [hRc]; omega) (by rw [hRs]; omega) dJ9_init_12 (fun q H nq_q w => ?_)
  have n_q_a : q ≠ a := fun e => by rw [e, h_a] at nq_q; cases nq_q
  have z_q : M1 q = none := by exact nq_q
  have w : mW G A s (va_up M1 q (some (mIc (G.1.1 102) 16 (fun _ => 0)))) H locs := w
  have h_a : (va_up M1 q (some (mIc (G.1.1 102) 16 (fun _ => 0)))) a = some (.inr (12, [.null, .int (0 : Int32), .int (0 : Int32), .int (0 : Int32)])) := (va_up_k (by first | assumption | exact Ne.symm (by assumption))).trans h_a
  have h_q : (va_up M1 q (some (mIc (G.1.1 102) 16 (fun _ => 0)))) q = some (mIc (G.1.1 102) 16 (fun _ => 0)) := va_up_s
  refine mx_put (T := TJ10) X w in_J10 tyJ10 tyJ10_ok nmJ10 (ci := 12) rfl 0 (by decide) q457 (fun _ h => h) rfl (v := .ref q) rfl rfl h_a (show 0 < 4 by decide) dJ9_init_14 (fun H locs w => ?_)
  have w : mW G A s (va_up (va_up M1 q (some (mIc (G.1.1 102) 16 (fun _ => 0)))) a (some (.inr (12, [.ref q, .int (0 : Int32), .int (0 : Int32), .int (0 : Int32)])))) H locs := w
  have h_q : (va_up (va_up M1 q (some (mIc (G.1.1 102) 16 (fun _ => 0)))) a (some (.inr (12, [.ref q, .int (0 : Int32), .int (0 : Int32), .int (0 : Int32)])))) q = some (mIc (G.1.1 102) 16 (fun _ => 0)) := (va_up_k (by first | assumption | exact Ne.symm (by assumption))).trans h_q
  have h_a : (va_up (va_up M1 q (some (mIc (G.1.1 102) 16 (fun _ => 0)))) a (some (.inr (12, [.ref q, .int (0 : Int32), .int (0 : Int32), .int (0 : Int32)])))) a = some (.inr (12, [.ref q, .int (0 : Int32), .int (0 : Int32), .int (0 : Int32)])) := va_up_s
  refine lv_aload_n hx hb dJ9_init_17 rfl (lv_at hl 0 rfl) ?_
  refine lv_iconst (v := (0 : Int32)) hx hb dJ9_init_18 (by decide) ?_
  refine mx_put (T := TJ10) X w in_J10 tyJ10 tyJ10_ok nmJ10 (ci := 12) rfl 1 (by decide) q458 (fun _ h => h) rfl (v := .int (0 : Int32)) rfl rfl h_a (show 1 < 4 by decide) dJ9_init_19 (fun H locs w => ?_)
  have w : mW G A s (va_up (va_up (va_up M1 q (some (mIc (G.1.1 102) 16 (fun _ => 0)))) a (some (.inr (12, [.ref q, .int (0 : Int32), .int (0 : Int32), .int (0 : Int32)])))) a (some (.inr (12, [.ref q, .int (0 : Int32), .int (0 : Int32), .int (0 : Int32)])))) H locs := w
  have h_q : (va_up (va_up (va_up M1 q (some (mIc (G.1.1 102) 16 (fun _ => 0)))) a (some (.inr (12, [.ref q, .int (0 : Int32), .int (0 : Int32), .int (0 : Int32)])))) a (some (.inr (12, [.ref q, .int (0 : Int32), .int (0 : Int32), .int (0 : Int32)])))) q = some (mIc (G.1.1 102) 16 (fun _ => 0)) := (va_up_k (by first | assumption | exact Ne.symm (by assumption))).trans h_q
  have h_a : (va_up (va_up (va_up M1 q (some (mIc (G.1.1 102) 16 (fun _ => 0)))) a (some (.inr (12, [.ref q, .int (0 : Int32), .int (0 : Int32), .int (0 : Int32)])))) a (some (.inr (12, [.ref q, .int (0 : Int32), .int (0 : Int32), .int (0 : Int32)])))) a = some (.inr (12, [.ref q, .int (0 : Int32), .int (0 : Int32), .int (0 : Int32)])) := va_up_s
  refine lv_goto (tgt := 38) hx hb dJ9_init_22 (by decide) ?_
  exact fin _ H locs ls 38 dJ9_init_38 ⟨q, z_q, rfl⟩ w
set_option maxHeartbeats 4000000 in
set_option maxRecDepth 100000 in
theorem jt_sb_init (l : Launch) (G : mg) (A : Nat → Prop) (M1 : mh) (a : Nat)  (h_a : M1 a = some (.inr (12, [.null, .int (0 : Int32), .int (0 : Int32), .int (0 : Int32)])))   : Met l yJ10_init (ws_ yJ10_init cJ10_init 1 (none)) ({ frames := 2, cells := 1, slots := 16, locals := 33 }) (va_Pc [.ref a] (mU G A (fun M => M = M1))) (mQv G A (fun M => ∃ q_3 : Nat, M1 q_3 = none ∧ M = (va_up (va_up (va_up M1 q_3 (some (mIc (G.1.1 102) 16 (fun _ => 0)))) a (some (.inr (12, [.ref q_3, .int (0 : Int32), .int (0 : Int32), .int (0 : Int32)])))) a (some (.inr (12, [.ref q_3, .int (0 : Int32), .int (0 : Int32), .int (0 : Int32)])))))) 1 16 A := by
  refine mx_ofv (by decide) (Nat.le_of_ble_eq_true rfl) ?_
  intro p e R s m av below meth c M H Q ls X hRf hRl hRc hRs hin eM w fin hl
  subst M
  have X : CallFix p m c cJ10_init 1 s av lw_all "java/lang/StringBuilder" := X
  have hx := X.1
  have hb := X.2.1
  have hl : lv_has ls 1 [(0, .ref a)] := hl
  have hRf : R.frames = 2 := hRf
  have hRl : R.locals = 33 := hRl
  have hRc : R.cells = 1 := hRc
  have hRs : R.slots = 16 := hRs
  have hin : meth.name = "<init>" := hin
  generalize ([] : List Loc) = locs at w ⊢
  refine lv_aload_n hx hb dJ10_init_0 rfl (lv_at hl 0 rfl) ?_
  refine lv_bipush (v := (16 : Int32)) hx hb dJ10_init_1 (by decide) ?_
  refine mx_bv w (va_runI (As := [.int (16 : Int32)]) (rest := []) X (jt_asb_init l G A M1 a h_a ) (cwI 1 X.2.2.2.2 (lw_meth q446) rfl rfl rfl (X.2.2.2.2 _ q109) (X.2.2.2.2 _ q444) (X.2.2.2.2 _ q445) rfl (by decide +kernel) ⟨by rw [hRf]; decide, by rw [hRl]; decide⟩) (mx_preS w rfl) rfl rfl hl.1 rfl (lv_room (Nat.le_of_ble_eq_true rfl)) dJ10_init_3 ⟨by rw [hRc]; omega, by rw [hRs]; omega⟩) (fun M9 H locs hp w => ?_)
  obtain ⟨q_3, z_q_3, eM⟩ := hp; subst M9
  have nq_q_3 := z_q_3
  have n_q_3_a : q_3 ≠ a := fun e => by rw [e, h_a] at nq_q_3; cases nq_q_3
  have z_q_3 : M1 q_3 = none := by exact nq_q_3
  have h_a : (va_up M1 q_3 (some (mIc (G.1.1 102) 16 (fun _ => 0)))) a = some (.inr (12, [.null, .int (0 : Int32), .int (0 : Int32), .int (0 : Int32)])) := (va_up_k (by first | assumption | exact Ne.symm (by assumption))).trans h_a
  have h_q_3 : (va_up M1 q_3 (some (mIc (G.1.1 102) 16 (fun _ => 0)))) q_3 = some (mIc (G.1.1 102) 16 (fun _ => 0)) := va_up_s
  have h_q_3 : (va_up (va_up M1 q_3 (some (mIc (G.1.1 102) 16 (fun _ => 0)))) a (some (.inr (12, [.ref q_3, .int (0 : Int32), .int (0 : Int32), .int (0 : Int32)])))) q_3 = some (mIc (G.1.1 102) 16 (fun _ => 0)) := (va_up_k (by first | assumption | exact Ne.symm (by assumption))).trans h_q_3
  have h_a : (va_up (va_up M1 q_3 (some (mIc (G.1.1 102) 16 (fun _ => 0)))) a (some (.inr (12, [.ref q_3, .int (0 : Int32), .int (0 : Int32), .int (0 : Int32)])))) a = some (.inr (12, [.ref q_3, .int (0 : Int32), .int (0 : Int32), .int (0 : Int32)])) := va_up_s
  have h_q_3 : (va_up (va_up (va_up M1 q_3 (some (mIc (G.1.1 102) 16 (fun _ => 0)))) a (some (.inr (12, [.ref q_3, .int (0 : Int32), .int (0 : Int32), .int (0 : Int32)])))) a (some (.inr (12, [.ref q_3, .int (0 : Int32), .int (0 : Int32), .int (0 : Int32)])))) q_3 = some (mIc (G.1.1 102) 16 (fun _ => 0)) := (va_up_k (by first | assumption | exact Ne.symm (by assumption))).trans h_q_3
  have h_a : (va_up (va_up (va_up M1 q_3 (some (mIc (G.1.1 102) 16 (fun _ => 0)))) a (some (.inr (12, [.ref q_3, .int (0 : Int32), .int (0 : Int32), .int (0 : Int32)])))) a (some (.inr (12, [.ref q_3, .int (0 : Int32), .int (0 : Int32), .int (0 : Int32)])))) a = some (.inr (12, [.ref q_3, .int (0 : Int32), .int (0 : Int32), .int (0 : Int32)])) := va_up_s
  have w : mW G A s (va_up (va_up (va_up M1 q_3 (some (mIc (G.1.1 102) 16 (fun _ => 0)))) a (some (.inr (12, [.ref q_3, .int (0 : Int32), .int (0 : Int32), .int (0 : Int32)])))) a (some (.inr (12, [.ref q_3, .int (0 : Int32), .int (0 : Int32), .int (0 : Int32)])))) H locs := w
  exact fin _ H locs ls 6 dJ10_init_6 ⟨q_3, z_q_3, rfl⟩ w
set_option maxHeartbeats 4000000 in
set_option maxRecDepth 100000 in
theorem jt_asb_len (l : Launch) (G : mg) (A : Nat → Prop) (M1 : mh) (a : Nat) (va : Nat) (ml : Int32) (ct : Nat) (h_a : M1 a = some (.inr (12, [.ref va, .int (0 : Int32), .int ml, .int (nI ct)])))   : Met l yJ9_length (ws_ yJ9_length cJ9_length 1 (some .int)) ({ frames := 0, cells := 0, slots := 0, locals := 0 }) (va_Pc [.ref a] (mU G A (fun M => M = M1))) (mQi G A (fun r M => r = (nI ct) ∧ M = M1)) 0 0 A := by
  refine mx_ofi (by decide) (Nat.le_of_ble_eq_true rfl) ?_
  intro p e R s m av below meth c M H Q ls X hRf hRl hRc hRs hin eM w fin hl
  subst M
  have X : CallFix p m c cJ9_length 1 s av lw_all "java/lang/AbstractStringBuilder" := X
  have hx := X.1
  have hb := X.2.1
  have hl : lv_has ls 1 [(0, .ref a)] := hl
  have hRf : R.frames = 0 := hRf
  have hRl : R.locals = 0 := hRl
  have hRc : R.cells = 0 := hRc
  have hRs : R.slots = 0 := hRs
  generalize ([] : List Loc) = locs at w ⊢
  refine lv_aload_n hx hb dJ9_length_0 rfl (lv_at hl 0 rfl) ?_
  refine mx_get (T := TJ10) (v := .int (nI ct)) X w in_J10 (ci := 12) rfl 3 (by decide) q460 (fun _ h => h) h_a rfl dJ9_length_1 ?_
  exact fin (nI ct) _ H locs ls 4 dJ9_length_4 ⟨rfl, rfl⟩ w
set_option maxHeartbeats 4000000 in
set_option maxRecDepth 100000 in
theorem jt_sb_len (l : Launch) (G : mg) (A : Nat → Prop) (M1 : mh) (a : Nat) (va : Nat) (ml : Int32) (ct : Nat) (h_a : M1 a = some (.inr (12, [.ref va, .int (0 : Int32), .int ml, .int (nI ct)])))   : Met l yJ10_length (ws_ yJ10_length cJ10_length 1 (some .int)) ({ frames := 1, cells := 0, slots := 0, locals := 20 }) (va_Pc [.ref a] (mU G A (fun M => M = M1))) (mQi G A (fun r M => r = (nI ct) ∧ M = M1)) 0 0 A := by
  refine mx_ofi (by decide) (Nat.le_of_ble_eq_true rfl) ?_
  intro p e R s m av below meth c M H Q ls X hRf hRl hRc hRs hin eM w fin hl
  subst M
  have X : CallFix p m c cJ10_length 1 s av lw_all "java/lang/StringBuilder" := X
  have hx := X.1
  have hb := X.2.1
  have hl : lv_has ls 1 [(0, .ref a)] := hl
  have hRf : R.frames = 1 := hRf
  have hRl : R.locals = 20 := hRl
  have hRc : R.cells = 0 := hRc
  have hRs : R.slots = 0 := hRs
  generalize ([] : List Loc) = locs at w ⊢
  refine lv_aload_n hx hb dJ10_length_0 rfl (lv_at hl 0 rfl) ?_
  refine mx_bi w (va_runSU (As := []) (rest := []) (w.cls0 (ci := 12) rfl).choose_spec X (jt_asb_len l G A M1 a va ml ct h_a ) (va_cwSU 0 X.2.2.2.2 (lw_SU q1750 q2397 q469 q1751 q109 q1752) rfl rfl rfl (by decide +kernel) ⟨by rw [hRf]; decide, by rw [hRl]; decide⟩) (mx_preV w rfl h_a rfl) rfl rfl hl.1 rfl (lv_room (Nat.le_of_ble_eq_true rfl)) dJ10_length_1 ⟨Nat.zero_le _, Nat.zero_le _⟩) (fun r M9 H locs hp w => ?_)
  obtain ⟨eR, eM⟩ := hp; subst M9; subst eR
  exact fin (nI ct) _ H locs ls 4 dJ10_length_4 ⟨rfl, rfl⟩ w
set_option maxHeartbeats 4000000 in
set_option maxRecDepth 100000 in
theorem jt_asb_lat (l : Launch) (G : mg) (A : Nat → Prop) (M1 : mh) (a : Nat) (va : Nat) (ml : Int32) (ct : Nat) (h_a : M1 a = some (.inr (12, [.ref va, .int (0 : Int32), .int ml, .int (nI ct)])))   : Met l yJ9_isLatin1 (ws_ yJ9_isLatin1 cJ9_isLatin1 1 (some .boolean)) ({ frames := 0, cells := 0, slots := 0, locals := 0 }) (va_Pc [.ref a] (mU G A (fun M => M = M1))) (mQi G A (fun r M => r = bI true ∧ M = M1)) 0 0 A := by
  refine mx_ofz (by decide) (Nat.le_of_ble_eq_true rfl) ?_
  intro p e R s m av below meth c M H Q ls X hRf hRl hRc hRs hin eM w fin hl
  subst M
  have X : CallFix p m c cJ9_isLatin1 1 s av lw_all "java/lang/AbstractStringBuilder" := X
  have hx := X.1
  have hb := X.2.1
  have hl : lv_has ls 1 [(0, .ref a)] := hl
  have hRf : R.frames = 0 := hRf
  have hRl : R.locals = 0 := hRl
  have hRc : R.cells = 0 := hRc
  have hRs : R.slots = 0 := hRs
  generalize ([] : List Loc) = locs at w ⊢
  refine mx_gets (v := .int (1 : Int32)) X w (C := "java/lang/String") (by simp [kcZ]) q448 (fun _ h => h) dJ9_isLatin1_0 ?_
  refine lv_if_eq (tgt := 17) hx hb dJ9_isLatin1_3 (by decide) (fun c_3 => absurd c_3 (by decide)) (fun c_3 => ?_)
  refine lv_aload_n hx hb dJ9_isLatin1_6 rfl (lv_at hl 0 rfl) ?_
  refine mx_get (T := TJ10) (v := .int (0 : Int32)) X w in_J10 (ci := 12) rfl 1 (by decide) q458 (fun _ h => h) h_a rfl dJ9_isLatin1_7 ?_
  refine lv_if_ne (tgt := 17) hx hb dJ9_isLatin1_10 (by decide) (fun c_10 => absurd (by decide) c_10) (fun c_10 => ?_)
  refine lv_iconst (v := (1 : Int32)) hx hb dJ9_isLatin1_13 (by decide) ?_
  refine lv_goto (tgt := 18) hx hb dJ9_isLatin1_14 (by decide) ?_
  exact fin true _ H locs ls 18 dJ9_isLatin1_18 ⟨rfl, rfl⟩ w
set_option maxHeartbeats 4000000 in
set_option maxRecDepth 100000 in
theorem jt_sl_enc (l : Launch) (G : mg) (A : Nat → Prop) (M1 : mh) (ch : Int32)    (h255 : ¬ (255 : Int32) < ch) : Met l yJ21_canEncode (ws_ yJ21_canEncode cJ21_canEncode 1 (some .boolean)) ({ frames := 0, cells := 0, slots := 0, locals := 0 }) (va_Pc [.int ch] (mU G A (fun M => M = M1))) (mQi G A (fun r M => r = bI true ∧ M = M1)) 0 0 A := by
  refine mx_ofz (by decide) (Nat.le_of_ble_eq_true rfl) ?_
  intro p e R s m av below meth c M H Q ls X hRf hRl hRc hRs hin eM w fin hl
  subst M
  have X : CallFix p m c cJ21_canEncode 1 s av lw_all "java/lang/StringLatin1" := X
  have hx := X.1
  have hb := X.2.1
  have hl : lv_has ls 1 [(0, .int ch)] := hl
  have hRf : R.frames = 0 := hRf
  have hRl : R.locals = 0 := hRl
  have hRc : R.cells = 0 := hRc
  have hRs : R.slots = 0 := hRs
  generalize ([] : List Loc) = locs at w ⊢
  refine lv_iload_n hx hb dJ21_canEncode_0 rfl (lv_at hl 0 rfl) ?_
  refine lv_sipush (v := (255 : Int32)) hx hb dJ21_canEncode_1 (by decide) ?_
  refine lv_icmp_gt (tgt := 11) hx hb dJ21_canEncode_4 (by decide) (fun c_4 => absurd c_4 (h255)) (fun c_4 => ?_)
  refine lv_iconst (v := (1 : Int32)) hx hb dJ21_canEncode_7 (by decide) ?_
  refine lv_goto (tgt := 12) hx hb dJ21_canEncode_8 (by decide) ?_
  exact fin true _ H locs ls 12 dJ21_canEncode_12 ⟨rfl, rfl⟩ w
set_option maxHeartbeats 4000000 in
set_option maxRecDepth 100000 in
theorem jt_asb_ens1 (l : Launch) (G : mg) (A : Nat → Prop) (M1 : mh) (a : Nat) (mn : Nat) (va : Nat) (ml : Int32) (ct : Nat) (cap : Nat) (g : Nat → Int32) (h_a : M1 a = some (.inr (12, [.ref va, .int (0 : Int32), .int ml, .int (nI ct)]))) (h_va : M1 va = some (mIc (G.1.1 102) cap g))  (hfit : mn ≤ cap) (hcap : cap ≤ 1000) : Met l yJ9_ensureCapacityInternal (ws_ yJ9_ensureCapacityInternal cJ9_ensureCapacityInternal 3 (none)) ({ frames := 0, cells := 0, slots := 0, locals := 0 }) (va_Pc [.ref a, .int (nI mn)] (mU G A (fun M => M = M1))) (mQv G A (fun M => M = M1)) 0 0 A := by
  refine mx_ofv (by decide) (Nat.le_of_ble_eq_true rfl) ?_
  intro p e R s m av below meth c M H Q ls X hRf hRl hRc hRs hin eM w fin hl
  subst M
  have X : CallFix p m c cJ9_ensureCapacityInternal 3 s av lw_all "java/lang/AbstractStringBuilder" := X
  have hx := X.1
  have hb := X.2.1
  have hl : lv_has ls 3 [(0, .ref a), (1, .int (nI mn))] := hl
  have hRf : R.frames = 0 := hRf
  have hRl : R.locals = 0 := hRl
  have hRc : R.cells = 0 := hRc
  have hRs : R.slots = 0 := hRs
  have n_a_va : a ≠ va := fun e => by rw [e, h_va] at h_a; simp at h_a
  generalize ([] : List Loc) = locs at w ⊢
  refine lv_aload_n hx hb dJ9_ensureCapacityInternal_0 rfl (lv_at hl 0 rfl) ?_
  refine mx_get (T := TJ10) (v := .ref va) X w in_J10 (ci := 12) rfl 0 (by decide) q457 (fun _ h => h) h_a rfl dJ9_ensureCapacityInternal_1 ?_
  refine mx_alen X w 2 h_va rfl dJ9_ensureCapacityInternal_4 ?_
  refine lv_aload_n hx hb dJ9_ensureCapacityInternal_5 rfl (lv_at hl 0 rfl) ?_
  refine mx_get (T := TJ10) (v := .int (0 : Int32)) X w in_J10 (ci := 12) rfl 1 (by decide) q458 (fun _ h => h) h_a rfl dJ9_ensureCapacityInternal_6 ?_
  refine lv_ishr hx hb dJ9_ensureCapacityInternal_9 ?_
  refine mx_cast (z := nI (cap)) (sx_shr0) ?_
  refine lv_istore_n (lv' := [(2, .int (nI cap)), (0, .ref a), (1, .int (nI mn))]) hx hb dJ9_ensureCapacityInternal_10 rfl hl (by decide) rfl (fun ls hl => ?_)
  refine lv_iload_n hx hb dJ9_ensureCapacityInternal_11 rfl (lv_at hl 2 rfl) ?_
  refine lv_iload_n hx hb dJ9_ensureCapacityInternal_12 rfl (lv_at hl 0 rfl) ?_
  refine lv_isub hx hb dJ9_ensureCapacityInternal_13 ?_
  refine lv_if_le (tgt := 38) hx hb dJ9_ensureCapacityInternal_14 (by decide) (fun c_14 => ?_) (fun c_14 => absurd (sb_le hfit (by omega)) c_14)
  exact fin _ H locs ls 38 dJ9_ensureCapacityInternal_38 rfl w
set_option maxHeartbeats 4000000 in
set_option maxRecDepth 100000 in
theorem jt_newlen (l : Launch) (G : mg) (A : Nat → Prop) (M1 : mh) (k : Nat) (u : Nat) (v : Nat)    (huv : u ≤ v) (hv0 : 0 < v) (hkv : k + v ≤ 1000000) : Met l yJ14_newLength (ws_ yJ14_newLength cJ14_newLength 4 (some .int)) ({ frames := 1, cells := 0, slots := 0, locals := 21 }) (va_Pc [.int (nI k), .int (nI u), .int (nI v)] (mU G A (fun M => M = M1))) (mQi G A (fun r M => r = (nI (k + v)) ∧ M = M1)) 0 0 A := by
  refine mx_ofi (by decide) (Nat.le_of_ble_eq_true rfl) ?_
  intro p e R s m av below meth c M H Q ls X hRf hRl hRc hRs hin eM w fin hl
  subst M
  have X : CallFix p m c cJ14_newLength 4 s av lw_all "jdk/internal/util/ArraysSupport" := X
  have hx := X.1
  have hb := X.2.1
  have hl : lv_has ls 4 [(0, .int (nI k)), (1, .int (nI u)), (2, .int (nI v))] := hl
  have hRf : R.frames = 1 := hRf
  have hRl : R.locals = 21 := hRl
  have hRc : R.cells = 0 := hRc
  have hRs : R.slots = 0 := hRs
  generalize ([] : List Loc) = locs at w ⊢
  refine lv_iload_n hx hb dJ14_newLength_0 rfl (lv_at hl 0 rfl) ?_
  refine lv_iload_n hx hb dJ14_newLength_1 rfl (lv_at hl 1 rfl) ?_
  refine lv_iload_n hx hb dJ14_newLength_2 rfl (lv_at hl 2 rfl) ?_
  refine va_mmax hx hb (X.2.2.1.trans hl.1.symm) X.2.2.2.1 (X.2.2.2.2 _ q683) (X.2.2.2.2 _ q684) (X.2.2.2.2 _ q120) (X.2.2.2.2 _ q685) (by rw [hRf]; decide) (by rw [hRl]; exact Nat.le_of_ble_eq_true rfl) (Nat.zero_le _) (Nat.zero_le _) dJ14_newLength_3 ?_
  refine mx_cast (z := (jmax (nI u) (nI v))) rfl ?_
  refine mx_cast (z := nI (v)) (jmax_n huv (by omega)) ?_
  refine mx_nadd (u := k) (v := v) hx hb rfl rfl dJ14_newLength_6 ?_
  refine lv_istore_n (lv' := [(3, .int (nI (k + v))), (0, .int (nI k)), (1, .int (nI u)), (2, .int (nI v))]) hx hb dJ14_newLength_7 rfl hl (by decide) rfl (fun ls hl => ?_)
  refine lv_iconst (v := (0 : Int32)) hx hb dJ14_newLength_8 (by decide) ?_
  refine lv_iload_n hx hb dJ14_newLength_9 rfl (lv_at hl 0 rfl) ?_
  refine mx_nge (u := 0) (v := (k + v)) (tgt := 21) hx hb rfl rfl (by omega) (by omega) dJ14_newLength_10 (by decide) (fun c_10 => absurd c_10 (by omega)) (fun c_10 => ?_)
  refine lv_iload_n hx hb dJ14_newLength_13 rfl (lv_at hl 0 rfl) ?_
  refine lv_ldc (v := (2147483639 : Int32)) hx hb X.2.2.2.1 (X.2.2.2.2 _ q686) dJ14_newLength_14 ?_
  refine mx_ngt (u := (k + v)) (v := 2147483639) (tgt := 21) hx hb rfl rfl (by omega) (by omega) dJ14_newLength_16 (by decide) (fun c_16 => absurd c_16 (by omega)) (fun c_16 => ?_)
  refine lv_iload_n hx hb dJ14_newLength_19 rfl (lv_at hl 0 rfl) ?_
  exact fin (nI (k + v)) _ H locs ls 20 dJ14_newLength_20 ⟨rfl, rfl⟩ w
set_option maxHeartbeats 4000000 in
set_option maxRecDepth 100000 in
theorem jt_asb_newc (l : Launch) (G : mg) (A : Nat → Prop) (M1 : mh) (a : Nat) (va : Nat) (ml : Int32) (ct : Nat) (cap : Nat) (g : Nat → Int32) (h_a : M1 a = some (.inr (12, [.ref va, .int (0 : Int32), .int ml, .int (nI ct)]))) (h_va : M1 va = some (mIc (G.1.1 102) cap g))  (hcap : cap ≤ 1000) : Met l yJ9_newCapacity (ws_ yJ9_newCapacity cJ9_newCapacity 6 (some .int)) ({ frames := 2, cells := 0, slots := 0, locals := 44 }) (va_Pc [.ref a, .int (nI (cap + 1))] (mU G A (fun M => M = M1))) (mQi G A (fun r M => r = (nI (cap + (cap + 2))) ∧ M = M1)) 0 0 A := by
  refine mx_ofi (by decide) (Nat.le_of_ble_eq_true rfl) ?_
  intro p e R s m av below meth c M H Q ls X hRf hRl hRc hRs hin eM w fin hl
  subst M
  have X : CallFix p m c cJ9_newCapacity 6 s av lw_all "java/lang/AbstractStringBuilder" := X
  have hx := X.1
  have hb := X.2.1
  have hl : lv_has ls 6 [(0, .ref a), (1, .int (nI (cap + 1)))] := hl
  have hRf : R.frames = 2 := hRf
  have hRl : R.locals = 44 := hRl
  have hRc : R.cells = 0 := hRc
  have hRs : R.slots = 0 := hRs
  have n_a_va : a ≠ va := fun e => by rw [e, h_va] at h_a; simp at h_a
  generalize ([] : List Loc) = locs at w ⊢
  refine lv_aload_n hx hb dJ9_newCapacity_0 rfl (lv_at hl 0 rfl) ?_
  refine mx_get (T := TJ10) (v := .ref va) X w in_J10 (ci := 12) rfl 0 (by decide) q457 (fun _ h => h) h_a rfl dJ9_newCapacity_1 ?_
  refine mx_alen X w 2 h_va rfl dJ9_newCapacity_4 ?_
  refine lv_istore_n (lv' := [(2, .int (nI cap)), (0, .ref a), (1, .int (nI (cap + 1)))]) hx hb dJ9_newCapacity_5 rfl hl (by decide) rfl (fun ls hl => ?_)
  refine lv_iload_n hx hb dJ9_newCapacity_6 rfl (lv_at hl 2 rfl) ?_
  refine lv_aload_n hx hb dJ9_newCapacity_7 rfl (lv_at hl 1 rfl) ?_
  refine mx_get (T := TJ10) (v := .int (0 : Int32)) X w in_J10 (ci := 12) rfl 1 (by decide) q458 (fun _ h => h) h_a rfl dJ9_newCapacity_8 ?_
  refine lv_ishl hx hb dJ9_newCapacity_11 ?_
  refine mx_cast (z := nI (cap + 1)) (sx_shl0) ?_
  refine lv_istore_n (lv' := [(3, .int (nI (cap + 1))), (2, .int (nI cap)), (0, .ref a), (1, .int (nI (cap + 1)))]) hx hb dJ9_newCapacity_12 rfl hl (by decide) rfl (fun ls hl => ?_)
  refine lv_iload_n hx hb dJ9_newCapacity_13 rfl (lv_at hl 0 rfl) ?_
  refine lv_iload_n hx hb dJ9_newCapacity_14 rfl (lv_at hl 1 rfl) ?_
  refine mx_nsub (u := cap + 1) (v := cap) hx hb rfl rfl (by omega) dJ9_newCapacity_15 ?_
  refine lv_istore (lv' := [(4, .int (nI ((cap + 1) - cap))), (3, .int (nI (cap + 1))), (2, .int (nI cap)), (0, .ref a), (1, .int (nI (cap + 1)))]) hx hb dJ9_newCapacity_16 hl (by decide) rfl (fun ls hl => ?_)
  refine lv_iload_n hx hb dJ9_newCapacity_18 rfl (lv_at hl 2 rfl) ?_
  refine lv_iload hx hb dJ9_newCapacity_19 (lv_at hl 0 rfl) ?_
  refine lv_iload_n hx hb dJ9_newCapacity_21 rfl (lv_at hl 2 rfl) ?_
  refine lv_iconst (v := (2 : Int32)) hx hb dJ9_newCapacity_22 (by decide) ?_
  refine lv_aload_n hx hb dJ9_newCapacity_23 rfl (lv_at hl 3 rfl) ?_
  refine mx_get (T := TJ10) (v := .int (0 : Int32)) X w in_J10 (ci := 12) rfl 1 (by decide) q458 (fun _ h => h) h_a rfl dJ9_newCapacity_24 ?_
  refine lv_ishl hx hb dJ9_newCapacity_27 ?_
  refine mx_cast (z := nI (2)) (by decide) ?_
  refine mx_nadd (u := cap) (v := 2) hx hb rfl rfl dJ9_newCapacity_28 ?_
  refine mx_bi w (va_runS (As := [.int (nI cap), .int (nI ((cap + 1) - cap)), .int (nI (cap + 2))]) (rest := []) X (jt_newlen l G A M1 cap ((cap + 1) - cap) (cap + 2)  (by omega) (by omega) (by omega)) (va_cwS 3 X.2.2.2.2 (lw_S q1795 q681 q119 q682) rfl rfl rfl (by decide +kernel) ⟨by rw [hRf]; decide, by rw [hRl]; decide⟩) (mx_preS w rfl) rfl rfl hl.1 rfl (lv_room (Nat.le_of_ble_eq_true rfl)) dJ9_newCapacity_29 ⟨Nat.zero_le _, Nat.zero_le _⟩) (fun r M9 H locs hp w => ?_)
  obtain ⟨eR, eM⟩ := hp; subst M9; subst eR
  refine lv_istore (lv' := [(5, .int (nI (cap + (cap + 2)))), (4, .int (nI ((cap + 1) - cap))), (3, .int (nI (cap + 1))), (2, .int (nI cap)), (0, .ref a), (1, .int (nI (cap + 1)))]) hx hb dJ9_newCapacity_32 hl (by decide) rfl (fun ls hl => ?_)
  refine lv_iload hx hb dJ9_newCapacity_34 (lv_at hl 0 rfl) ?_
  refine lv_ldc (v := (2147483647 : Int32)) hx hb X.2.2.2.1 (X.2.2.2.2 _ q1796) dJ9_newCapacity_36 ?_
  refine mx_nne (u := (cap + (cap + 2))) (v := 2147483647) (tgt := 51) hx hb rfl rfl (by omega) (by omega) dJ9_newCapacity_38 (by decide) (fun c_38 => ?_) (fun c_38 => absurd c_38 (by omega))
  refine lv_iload hx hb dJ9_newCapacity_51 (lv_at hl 0 rfl) ?_
  refine lv_aload_n hx hb dJ9_newCapacity_53 rfl (lv_at hl 4 rfl) ?_
  refine mx_get (T := TJ10) (v := .int (0 : Int32)) X w in_J10 (ci := 12) rfl 1 (by decide) q458 (fun _ h => h) h_a rfl dJ9_newCapacity_54 ?_
  refine lv_ishr hx hb dJ9_newCapacity_57 ?_
  refine mx_cast (z := nI (cap + (cap + 2))) (sx_shr0) ?_
  exact fin (nI (cap + (cap + 2))) _ H locs ls 58 dJ9_newCapacity_58 ⟨rfl, rfl⟩ w
set_option maxHeartbeats 4000000 in
set_option maxRecDepth 100000 in
theorem jt_cpyB (l : Launch) (G : mg) (A : Nat → Prop) (M1 : mh) (va : Nat) (k : Nat) (cap : Nat) (g : Nat → Int32) (h_va : M1 va = some (mIc (G.1.1 102) cap g))  (hk : cap < k) (hk2 : k ≤ 3000) (hfb : ∀ i, i < cap → fits .byte (.int (g i)) = true) : Met l yJ16_copyOf_3 (ws_ yJ16_copyOf_3 cJ16_copyOf_3 3 (some (.array .byte))) ({ frames := 1, cells := 1, slots := k, locals := 100 }) (va_Pc [.ref va, .int (nI k)] (mU G A (fun M => M = M1))) (mQq G A (fun r M => ∃ q : Nat, M1 q = none ∧ r = some q ∧ M = (va_up (va_up M1 q (some (mIc (G.1.1 102) k (fun _ => 0)))) q (some (mIc (G.1.1 102) k (va_cpy g (fun _ => 0) 0 0 cap)))))) 1 k A := by
  refine mx_ofq (Or.inr ⟨_, rfl⟩) (by decide) (Nat.le_of_ble_eq_true rfl) ?_
  intro p e R s m av below meth c M H Q ls X hRf hRl hRc hRs hin eM w fin hl
  subst M
  have X : CallFix p m c cJ16_copyOf_3 3 s av lw_all "java/util/Arrays" := X
  have hx := X.1
  have hb := X.2.1
  have hl : lv_has ls 3 [(0, .ref va), (1, .int (nI k))] := hl
  have hRf : R.frames = 1 := hRf
  have hRl : R.locals = 100 := hRl
  have hRc : R.cells = 1 := hRc
  have hRs : R.slots = k := hRs
  generalize ([] : List Loc) = locs at w ⊢
  refine lv_iload_n hx hb dJ16_copyOf_3_0 rfl (lv_at hl 1 rfl) ?_
  refine lv_aload_n hx hb dJ16_copyOf_3_1 rfl (lv_at hl 0 rfl) ?_
  refine mx_alen X w 2 h_va rfl dJ16_copyOf_3_2 ?_
  refine mx_nne (u := k) (v := cap) (tgt := 14) hx hb rfl rfl (by omega) (by omega) dJ16_copyOf_3_3 (by decide) (fun c_3 => ?_) (fun c_3 => absurd c_3 (by omega))
  refine lv_iload_n hx hb dJ16_copyOf_3_14 rfl (lv_at hl 1 rfl) ?_
  refine mx_newB X w q470 k rfl (by first | decide | omega) (by rw [hRc]; omega) (by rw [hRs]; omega) dJ16_copyOf_3_15 (fun q H nq_q w => ?_)
  have n_q_va : q ≠ va := fun e => by rw [e, h_va] at nq_q; cases nq_q
  have z_q : M1 q = none := by exact nq_q
  have w : mW G A s (va_up M1 q (some (mIc (G.1.1 102) k (fun _ => 0)))) H locs := w
  have h_va : (va_up M1 q (some (mIc (G.1.1 102) k (fun _ => 0)))) va = some (mIc (G.1.1 102) cap g) := (va_up_k (by first | assumption | exact Ne.symm (by assumption))).trans h_va
  have h_q : (va_up M1 q (some (mIc (G.1.1 102) k (fun _ => 0)))) q = some (mIc (G.1.1 102) k (fun _ => 0)) := va_up_s
  refine lv_astore_n (lv' := [(2, .ref q), (0, .ref va), (1, .int (nI k))]) hx hb dJ16_copyOf_3_17 rfl hl (by decide) rfl (fun ls hl => ?_)
  refine lv_aload_n hx hb dJ16_copyOf_3_18 rfl (lv_at hl 1 rfl) ?_
  refine lv_iconst (v := (0 : Int32)) hx hb dJ16_copyOf_3_19 (by decide) ?_
  refine lv_aload_n hx hb dJ16_copyOf_3_20 rfl (lv_at hl 0 rfl) ?_
  refine lv_iconst (v := (0 : Int32)) hx hb dJ16_copyOf_3_21 (by decide) ?_
  refine lv_aload_n hx hb dJ16_copyOf_3_22 rfl (lv_at hl 1 rfl) ?_
  refine mx_alen X w 2 h_va rfl dJ16_copyOf_3_23 ?_
  refine lv_iload_n hx hb dJ16_copyOf_3_24 rfl (lv_at hl 2 rfl) ?_
  refine va_mmin hx hb (X.2.2.1.trans hl.1.symm) X.2.2.2.1 (X.2.2.2.2 _ q728) (X.2.2.2.2 _ q729) (X.2.2.2.2 _ q120) (X.2.2.2.2 _ q730) (by rw [hRf]; decide) (by rw [hRl]; exact Nat.le_of_ble_eq_true rfl) (by rw [hRc]; omega) (by rw [hRs]; omega) dJ16_copyOf_3_25 ?_
  refine mx_cast (z := (jmin (nI cap) (nI k))) rfl ?_
  refine mx_cast (z := nI (cap)) (jmin_n (by omega) (by omega)) ?_
  refine mx_cpyi X w q731 2 rfl rfl h_va h_q (sp := 0) (dp := 0) (k := cap) (by omega) (by omega) (by omega) (by omega) (fun i hi => by rw [Nat.zero_add]; exact hfb i hi) (by rw [hRf]; decide) (by rw [hRl]; exact Nat.le_of_ble_eq_true rfl) hl.1 dJ16_copyOf_3_28 (fun H locs w => ?_)
  have w : mW G A s (va_up (va_up M1 q (some (mIc (G.1.1 102) k (fun _ => 0)))) q (some (mIc (G.1.1 102) k (va_cpy g (fun _ => 0) 0 0 cap)))) H locs := w
  have h_va : (va_up (va_up M1 q (some (mIc (G.1.1 102) k (fun _ => 0)))) q (some (mIc (G.1.1 102) k (va_cpy g (fun _ => 0) 0 0 cap)))) va = some (mIc (G.1.1 102) cap g) := (va_up_k (by first | assumption | exact Ne.symm (by assumption))).trans h_va
  have h_q : (va_up (va_up M1 q (some (mIc (G.1.1 102) k (fun _ => 0)))) q (some (mIc (G.1.1 102) k (va_cpy g (fun _ => 0) 0 0 cap)))) q = some (mIc (G.1.1 102) k (va_cpy g (fun _ => 0) 0 0 cap)) := va_up_s
  refine lv_aload_n hx hb dJ16_copyOf_3_31 rfl (lv_at hl 0 rfl) ?_
  refine W.widen (k := 1) (n := k) (by omega) (by omega) ?_
  exact fin (some q) _ H locs ls 32 dJ16_copyOf_3_32 ⟨q, z_q, rfl, rfl⟩ w
set_option maxHeartbeats 4000000 in
set_option maxRecDepth 100000 in
theorem jt_asb_ens0 (l : Launch) (G : mg) (A : Nat → Prop) (M1 : mh) (a : Nat) (va : Nat) (ml : Int32) (ct : Nat) (cap : Nat) (g : Nat → Int32) (h_a : M1 a = some (.inr (12, [.ref va, .int (0 : Int32), .int ml, .int (nI ct)]))) (h_va : M1 va = some (mIc (G.1.1 102) cap g))  (hcap : cap ≤ 1000) (hfb : ∀ i, i < cap → fits .byte (.int (g i)) = true) : Met l yJ9_ensureCapacityInternal (ws_ yJ9_ensureCapacityInternal cJ9_ensureCapacityInternal 3 (none)) ({ frames := 3, cells := 1, slots := (cap + (cap + 2)), locals := 122 }) (va_Pc [.ref a, .int (nI (cap + 1))] (mU G A (fun M => M = M1))) (mQv G A (fun M => ∃ q_32 : Nat, M1 q_32 = none ∧ M = (va_up (va_up (va_up M1 q_32 (some (mIc (G.1.1 102) (cap + (cap + 2)) (fun _ => 0)))) q_32 (some (mIc (G.1.1 102) (cap + (cap + 2)) (va_cpy g (fun _ => 0) 0 0 cap)))) a (some (.inr (12, [.ref q_32, .int (0 : Int32), .int ml, .int (nI ct)])))))) 1 (cap + (cap + 2)) A := by
  refine mx_ofv (by decide) (Nat.le_of_ble_eq_true rfl) ?_
  intro p e R s m av below meth c M H Q ls X hRf hRl hRc hRs hin eM w fin hl
  subst M
  have X : CallFix p m c cJ9_ensureCapacityInternal 3 s av lw_all "java/lang/AbstractStringBuilder" := X
  have hx := X.1
  have hb := X.2.1
  have hl : lv_has ls 3 [(0, .ref a), (1, .int (nI (cap + 1)))] := hl
  have hRf : R.frames = 3 := hRf
  have hRl : R.locals = 122 := hRl
  have hRc : R.cells = 1 := hRc
  have hRs : R.slots = (cap + (cap + 2)) := hRs
  have n_a_va : a ≠ va := fun e => by rw [e, h_va] at h_a; simp at h_a
  generalize ([] : List Loc) = locs at w ⊢
  refine lv_aload_n hx hb dJ9_ensureCapacityInternal_0 rfl (lv_at hl 0 rfl) ?_
  refine mx_get (T := TJ10) (v := .ref va) X w in_J10 (ci := 12) rfl 0 (by decide) q457 (fun _ h => h) h_a rfl dJ9_ensureCapacityInternal_1 ?_
  refine mx_alen X w 2 h_va rfl dJ9_ensureCapacityInternal_4 ?_
  refine lv_aload_n hx hb dJ9_ensureCapacityInternal_5 rfl (lv_at hl 0 rfl) ?_
  refine mx_get (T := TJ10) (v := .int (0 : Int32)) X w in_J10 (ci := 12) rfl 1 (by decide) q458 (fun _ h => h) h_a rfl dJ9_ensureCapacityInternal_6 ?_
  refine lv_ishr hx hb dJ9_ensureCapacityInternal_9 ?_
  refine mx_cast (z := nI (cap)) (sx_shr0) ?_
  refine lv_istore_n (lv' := [(2, .int (nI cap)), (0, .ref a), (1, .int (nI (cap + 1)))]) hx hb dJ9_ensureCapacityInternal_10 rfl hl (by decide) rfl (fun ls hl => ?_)
  refine lv_iload_n hx hb dJ9_ensureCapacityInternal_11 rfl (lv_at hl 2 rfl) ?_
  refine lv_iload_n hx hb dJ9_ensureCapacityInternal_12 rfl (lv_at hl 0 rfl) ?_
  refine mx_nsub (u := cap + 1) (v := cap) hx hb rfl rfl (by omega) dJ9_ensureCapacityInternal_13 ?_
  refine mx_0le (u := ((cap + 1) - cap)) (tgt := 38) hx hb rfl (by omega) dJ9_ensureCapacityInternal_14 (by decide) (fun c_14 => absurd c_14 (by omega)) (fun c_14 => ?_)
  refine lv_aload_n hx hb dJ9_ensureCapacityInternal_17 rfl (lv_at hl 1 rfl) ?_
  refine lv_aload_n hx hb dJ9_ensureCapacityInternal_18 rfl (lv_at hl 1 rfl) ?_
  refine mx_get (T := TJ10) (v := .ref va) X w in_J10 (ci := 12) rfl 0 (by decide) q457 (fun _ h => h) h_a rfl dJ9_ensureCapacityInternal_19 ?_
  refine lv_aload_n hx hb dJ9_ensureCapacityInternal_22 rfl (lv_at hl 1 rfl) ?_
  refine lv_iload_n hx hb dJ9_ensureCapacityInternal_23 rfl (lv_at hl 2 rfl) ?_
  refine mx_bi w (va_runP (As := [.int (nI (cap + 1))]) (rest := [.ref va, .ref a]) 1 X (jt_asb_newc l G A M1 a va ml ct cap g h_a h_va (by first | omega | assumption)) q1791 q2400 q1793 q109 q1794 (w.tblB (args := av) q1792 rfl rfl) (by decide +kernel) rfl rfl ⟨by rw [hRf]; decide, by rw [hRl]; decide⟩ (mx_preV w rfl h_a rfl) rfl rfl hl.1 rfl (lv_room (Nat.le_of_ble_eq_true rfl)) dJ9_ensureCapacityInternal_24 ⟨Nat.zero_le _, Nat.zero_le _⟩) (fun r M9 H locs hp w => ?_)
  obtain ⟨eR, eM⟩ := hp; subst M9; subst eR
  refine lv_aload_n hx hb dJ9_ensureCapacityInternal_27 rfl (lv_at hl 1 rfl) ?_
  refine mx_get (T := TJ10) (v := .int (0 : Int32)) X w in_J10 (ci := 12) rfl 1 (by decide) q458 (fun _ h => h) h_a rfl dJ9_ensureCapacityInternal_28 ?_
  refine lv_ishl hx hb dJ9_ensureCapacityInternal_31 ?_
  refine mx_cast (z := nI (cap + (cap + 2))) (sx_shl0) ?_
  refine mx_bq w (va_runS (As := [.ref va, .int (nI (cap + (cap + 2)))]) (rest := [.ref a]) X (jt_cpyB l G A M1 va (cap + (cap + 2)) cap g h_va (by first | omega | assumption) (by first | omega | assumption) (by first | omega | assumption)) (va_cwS 2 X.2.2.2.2 (lw_S q1797 q1798 q121 q1799) rfl rfl rfl (by decide +kernel) ⟨by rw [hRf]; exact Nat.le_of_ble_eq_true rfl, by rw [hRl]; exact Nat.le_of_ble_eq_true rfl⟩) (mx_preS w rfl) rfl rfl hl.1 rfl (lv_room (Nat.le_of_ble_eq_true rfl)) dJ9_ensureCapacityInternal_32 ⟨by rw [hRc]; omega, by rw [hRs]; omega⟩) (fun r M9 H locs hp w => ?_)
  obtain ⟨q_32, z_q_32, eR, eM⟩ := hp; subst M9; subst eR
  have nq_q_32 := z_q_32
  have n_q_32_a : q_32 ≠ a := fun e => by rw [e, h_a] at nq_q_32; cases nq_q_32
  have n_q_32_va : q_32 ≠ va := fun e => by rw [e, h_va] at nq_q_32; cases nq_q_32
  have z_q_32 : M1 q_32 = none := by exact nq_q_32
  have h_a : (va_up M1 q_32 (some (mIc (G.1.1 102) (cap + (cap + 2)) (fun _ => 0)))) a = some (.inr (12, [.ref va, .int (0 : Int32), .int ml, .int (nI ct)])) := (va_up_k (by first | assumption | exact Ne.symm (by assumption))).trans h_a
  have h_va : (va_up M1 q_32 (some (mIc (G.1.1 102) (cap + (cap + 2)) (fun _ => 0)))) va = some (mIc (G.1.1 102) cap g) := (va_up_k (by first | assumption | exact Ne.symm (by assumption))).trans h_va
  have h_q_32 : (va_up M1 q_32 (some (mIc (G.1.1 102) (cap + (cap + 2)) (fun _ => 0)))) q_32 = some (mIc (G.1.1 102) (cap + (cap + 2)) (fun _ => 0)) := va_up_s
  have h_a : (va_up (va_up M1 q_32 (some (mIc (G.1.1 102) (cap + (cap + 2)) (fun _ => 0)))) q_32 (some (mIc (G.1.1 102) (cap + (cap + 2)) (va_cpy g (fun _ => 0) 0 0 cap)))) a = some (.inr (12, [.ref va, .int (0 : Int32), .int ml, .int (nI ct)])) := (va_up_k (by first | assumption | exact Ne.symm (by assumption))).trans h_a
  have h_va : (va_up (va_up M1 q_32 (some (mIc (G.1.1 102) (cap + (cap + 2)) (fun _ => 0)))) q_32 (some (mIc (G.1.1 102) (cap + (cap + 2)) (va_cpy g (fun _ => 0) 0 0 cap)))) va = some (mIc (G.1.1 102) cap g) := (va_up_k (by first | assumption | exact Ne.symm (by assumption))).trans h_va
  have h_q_32 : (va_up (va_up M1 q_32 (some (mIc (G.1.1 102) (cap + (cap + 2)) (fun _ => 0)))) q_32 (some (mIc (G.1.1 102) (cap + (cap + 2)) (va_cpy g (fun _ => 0) 0 0 cap)))) q_32 = some (mIc (G.1.1 102) (cap + (cap + 2)) (va_cpy g (fun _ => 0) 0 0 cap)) := va_up_s
  have w : mW G A s (va_up (va_up M1 q_32 (some (mIc (G.1.1 102) (cap + (cap + 2)) (fun _ => 0)))) q_32 (some (mIc (G.1.1 102) (cap + (cap + 2)) (va_cpy g (fun _ => 0) 0 0 cap)))) H locs := w
  refine mx_put (T := TJ10) X w in_J10 tyJ10 tyJ10_ok nmJ10 (ci := 12) rfl 0 (by decide) q457 (fun _ h => h) rfl (v := .ref q_32) rfl rfl h_a (show 0 < 4 by decide) dJ9_ensureCapacityInternal_35 (fun H locs w => ?_)
  have w : mW G A s (va_up (va_up (va_up M1 q_32 (some (mIc (G.1.1 102) (cap + (cap + 2)) (fun _ => 0)))) q_32 (some (mIc (G.1.1 102) (cap + (cap + 2)) (va_cpy g (fun _ => 0) 0 0 cap)))) a (some (.inr (12, [.ref q_32, .int (0 : Int32), .int ml, .int (nI ct)])))) H locs := w
  have h_va : (va_up (va_up (va_up M1 q_32 (some (mIc (G.1.1 102) (cap + (cap + 2)) (fun _ => 0)))) q_32 (some (mIc (G.1.1 102) (cap + (cap + 2)) (va_cpy g (fun _ => 0) 0 0 cap)))) a (some (.inr (12, [.ref q_32, .int (0 : Int32), .int ml, .int (nI ct)])))) va = some (mIc (G.1.1 102) cap g) := (va_up_k (by first | assumption | exact Ne.symm (by assumption))).trans h_va
  have h_q_32 : (va_up (va_up (va_up M1 q_32 (some (mIc (G.1.1 102) (cap + (cap + 2)) (fun _ => 0)))) q_32 (some (mIc (G.1.1 102) (cap + (cap + 2)) (va_cpy g (fun _ => 0) 0 0 cap)))) a (some (.inr (12, [.ref q_32, .int (0 : Int32), .int ml, .int (nI ct)])))) q_32 = some (mIc (G.1.1 102) (cap + (cap + 2)) (va_cpy g (fun _ => 0) 0 0 cap)) := (va_up_k (by first | assumption | exact Ne.symm (by assumption))).trans h_q_32
  have h_a : (va_up (va_up (va_up M1 q_32 (some (mIc (G.1.1 102) (cap + (cap + 2)) (fun _ => 0)))) q_32 (some (mIc (G.1.1 102) (cap + (cap + 2)) (va_cpy g (fun _ => 0) 0 0 cap)))) a (some (.inr (12, [.ref q_32, .int (0 : Int32), .int ml, .int (nI ct)])))) a = some (.inr (12, [.ref q_32, .int (0 : Int32), .int ml, .int (nI ct)])) := va_up_s
  refine W.widen (k := 1) (n := (cap + (cap + 2))) (by omega) (by omega) ?_
  exact fin _ H locs ls 38 dJ9_ensureCapacityInternal_38 ⟨q_32, z_q_32, rfl⟩ w
set_option maxHeartbeats 4000000 in
set_option maxRecDepth 100000 in
theorem jt_asb_app1 (l : Launch) (G : mg) (A : Nat → Prop) (M1 : mh) (a : Nat) (ch : Int32) (va : Nat) (ml : Int32) (ct : Nat) (cap : Nat) (g : Nat → Int32) (h_a : M1 a = some (.inr (12, [.ref va, .int (0 : Int32), .int ml, .int (nI ct)]))) (h_va : M1 va = some (mIc (G.1.1 102) cap g))  (hct : ct + 1 ≤ cap) (hcap : cap ≤ 1000) (h255 : ¬ (255 : Int32) < ch) (hb8 : ch.toInt8.toInt32 = ch) (hnb : vp_nar .byte ch = ch) : Met l yJ9_append (ws_ yJ9_append cJ9_append 2 (some (.object "java/lang/AbstractStringBuilder"))) ({ frames := 1, cells := 0, slots := 0, locals := 22 }) (va_Pc [.ref a, .int ch] (mU G A (fun M => M = M1))) (mQq G A (fun r M => r = some a ∧ M = (va_up (va_up M1 a (some (.inr (12, [.ref va, .int (0 : Int32), .int ml, .int (nI (ct + 1))])))) va (some (mIc (G.1.1 102) cap (upd g ct ch)))))) 0 0 A := by
  refine mx_ofq (Or.inl ⟨_, rfl⟩) (by decide) (Nat.le_of_ble_eq_true rfl) ?_
  intro p e R s m av below meth c M H Q ls X hRf hRl hRc hRs hin eM w fin hl
  subst M
  have X : CallFix p m c cJ9_append 2 s av lw_all "java/lang/AbstractStringBuilder" := X
  have hx := X.1
  have hb := X.2.1
  have hl : lv_has ls 2 [(0, .ref a), (1, .int ch)] := hl
  have hRf : R.frames = 1 := hRf
  have hRl : R.locals = 22 := hRl
  have hRc : R.cells = 0 := hRc
  have hRs : R.slots = 0 := hRs
  have n_a_va : a ≠ va := fun e => by rw [e, h_va] at h_a; simp at h_a
  generalize ([] : List Loc) = locs at w ⊢
  refine lv_aload_n hx hb dJ9_append_0 rfl (lv_at hl 0 rfl) ?_
  refine lv_aload_n hx hb dJ9_append_1 rfl (lv_at hl 0 rfl) ?_
  refine mx_get (T := TJ10) (v := .int (nI ct)) X w in_J10 (ci := 12) rfl 3 (by decide) q460 (fun _ h => h) h_a rfl dJ9_append_2 ?_
  refine lv_iconst (v := (1 : Int32)) hx hb dJ9_append_5 (by decide) ?_
  refine mx_nadd (u := ct) (v := 1) hx hb rfl rfl dJ9_append_6 ?_
  refine mx_bv w (va_runP (As := [.int (nI (ct + 1))]) (rest := []) 1 X (jt_asb_ens1 l G A M1 a (ct + 1) va ml ct cap g h_a h_va (by first | omega | assumption) (by first | omega | assumption)) q1787 q2399 q1789 q109 q1790 (w.tblB (args := av) q1788 rfl rfl) (by decide +kernel) rfl rfl ⟨by rw [hRf]; decide, by rw [hRl]; decide⟩ (mx_preV w rfl h_a rfl) rfl rfl hl.1 rfl (lv_room (Nat.le_of_ble_eq_true rfl)) dJ9_append_7 ⟨Nat.zero_le _, Nat.zero_le _⟩) (fun M9 H locs hp w => ?_)
  have eM := hp; subst M9
  refine lv_aload_n hx hb dJ9_append_10 rfl (lv_at hl 0 rfl) ?_
  refine mx_bi w (va_runU (As := []) (rest := []) X (jt_asb_lat l G A M1 a va ml ct h_a ) (va_cwU 0 X.2.2.2.2 (lw_U q1223 q1225 q1226 q1224 q109 q1227) rfl rfl rfl rfl (by decide +kernel) ⟨by rw [hRf]; decide, by rw [hRl]; decide⟩) (mx_preV w rfl h_a rfl) rfl rfl hl.1 rfl (lv_room (Nat.le_of_ble_eq_true rfl)) dJ9_append_11 ⟨Nat.zero_le _, Nat.zero_le _⟩) (fun r M9 H locs hp w => ?_)
  obtain ⟨eR, eM⟩ := hp; subst M9; subst eR
  refine lv_if_eq (tgt := 45) hx hb dJ9_append_14 (by decide) (fun c_14 => absurd c_14 (by decide)) (fun c_14 => ?_)
  refine lv_iload_n hx hb dJ9_append_17 rfl (lv_at hl 1 rfl) ?_
  refine mx_bi w (va_runS (As := [.int ch]) (rest := []) X (jt_sl_enc l G A M1 ch  (by first | omega | assumption)) (va_cwS 1 X.2.2.2.2 (lw_S q1805 q1806 q128 q1807) rfl rfl rfl (by decide +kernel) ⟨by rw [hRf]; decide, by rw [hRl]; decide⟩) (mx_preS w rfl) rfl rfl hl.1 rfl (lv_room (Nat.le_of_ble_eq_true rfl)) dJ9_append_18 ⟨Nat.zero_le _, Nat.zero_le _⟩) (fun r M9 H locs hp w => ?_)
  obtain ⟨eR, eM⟩ := hp; subst M9; subst eR
  refine lv_if_eq (tgt := 45) hx hb dJ9_append_21 (by decide) (fun c_21 => absurd c_21 (by decide)) (fun c_21 => ?_)
  refine lv_aload_n hx hb dJ9_append_24 rfl (lv_at hl 0 rfl) ?_
  refine mx_get (T := TJ10) (v := .ref va) X w in_J10 (ci := 12) rfl 0 (by decide) q457 (fun _ h => h) h_a rfl dJ9_append_25 ?_
  refine lv_aload_n hx hb dJ9_append_28 rfl (lv_at hl 0 rfl) ?_
  refine lv_dup hx hb dJ9_append_29 rfl ?_
  refine mx_get (T := TJ10) (v := .int (nI ct)) X w in_J10 (ci := 12) rfl 3 (by decide) q460 (fun _ h => h) h_a rfl dJ9_append_30 ?_
  refine lv_dup_x1 hx hb dJ9_append_33 rfl rfl ?_
  refine lv_iconst (v := (1 : Int32)) hx hb dJ9_append_34 (by decide) ?_
  refine mx_nadd (u := ct) (v := 1) hx hb rfl rfl dJ9_append_35 ?_
  refine mx_put (T := TJ10) X w in_J10 tyJ10 tyJ10_ok nmJ10 (ci := 12) rfl 3 (by decide) q460 (fun _ h => h) rfl (v := .int (nI (ct + 1))) rfl rfl h_a (show 3 < 4 by decide) dJ9_append_36 (fun H locs w => ?_)
  have w : mW G A s (va_up M1 a (some (.inr (12, [.ref va, .int (0 : Int32), .int ml, .int (nI (ct + 1))])))) H locs := w
  have h_va : (va_up M1 a (some (.inr (12, [.ref va, .int (0 : Int32), .int ml, .int (nI (ct + 1))])))) va = some (mIc (G.1.1 102) cap g) := (va_up_k (by first | assumption | exact Ne.symm (by assumption))).trans h_va
  have h_a : (va_up M1 a (some (.inr (12, [.ref va, .int (0 : Int32), .int ml, .int (nI (ct + 1))])))) a = some (.inr (12, [.ref va, .int (0 : Int32), .int ml, .int (nI (ct + 1))])) := va_up_s
  refine lv_iload_n hx hb dJ9_append_39 rfl (lv_at hl 1 rfl) ?_
  refine lv_i2b hx hb dJ9_append_40 rfl ?_
  refine mx_cast (z := ch) (hb8) ?_
  refine mx_bast (x := ch) X w h_va ct (by first | omega | decide) (by omega) (hnb) dJ9_append_41 (fun H locs w => ?_)
  have w : mW G A s (va_up (va_up M1 a (some (.inr (12, [.ref va, .int (0 : Int32), .int ml, .int (nI (ct + 1))])))) va (some (mIc (G.1.1 102) cap (upd g ct ch)))) H locs := w
  have h_a : (va_up (va_up M1 a (some (.inr (12, [.ref va, .int (0 : Int32), .int ml, .int (nI (ct + 1))])))) va (some (mIc (G.1.1 102) cap (upd g ct ch)))) a = some (.inr (12, [.ref va, .int (0 : Int32), .int ml, .int (nI (ct + 1))])) := (va_up_k (by first | assumption | exact Ne.symm (by assumption))).trans h_a
  have h_va : (va_up (va_up M1 a (some (.inr (12, [.ref va, .int (0 : Int32), .int ml, .int (nI (ct + 1))])))) va (some (mIc (G.1.1 102) cap (upd g ct ch)))) va = some (mIc (G.1.1 102) cap (upd g ct ch)) := va_up_s
  refine lv_goto (tgt := 75) hx hb dJ9_append_42 (by decide) ?_
  refine lv_aload_n hx hb dJ9_append_75 rfl (lv_at hl 0 rfl) ?_
  exact fin (some a) _ H locs ls 76 dJ9_append_76 ⟨rfl, rfl⟩ w
set_option maxHeartbeats 4000000 in
set_option maxRecDepth 100000 in
theorem jt_asb_app0 (l : Launch) (G : mg) (A : Nat → Prop) (M1 : mh) (a : Nat) (ch : Int32) (va : Nat) (ml : Int32) (cap : Nat) (g : Nat → Int32) (h_a : M1 a = some (.inr (12, [.ref va, .int (0 : Int32), .int ml, .int (nI cap)]))) (h_va : M1 va = some (mIc (G.1.1 102) cap g))  (hcap : cap ≤ 1000) (hfb : ∀ i, i < cap → fits .byte (.int (g i)) = true) (h255 : ¬ (255 : Int32) < ch) (hb8 : ch.toInt8.toInt32 = ch) (hnb : vp_nar .byte ch = ch) : Met l yJ9_append (ws_ yJ9_append cJ9_append 2 (some (.object "java/lang/AbstractStringBuilder"))) ({ frames := 4, cells := 1, slots := (cap + (cap + 2)), locals := 144 }) (va_Pc [.ref a, .int ch] (mU G A (fun M => M = M1))) (mQq G A (fun r M => ∃ q_32_7 : Nat, M1 q_32_7 = none ∧ r = some a ∧ M = (va_up (va_up (va_up (va_up (va_up M1 q_32_7 (some (mIc (G.1.1 102) (cap + (cap + 2)) (fun _ => 0)))) q_32_7 (some (mIc (G.1.1 102) (cap + (cap + 2)) (va_cpy g (fun _ => 0) 0 0 cap)))) a (some (.inr (12, [.ref q_32_7, .int (0 : Int32), .int ml, .int (nI cap)])))) a (some (.inr (12, [.ref q_32_7, .int (0 : Int32), .int ml, .int (nI (cap + 1))])))) q_32_7 (some (mIc (G.1.1 102) (cap + (cap + 2)) (upd (va_cpy g (fun _ => 0) 0 0 cap) cap ch)))))) 1 (cap + (cap + 2)) A := by
  refine mx_ofq (Or.inl ⟨_, rfl⟩) (by decide) (Nat.le_of_ble_eq_true rfl) ?_
  intro p e R s m av below meth c M H Q ls X hRf hRl hRc hRs hin eM w fin hl
  subst M
  have X : CallFix p m c cJ9_append 2 s av lw_all "java/lang/AbstractStringBuilder" := X
  have hx := X.1
  have hb := X.2.1
  have hl : lv_has ls 2 [(0, .ref a), (1, .int ch)] := hl
  have hRf : R.frames = 4 := hRf
  have hRl : R.locals = 144 := hRl
  have hRc : R.cells = 1 := hRc
  have hRs : R.slots = (cap + (cap + 2)) := hRs
  have n_a_va : a ≠ va := fun e => by rw [e, h_va] at h_a; simp at h_a
  generalize ([] : List Loc) = locs at w ⊢
  refine lv_aload_n hx hb dJ9_append_0 rfl (lv_at hl 0 rfl) ?_
  refine lv_aload_n hx hb dJ9_append_1 rfl (lv_at hl 0 rfl) ?_
  refine mx_get (T := TJ10) (v := .int (nI cap)) X w in_J10 (ci := 12) rfl 3 (by decide) q460 (fun _ h => h) h_a rfl dJ9_append_2 ?_
  refine lv_iconst (v := (1 : Int32)) hx hb dJ9_append_5 (by decide) ?_
  refine mx_nadd (u := cap) (v := 1) hx hb rfl rfl dJ9_append_6 ?_
  refine mx_bv w (va_runP (As := [.int (nI (cap + 1))]) (rest := []) 1 X (jt_asb_ens0 l G A M1 a va ml cap cap g h_a h_va (by first | omega | assumption) (by first | omega | assumption)) q1787 q2399 q1789 q109 q1790 (w.tblB (args := av) q1788 rfl rfl) (by decide +kernel) rfl rfl ⟨by rw [hRf]; exact Nat.le_of_ble_eq_true rfl, by rw [hRl]; exact Nat.le_of_ble_eq_true rfl⟩ (mx_preV w rfl h_a rfl) rfl rfl hl.1 rfl (lv_room (Nat.le_of_ble_eq_true rfl)) dJ9_append_7 ⟨by rw [hRc]; omega, by rw [hRs]; omega⟩) (fun M9 H locs hp w => ?_)
  obtain ⟨q_32_7, z_q_32_7, eM⟩ := hp; subst M9
  have nq_q_32_7 := z_q_32_7
  have n_q_32_7_a : q_32_7 ≠ a := fun e => by rw [e, h_a] at nq_q_32_7; cases nq_q_32_7
  have n_q_32_7_va : q_32_7 ≠ va := fun e => by rw [e, h_va] at nq_q_32_7; cases nq_q_32_7
  have z_q_32_7 : M1 q_32_7 = none := by exact nq_q_32_7
  have h_a : (va_up M1 q_32_7 (some (mIc (G.1.1 102) (cap + (cap + 2)) (fun _ => 0)))) a = some (.inr (12, [.ref va, .int (0 : Int32), .int ml, .int (nI cap)])) := (va_up_k (by first | assumption | exact Ne.symm (by assumption))).trans h_a
  have h_va : (va_up M1 q_32_7 (some (mIc (G.1.1 102) (cap + (cap + 2)) (fun _ => 0)))) va = some (mIc (G.1.1 102) cap g) := (va_up_k (by first | assumption | exact Ne.symm (by assumption))).trans h_va
  have h_q_32_7 : (va_up M1 q_32_7 (some (mIc (G.1.1 102) (cap + (cap + 2)) (fun _ => 0)))) q_32_7 = some (mIc (G.1.1 102) (cap + (cap + 2)) (fun _ => 0)) := va_up_s
  have h_a : (va_up (va_up M1 q_32_7 (some (mIc (G.1.1 102) (cap + (cap + 2)) (fun _ => 0)))) q_32_7 (some (mIc (G.1.1 102) (cap + (cap + 2)) (va_cpy g (fun _ => 0) 0 0 cap)))) a = some (.inr (12, [.ref va, .int (0 : Int32), .int ml, .int (nI cap)])) := (va_up_k (by first | assumption | exact Ne.symm (by assumption))).trans h_a
  have h_va : (va_up (va_up M1 q_32_7 (some (mIc (G.1.1 102) (cap + (cap + 2)) (fun _ => 0)))) q_32_7 (some (mIc (G.1.1 102) (cap + (cap + 2)) (va_cpy g (fun _ => 0) 0 0 cap)))) va = some (mIc (G.1.1 102) cap g) := (va_up_k (by first | assumption | exact Ne.symm (by assumption))).trans h_va
  have h_q_32_7 : (va_up (va_up M1 q_32_7 (some (mIc (G.1.1 102) (cap + (cap + 2)) (fun _ => 0)))) q_32_7 (some (mIc (G.1.1 102) (cap + (cap + 2)) (va_cpy g (fun _ => 0) 0 0 cap)))) q_32_7 = some (mIc (G.1.1 102) (cap + (cap + 2)) (va_cpy g (fun _ => 0) 0 0 cap)) := va_up_s
  have h_va : (va_up (va_up (va_up M1 q_32_7 (some (mIc (G.1.1 102) (cap + (cap + 2)) (fun _ => 0)))) q_32_7 (some (mIc (G.1.1 102) (cap + (cap + 2)) (va_cpy g (fun _ => 0) 0 0 cap)))) a (some (.inr (12, [.ref q_32_7, .int (0 : Int32), .int ml, .int (nI cap)])))) va = some (mIc (G.1.1 102) cap g) := (va_up_k (by first | assumption | exact Ne.symm (by assumption))).trans h_va
  have h_q_32_7 : (va_up (va_up (va_up M1 q_32_7 (some (mIc (G.1.1 102) (cap + (cap + 2)) (fun _ => 0)))) q_32_7 (some (mIc (G.1.1 102) (cap + (cap + 2)) (va_cpy g (fun _ => 0) 0 0 cap)))) a (some (.inr (12, [.ref q_32_7, .int (0 : Int32), .int ml, .int (nI cap)])))) q_32_7 = some (mIc (G.1.1 102) (cap + (cap + 2)) (va_cpy g (fun _ => 0) 0 0 cap)) := (va_up_k (by first | assumption | exact Ne.symm (by assumption))).trans h_q_32_7
  have h_a : (va_up (va_up (va_up M1 q_32_7 (some (mIc (G.1.1 102) (cap + (cap + 2)) (fun _ => 0)))) q_32_7 (some (mIc (G.1.1 102) (cap + (cap + 2)) (va_cpy g (fun _ => 0) 0 0 cap)))) a (some (.inr (12, [.ref q_32_7, .int (0 : Int32), .int ml, .int (nI cap)])))) a = some (.inr (12, [.ref q_32_7, .int (0 : Int32), .int ml, .int (nI cap)])) := va_up_s
  have w : mW G A s (va_up (va_up (va_up M1 q_32_7 (some (mIc (G.1.1 102) (cap + (cap + 2)) (fun _ => 0)))) q_32_7 (some (mIc (G.1.1 102) (cap + (cap + 2)) (va_cpy g (fun _ => 0) 0 0 cap)))) a (some (.inr (12, [.ref q_32_7, .int (0 : Int32), .int ml, .int (nI cap)])))) H locs := w
  refine lv_aload_n hx hb dJ9_append_10 rfl (lv_at hl 0 rfl) ?_
  refine mx_bi w (va_runU (As := []) (rest := []) X (jt_asb_lat l G A (va_up (va_up (va_up M1 q_32_7 (some (mIc (G.1.1 102) (cap + (cap + 2)) (fun _ => 0)))) q_32_7 (some (mIc (G.1.1 102) (cap + (cap + 2)) (va_cpy g (fun _ => 0) 0 0 cap)))) a (some (.inr (12, [.ref q_32_7, .int (0 : Int32), .int ml, .int (nI cap)])))) a q_32_7 ml cap h_a ) (va_cwU 0 X.2.2.2.2 (lw_U q1223 q1225 q1226 q1224 q109 q1227) rfl rfl rfl rfl (by decide +kernel) ⟨by rw [hRf]; decide, by rw [hRl]; decide⟩) (mx_preV w rfl h_a rfl) rfl rfl hl.1 rfl (lv_room (Nat.le_of_ble_eq_true rfl)) dJ9_append_11 ⟨by rw [hRc]; omega, by rw [hRs]; omega⟩) (fun r M9 H locs hp w => ?_)
  obtain ⟨eR, eM⟩ := hp; subst M9; subst eR
  refine lv_if_eq (tgt := 45) hx hb dJ9_append_14 (by decide) (fun c_14 => absurd c_14 (by decide)) (fun c_14 => ?_)
  refine lv_iload_n hx hb dJ9_append_17 rfl (lv_at hl 1 rfl) ?_
  refine mx_bi w (va_runS (As := [.int ch]) (rest := []) X (jt_sl_enc l G A (va_up (va_up (va_up M1 q_32_7 (some (mIc (G.1.1 102) (cap + (cap + 2)) (fun _ => 0)))) q_32_7 (some (mIc (G.1.1 102) (cap + (cap + 2)) (va_cpy g (fun _ => 0) 0 0 cap)))) a (some (.inr (12, [.ref q_32_7, .int (0 : Int32), .int ml, .int (nI cap)])))) ch  (by first | omega | assumption)) (va_cwS 1 X.2.2.2.2 (lw_S q1805 q1806 q128 q1807) rfl rfl rfl (by decide +kernel) ⟨by rw [hRf]; decide, by rw [hRl]; decide⟩) (mx_preS w rfl) rfl rfl hl.1 rfl (lv_room (Nat.le_of_ble_eq_true rfl)) dJ9_append_18 ⟨by rw [hRc]; omega, by rw [hRs]; omega⟩) (fun r M9 H locs hp w => ?_)
  obtain ⟨eR, eM⟩ := hp; subst M9; subst eR
  refine lv_if_eq (tgt := 45) hx hb dJ9_append_21 (by decide) (fun c_21 => absurd c_21 (by decide)) (fun c_21 => ?_)
  refine lv_aload_n hx hb dJ9_append_24 rfl (lv_at hl 0 rfl) ?_
  refine mx_get (T := TJ10) (v := .ref q_32_7) X w in_J10 (ci := 12) rfl 0 (by decide) q457 (fun _ h => h) h_a rfl dJ9_append_25 ?_
  refine lv_aload_n hx hb dJ9_append_28 rfl (lv_at hl 0 rfl) ?_
  refine lv_dup hx hb dJ9_append_29 rfl ?_
  refine mx_get (T := TJ10) (v := .int (nI cap)) X w in_J10 (ci := 12) rfl 3 (by decide) q460 (fun _ h => h) h_a rfl dJ9_append_30 ?_
  refine lv_dup_x1 hx hb dJ9_append_33 rfl rfl ?_
  refine lv_iconst (v := (1 : Int32)) hx hb dJ9_append_34 (by decide) ?_
  refine mx_nadd (u := cap) (v := 1) hx hb rfl rfl dJ9_append_35 ?_
  refine mx_put (T := TJ10) X w in_J10 tyJ10 tyJ10_ok nmJ10 (ci := 12) rfl 3 (by decide) q460 (fun _ h => h) rfl (v := .int (nI (cap + 1))) rfl rfl h_a (show 3 < 4 by decide) dJ9_append_36 (fun H locs w => ?_)
  have w : mW G A s (va_up (va_up (va_up (va_up M1 q_32_7 (some (mIc (G.1.1 102) (cap + (cap + 2)) (fun _ => 0)))) q_32_7 (some (mIc (G.1.1 102) (cap + (cap + 2)) (va_cpy g (fun _ => 0) 0 0 cap)))) a (some (.inr (12, [.ref q_32_7, .int (0 : Int32), .int ml, .int (nI cap)])))) a (some (.inr (12, [.ref q_32_7, .int (0 : Int32), .int ml, .int (nI (cap + 1))])))) H locs := w
  have h_va : (va_up (va_up (va_up (va_up M1 q_32_7 (some (mIc (G.1.1 102) (cap + (cap + 2)) (fun _ => 0)))) q_32_7 (some (mIc (G.1.1 102) (cap + (cap + 2)) (va_cpy g (fun _ => 0) 0 0 cap)))) a (some (.inr (12, [.ref q_32_7, .int (0 : Int32), .int ml, .int (nI cap)])))) a (some (.inr (12, [.ref q_32_7, .int (0 : Int32), .int ml, .int (nI (cap + 1))])))) va = some (mIc (G.1.1 102) cap g) := (va_up_k (by first | assumption | exact Ne.symm (by assumption))).trans h_va
  have h_q_32_7 : (va_up (va_up (va_up (va_up M1 q_32_7 (some (mIc (G.1.1 102) (cap + (cap + 2)) (fun _ => 0)))) q_32_7 (some (mIc (G.1.1 102) (cap + (cap + 2)) (va_cpy g (fun _ => 0) 0 0 cap)))) a (some (.inr (12, [.ref q_32_7, .int (0 : Int32), .int ml, .int (nI cap)])))) a (some (.inr (12, [.ref q_32_7, .int (0 : Int32), .int ml, .int (nI (cap + 1))])))) q_32_7 = some (mIc (G.1.1 102) (cap + (cap + 2)) (va_cpy g (fun _ => 0) 0 0 cap)) := (va_up_k (by first | assumption | exact Ne.symm (by assumption))).trans h_q_32_7
  have h_a : (va_up (va_up (va_up (va_up M1 q_32_7 (some (mIc (G.1.1 102) (cap + (cap + 2)) (fun _ => 0)))) q_32_7 (some (mIc (G.1.1 102) (cap + (cap + 2)) (va_cpy g (fun _ => 0) 0 0 cap)))) a (some (.inr (12, [.ref q_32_7, .int (0 : Int32), .int ml, .int (nI cap)])))) a (some (.inr (12, [.ref q_32_7, .int (0 : Int32), .int ml, .int (nI (cap + 1))])))) a = some (.inr (12, [.ref q_32_7, .int (0 : Int32), .int ml, .int (nI (cap + 1))])) := va_up_s
  refine lv_iload_n hx hb dJ9_append_39 rfl (lv_at hl 1 rfl) ?_
  refine lv_i2b hx hb dJ9_append_40 rfl ?_
  refine mx_cast (z := ch) (hb8) ?_
  refine mx_bast (x := ch) X w h_q_32_7 cap (by first | omega | decide) (by omega) (hnb) dJ9_append_41 (fun H locs w => ?_)
  have w : mW G A s (va_up (va_up (va_up (va_up (va_up M1 q_32_7 (some (mIc (G.1.1 102) (cap + (cap + 2)) (fun _ => 0)))) q_32_7 (some (mIc (G.1.1 102) (cap + (cap + 2)) (va_cpy g (fun _ => 0) 0 0 cap)))) a (some (.inr (12, [.ref q_32_7, .int (0 : Int32), .int ml, .int (nI cap)])))) a (some (.inr (12, [.ref q_32_7, .int (0 : Int32), .int ml, .int (nI (cap + 1))])))) q_32_7 (some (mIc (G.1.1 102) (cap + (cap + 2)) (upd (va_cpy g (fun _ => 0) 0 0 cap) cap ch)))) H locs := w
  have h_a : (va_up (va_up (va_up (va_up (va_up M1 q_32_7 (some (mIc (G.1.1 102) (cap + (cap + 2)) (fun _ => 0)))) q_32_7 (some (mIc (G.1.1 102) (cap + (cap + 2)) (va_cpy g (fun _ => 0) 0 0 cap)))) a (some (.inr (12, [.ref q_32_7, .int (0 : Int32), .int ml, .int (nI cap)])))) a (some (.inr (12, [.ref q_32_7, .int (0 : Int32), .int ml, .int (nI (cap + 1))])))) q_32_7 (some (mIc (G.1.1 102) (cap + (cap + 2)) (upd (va_cpy g (fun _ => 0) 0 0 cap) cap ch)))) a = some (.inr (12, [.ref q_32_7, .int (0 : Int32), .int ml, .int (nI (cap + 1))])) := (va_up_k (by first | assumption | exact Ne.symm (by assumption))).trans h_a
  have h_va : (va_up (va_up (va_up (va_up (va_up M1 q_32_7 (some (mIc (G.1.1 102) (cap + (cap + 2)) (fun _ => 0)))) q_32_7 (some (mIc (G.1.1 102) (cap + (cap + 2)) (va_cpy g (fun _ => 0) 0 0 cap)))) a (some (.inr (12, [.ref q_32_7, .int (0 : Int32), .int ml, .int (nI cap)])))) a (some (.inr (12, [.ref q_32_7, .int (0 : Int32), .int ml, .int (nI (cap + 1))])))) q_32_7 (some (mIc (G.1.1 102) (cap + (cap + 2)) (upd (va_cpy g (fun _ => 0) 0 0 cap) cap ch)))) va = some (mIc (G.1.1 102) cap g) := (va_up_k (by first | assumption | exact Ne.symm (by assumption))).trans h_va
  have h_q_32_7 : (va_up (va_up (va_up (va_up (va_up M1 q_32_7 (some (mIc (G.1.1 102) (cap + (cap + 2)) (fun _ => 0)))) q_32_7 (some (mIc (G.1.1 102) (cap + (cap + 2)) (va_cpy g (fun _ => 0) 0 0 cap)))) a (some (.inr (12, [.ref q_32_7, .int (0 : Int32), .int ml, .int (nI cap)])))) a (some (.inr (12, [.ref q_32_7, .int (0 : Int32), .int ml, .int (nI (cap + 1))])))) q_32_7 (some (mIc (G.1.1 102) (cap + (cap + 2)) (upd (va_cpy g (fun _ => 0) 0 0 cap) cap ch)))) q_32_7 = some (mIc (G.1.1 102) (cap + (cap + 2)) (upd (va_cpy g (fun _ => 0) 0 0 cap) cap ch)) := va_up_s
  refine lv_goto (tgt := 75) hx hb dJ9_append_42 (by decide) ?_
  refine lv_aload_n hx hb dJ9_append_75 rfl (lv_at hl 0 rfl) ?_
  refine W.widen (k := 1) (n := (cap + (cap + 2))) (by omega) (by omega) ?_
  exact fin (some a) _ H locs ls 76 dJ9_append_76 ⟨q_32_7, z_q_32_7, rfl, rfl⟩ w
set_option maxHeartbeats 4000000 in
set_option maxRecDepth 100000 in
theorem jt_sb_app1 (l : Launch) (G : mg) (A : Nat → Prop) (M1 : mh) (a : Nat) (ch : Int32) (va : Nat) (ml : Int32) (ct : Nat) (cap : Nat) (g : Nat → Int32) (h_a : M1 a = some (.inr (12, [.ref va, .int (0 : Int32), .int ml, .int (nI ct)]))) (h_va : M1 va = some (mIc (G.1.1 102) cap g))  (hct : ct + 1 ≤ cap) (hcap : cap ≤ 1000) (h255 : ¬ (255 : Int32) < ch) (hb8 : ch.toInt8.toInt32 = ch) (hnb : vp_nar .byte ch = ch) : Met l yJ10_append (ws_ yJ10_append cJ10_append 2 (some (.object "java/lang/StringBuilder"))) ({ frames := 2, cells := 0, slots := 0, locals := 43 }) (va_Pc [.ref a, .int ch] (mU G A (fun M => M = M1))) (mQq G A (fun r M => r = some a ∧ M = (va_up (va_up M1 a (some (.inr (12, [.ref va, .int (0 : Int32), .int ml, .int (nI (ct + 1))])))) va (some (mIc (G.1.1 102) cap (upd g ct ch)))))) 0 0 A := by
  refine mx_ofq (Or.inl ⟨_, rfl⟩) (by decide) (Nat.le_of_ble_eq_true rfl) ?_
  intro p e R s m av below meth c M H Q ls X hRf hRl hRc hRs hin eM w fin hl
  subst M
  have X : CallFix p m c cJ10_append 2 s av lw_all "java/lang/StringBuilder" := X
  have hx := X.1
  have hb := X.2.1
  have hl : lv_has ls 2 [(0, .ref a), (1, .int ch)] := hl
  have hRf : R.frames = 2 := hRf
  have hRl : R.locals = 43 := hRl
  have hRc : R.cells = 0 := hRc
  have hRs : R.slots = 0 := hRs
  have n_a_va : a ≠ va := fun e => by rw [e, h_va] at h_a; simp at h_a
  generalize ([] : List Loc) = locs at w ⊢
  refine lv_aload_n hx hb dJ10_append_0 rfl (lv_at hl 0 rfl) ?_
  refine lv_iload_n hx hb dJ10_append_1 rfl (lv_at hl 1 rfl) ?_
  refine mx_bq w (va_runSU (As := [.int ch]) (rest := []) (w.cls0 (ci := 12) rfl).choose_spec X (jt_asb_app1 l G A M1 a ch va ml ct cap g h_a h_va (by first | omega | assumption) (by first | omega | assumption) (by first | omega | assumption) (by first | omega | assumption) (by first | omega | assumption)) (va_cwSU 1 X.2.2.2.2 (lw_SU q1784 q2398 q469 q1785 q109 q1786) rfl rfl rfl (by decide +kernel) ⟨by rw [hRf]; decide, by rw [hRl]; decide⟩) (mx_preV w rfl h_a rfl) rfl rfl hl.1 rfl (lv_room (Nat.le_of_ble_eq_true rfl)) dJ10_append_2 ⟨Nat.zero_le _, Nat.zero_le _⟩) (fun r M9 H locs hp w => ?_)
  obtain ⟨eR, eM⟩ := hp; subst M9; subst eR
  have h_va : (va_up M1 a (some (.inr (12, [.ref va, .int (0 : Int32), .int ml, .int (nI (ct + 1))])))) va = some (mIc (G.1.1 102) cap g) := (va_up_k (by first | assumption | exact Ne.symm (by assumption))).trans h_va
  have h_a : (va_up M1 a (some (.inr (12, [.ref va, .int (0 : Int32), .int ml, .int (nI (ct + 1))])))) a = some (.inr (12, [.ref va, .int (0 : Int32), .int ml, .int (nI (ct + 1))])) := va_up_s
  have h_a : (va_up (va_up M1 a (some (.inr (12, [.ref va, .int (0 : Int32), .int ml, .int (nI (ct + 1))])))) va (some (mIc (G.1.1 102) cap (upd g ct ch)))) a = some (.inr (12, [.ref va, .int (0 : Int32), .int ml, .int (nI (ct + 1))])) := (va_up_k (by first | assumption | exact Ne.symm (by assumption))).trans h_a
  have h_va : (va_up (va_up M1 a (some (.inr (12, [.ref va, .int (0 : Int32), .int ml, .int (nI (ct + 1))])))) va (some (mIc (G.1.1 102) cap (upd g ct ch)))) va = some (mIc (G.1.1 102) cap (upd g ct ch)) := va_up_s
  have w : mW G A s (va_up (va_up M1 a (some (.inr (12, [.ref va, .int (0 : Int32), .int ml, .int (nI (ct + 1))])))) va (some (mIc (G.1.1 102) cap (upd g ct ch)))) H locs := w
  refine lv_pop hx hb dJ10_append_5 rfl ?_
  refine lv_aload_n hx hb dJ10_append_6 rfl (lv_at hl 0 rfl) ?_
  exact fin (some a) _ H locs ls 7 dJ10_append_7 ⟨rfl, rfl⟩ w
set_option maxHeartbeats 4000000 in
set_option maxRecDepth 100000 in
theorem jt_sb_app0 (l : Launch) (G : mg) (A : Nat → Prop) (M1 : mh) (a : Nat) (ch : Int32) (va : Nat) (ml : Int32) (cap : Nat) (g : Nat → Int32) (h_a : M1 a = some (.inr (12, [.ref va, .int (0 : Int32), .int ml, .int (nI cap)]))) (h_va : M1 va = some (mIc (G.1.1 102) cap g))  (hcap : cap ≤ 1000) (hfb : ∀ i, i < cap → fits .byte (.int (g i)) = true) (h255 : ¬ (255 : Int32) < ch) (hb8 : ch.toInt8.toInt32 = ch) (hnb : vp_nar .byte ch = ch) : Met l yJ10_append (ws_ yJ10_append cJ10_append 2 (some (.object "java/lang/StringBuilder"))) ({ frames := 5, cells := 1, slots := (cap + (cap + 2)), locals := 165 }) (va_Pc [.ref a, .int ch] (mU G A (fun M => M = M1))) (mQq G A (fun r M => ∃ q_32_7_2 : Nat, M1 q_32_7_2 = none ∧ r = some a ∧ M = (va_up (va_up (va_up (va_up (va_up M1 q_32_7_2 (some (mIc (G.1.1 102) (cap + (cap + 2)) (fun _ => 0)))) q_32_7_2 (some (mIc (G.1.1 102) (cap + (cap + 2)) (va_cpy g (fun _ => 0) 0 0 cap)))) a (some (.inr (12, [.ref q_32_7_2, .int (0 : Int32), .int ml, .int (nI cap)])))) a (some (.inr (12, [.ref q_32_7_2, .int (0 : Int32), .int ml, .int (nI (cap + 1))])))) q_32_7_2 (some (mIc (G.1.1 102) (cap + (cap + 2)) (upd (va_cpy g (fun _ => 0) 0 0 cap) cap ch)))))) 1 (cap + (cap + 2)) A := by
  refine mx_ofq (Or.inl ⟨_, rfl⟩) (by decide) (Nat.le_of_ble_eq_true rfl) ?_
  intro p e R s m av below meth c M H Q ls X hRf hRl hRc hRs hin eM w fin hl
  subst M
  have X : CallFix p m c cJ10_append 2 s av lw_all "java/lang/StringBuilder" := X
  have hx := X.1
  have hb := X.2.1
  have hl : lv_has ls 2 [(0, .ref a), (1, .int ch)] := hl
  have hRf : R.frames = 5 := hRf
  have hRl : R.locals = 165 := hRl
  have hRc : R.cells = 1 := hRc
  have hRs : R.slots = (cap + (cap + 2)) := hRs
  have n_a_va : a ≠ va := fun e => by rw [e, h_va] at h_a; simp at h_a
  generalize ([] : List Loc) = locs at w ⊢
  refine lv_aload_n hx hb dJ10_append_0 rfl (lv_at hl 0 rfl) ?_
  refine lv_iload_n hx hb dJ10_append_1 rfl (lv_at hl 1 rfl) ?_
  refine mx_bq w (va_runSU (As := [.int ch]) (rest := []) (w.cls0 (ci := 12) rfl).choose_spec X (jt_asb_app0 l G A M1 a ch va ml cap g h_a h_va (by first | omega | assumption) (by first | omega | assumption) (by first | omega | assumption) (by first | omega | assumption) (by first | omega | assumption)) (va_cwSU 1 X.2.2.2.2 (lw_SU q1784 q2398 q469 q1785 q109 q1786) rfl rfl rfl (by decide +kernel) ⟨by rw [hRf]; exact Nat.le_of_ble_eq_true rfl, by rw [hRl]; exact Nat.le_of_ble_eq_true rfl⟩) (mx_preV w rfl h_a rfl) rfl rfl hl.1 rfl (lv_room (Nat.le_of_ble_eq_true rfl)) dJ10_append_2 ⟨by rw [hRc]; omega, by rw [hRs]; omega⟩) (fun r M9 H locs hp w => ?_)
  obtain ⟨q_32_7_2, z_q_32_7_2, eR, eM⟩ := hp; subst M9; subst eR
  have nq_q_32_7_2 := z_q_32_7_2
  have n_q_32_7_2_a : q_32_7_2 ≠ a := fun e => by rw [e, h_a] at nq_q_32_7_2; cases nq_q_32_7_2
  have n_q_32_7_2_va : q_32_7_2 ≠ va := fun e => by rw [e, h_va] at nq_q_32_7_2; cases nq_q_32_7_2
  have z_q_32_7_2 : M1 q_32_7_2 = none := by exact nq_q_32_7_2
  have h_a : (va_up M1 q_32_7_2 (some (mIc (G.1.1 102) (cap + (cap + 2)) (fun _ => 0)))) a = some (.inr (12, [.ref va, .int (0 : Int32), .int ml, .int (nI cap)])) := (va_up_k (by first | assumption | exact Ne.symm (by assumption))).trans h_a
  have h_va : (va_up M1 q_32_7_2 (some (mIc (G.1.1 102) (cap + (cap + 2)) (fun _ => 0)))) va = some (mIc (G.1.1 102) cap g) := (va_up_k (by first | assumption | exact Ne.symm (by assumption))).trans h_va
  have h_q_32_7_2 : (va_up M1 q_32_7_2 (some (mIc (G.1.1 102) (cap + (cap + 2)) (fun _ => 0)))) q_32_7_2 = some (mIc (G.1.1 102) (cap + (cap + 2)) (fun _ => 0)) := va_up_s
  have h_a : (va_up (va_up M1 q_32_7_2 (some (mIc (G.1.1 102) (cap + (cap + 2)) (fun _ => 0)))) q_32_7_2 (some (mIc (G.1.1 102) (cap + (cap + 2)) (va_cpy g (fun _ => 0) 0 0 cap)))) a = some (.inr (12, [.ref va, .int (0 : Int32), .int ml, .int (nI cap)])) := (va_up_k (by first | assumption | exact Ne.symm (by assumption))).trans h_a
  have h_va : (va_up (va_up M1 q_32_7_2 (some (mIc (G.1.1 102) (cap + (cap + 2)) (fun _ => 0)))) q_32_7_2 (some (mIc (G.1.1 102) (cap + (cap + 2)) (va_cpy g (fun _ => 0) 0 0 cap)))) va = some (mIc (G.1.1 102) cap g) := (va_up_k (by first | assumption | exact Ne.symm (by assumption))).trans h_va
  have h_q_32_7_2 : (va_up (va_up M1 q_32_7_2 (some (mIc (G.1.1 102) (cap + (cap + 2)) (fun _ => 0)))) q_32_7_2 (some (mIc (G.1.1 102) (cap + (cap + 2)) (va_cpy g (fun _ => 0) 0 0 cap)))) q_32_7_2 = some (mIc (G.1.1 102) (cap + (cap + 2)) (va_cpy g (fun _ => 0) 0 0 cap)) := va_up_s
  have h_va : (va_up (va_up (va_up M1 q_32_7_2 (some (mIc (G.1.1 102) (cap + (cap + 2)) (fun _ => 0)))) q_32_7_2 (some (mIc (G.1.1 102) (cap + (cap + 2)) (va_cpy g (fun _ => 0) 0 0 cap)))) a (some (.inr (12, [.ref q_32_7_2, .int (0 : Int32), .int ml, .int (nI cap)])))) va = some (mIc (G.1.1 102) cap g) := (va_up_k (by first | assumption | exact Ne.symm (by assumption))).trans h_va
  have h_q_32_7_2 : (va_up (va_up (va_up M1 q_32_7_2 (some (mIc (G.1.1 102) (cap + (cap + 2)) (fun _ => 0)))) q_32_7_2 (some (mIc (G.1.1 102) (cap + (cap + 2)) (va_cpy g (fun _ => 0) 0 0 cap)))) a (some (.inr (12, [.ref q_32_7_2, .int (0 : Int32), .int ml, .int (nI cap)])))) q_32_7_2 = some (mIc (G.1.1 102) (cap + (cap + 2)) (va_cpy g (fun _ => 0) 0 0 cap)) := (va_up_k (by first | assumption | exact Ne.symm (by assumption))).trans h_q_32_7_2
  have h_a : (va_up (va_up (va_up M1 q_32_7_2 (some (mIc (G.1.1 102) (cap + (cap + 2)) (fun _ => 0)))) q_32_7_2 (some (mIc (G.1.1 102) (cap + (cap + 2)) (va_cpy g (fun _ => 0) 0 0 cap)))) a (some (.inr (12, [.ref q_32_7_2, .int (0 : Int32), .int ml, .int (nI cap)])))) a = some (.inr (12, [.ref q_32_7_2, .int (0 : Int32), .int ml, .int (nI cap)])) := va_up_s
  have h_va : (va_up (va_up (va_up (va_up M1 q_32_7_2 (some (mIc (G.1.1 102) (cap + (cap + 2)) (fun _ => 0)))) q_32_7_2 (some (mIc (G.1.1 102) (cap + (cap + 2)) (va_cpy g (fun _ => 0) 0 0 cap)))) a (some (.inr (12, [.ref q_32_7_2, .int (0 : Int32), .int ml, .int (nI cap)])))) a (some (.inr (12, [.ref q_32_7_2, .int (0 : Int32), .int ml, .int (nI (cap + 1))])))) va = some (mIc (G.1.1 102) cap g) := (va_up_k (by first | assumption | exact Ne.symm (by assumption))).trans h_va
  have h_q_32_7_2 : (va_up (va_up (va_up (va_up M1 q_32_7_2 (some (mIc (G.1.1 102) (cap + (cap + 2)) (fun _ => 0)))) q_32_7_2 (some (mIc (G.1.1 102) (cap + (cap + 2)) (va_cpy g (fun _ => 0) 0 0 cap)))) a (some (.inr (12, [.ref q_32_7_2, .int (0 : Int32), .int ml, .int (nI cap)])))) a (some (.inr (12, [.ref q_32_7_2, .int (0 : Int32), .int ml, .int (nI (cap + 1))])))) q_32_7_2 = some (mIc (G.1.1 102) (cap + (cap + 2)) (va_cpy g (fun _ => 0) 0 0 cap)) := (va_up_k (by first | assumption | exact Ne.symm (by assumption))).trans h_q_32_7_2
  have h_a : (va_up (va_up (va_up (va_up M1 q_32_7_2 (some (mIc (G.1.1 102) (cap + (cap + 2)) (fun _ => 0)))) q_32_7_2 (some (mIc (G.1.1 102) (cap + (cap + 2)) (va_cpy g (fun _ => 0) 0 0 cap)))) a (some (.inr (12, [.ref q_32_7_2, .int (0 : Int32), .int ml, .int (nI cap)])))) a (some (.inr (12, [.ref q_32_7_2, .int (0 : Int32), .int ml, .int (nI (cap + 1))])))) a = some (.inr (12, [.ref q_32_7_2, .int (0 : Int32), .int ml, .int (nI (cap + 1))])) := va_up_s
  have h_a : (va_up (va_up (va_up (va_up (va_up M1 q_32_7_2 (some (mIc (G.1.1 102) (cap + (cap + 2)) (fun _ => 0)))) q_32_7_2 (some (mIc (G.1.1 102) (cap + (cap + 2)) (va_cpy g (fun _ => 0) 0 0 cap)))) a (some (.inr (12, [.ref q_32_7_2, .int (0 : Int32), .int ml, .int (nI cap)])))) a (some (.inr (12, [.ref q_32_7_2, .int (0 : Int32), .int ml, .int (nI (cap + 1))])))) q_32_7_2 (some (mIc (G.1.1 102) (cap + (cap + 2)) (upd (va_cpy g (fun _ => 0) 0 0 cap) cap ch)))) a = some (.inr (12, [.ref q_32_7_2, .int (0 : Int32), .int ml, .int (nI (cap + 1))])) := (va_up_k (by first | assumption | exact Ne.symm (by assumption))).trans h_a
  have h_va : (va_up (va_up (va_up (va_up (va_up M1 q_32_7_2 (some (mIc (G.1.1 102) (cap + (cap + 2)) (fun _ => 0)))) q_32_7_2 (some (mIc (G.1.1 102) (cap + (cap + 2)) (va_cpy g (fun _ => 0) 0 0 cap)))) a (some (.inr (12, [.ref q_32_7_2, .int (0 : Int32), .int ml, .int (nI cap)])))) a (some (.inr (12, [.ref q_32_7_2, .int (0 : Int32), .int ml, .int (nI (cap + 1))])))) q_32_7_2 (some (mIc (G.1.1 102) (cap + (cap + 2)) (upd (va_cpy g (fun _ => 0) 0 0 cap) cap ch)))) va = some (mIc (G.1.1 102) cap g) := (va_up_k (by first | assumption | exact Ne.symm (by assumption))).trans h_va
  have h_q_32_7_2 : (va_up (va_up (va_up (va_up (va_up M1 q_32_7_2 (some (mIc (G.1.1 102) (cap + (cap + 2)) (fun _ => 0)))) q_32_7_2 (some (mIc (G.1.1 102) (cap + (cap + 2)) (va_cpy g (fun _ => 0) 0 0 cap)))) a (some (.inr (12, [.ref q_32_7_2, .int (0 : Int32), .int ml, .int (nI cap)])))) a (some (.inr (12, [.ref q_32_7_2, .int (0 : Int32), .int ml, .int (nI (cap + 1))])))) q_32_7_2 (some (mIc (G.1.1 102) (cap + (cap + 2)) (upd (va_cpy g (fun _ => 0) 0 0 cap) cap ch)))) q_32_7_2 = some (mIc (G.1.1 102) (cap + (cap + 2)) (upd (va_cpy g (fun _ => 0) 0 0 cap) cap ch)) := va_up_s
  have w : mW G A s (va_up (va_up (va_up (va_up (va_up M1 q_32_7_2 (some (mIc (G.1.1 102) (cap + (cap + 2)) (fun _ => 0)))) q_32_7_2 (some (mIc (G.1.1 102) (cap + (cap + 2)) (va_cpy g (fun _ => 0) 0 0 cap)))) a (some (.inr (12, [.ref q_32_7_2, .int (0 : Int32), .int ml, .int (nI cap)])))) a (some (.inr (12, [.ref q_32_7_2, .int (0 : Int32), .int ml, .int (nI (cap + 1))])))) q_32_7_2 (some (mIc (G.1.1 102) (cap + (cap + 2)) (upd (va_cpy g (fun _ => 0) 0 0 cap) cap ch)))) H locs := w
  refine lv_pop hx hb dJ10_append_5 rfl ?_
  refine lv_aload_n hx hb dJ10_append_6 rfl (lv_at hl 0 rfl) ?_
  refine W.widen (k := 1) (n := (cap + (cap + 2))) (by omega) (by omega) ?_
  exact fin (some a) _ H locs ls 7 dJ10_append_7 ⟨q_32_7_2, z_q_32_7_2, rfl, rfl⟩ w
set_option maxHeartbeats 4000000 in
set_option maxRecDepth 100000 in
theorem jt_str_ck (l : Launch) (G : mg) (A : Nat → Prop) (M1 : mh) (k : Nat) (n : Nat)    (hk : k < n) (hn : n < 2 ^ 31) : Met l yJ11_checkIndex (ws_ yJ11_checkIndex cJ11_checkIndex 2 (none)) ({ frames := 1, cells := 0, slots := 0, locals := 22 }) (va_Pc [.int (nI k), .int (nI n)] (mU G A (fun M => M = M1))) (mQv G A (fun M => M = M1)) 0 0 A := by
  refine mx_ofv (by decide) (Nat.le_of_ble_eq_true rfl) ?_
  intro p e R s m av below meth c M H Q ls X hRf hRl hRc hRs hin eM w fin hl
  subst M
  have X : CallFix p m c cJ11_checkIndex 2 s av lw_all "java/lang/String" := X
  have hx := X.1
  have hb := X.2.1
  have hl : lv_has ls 2 [(0, .int (nI k)), (1, .int (nI n))] := hl
  have hRf : R.frames = 1 := hRf
  have hRl : R.locals = 22 := hRl
  have hRc : R.cells = 0 := hRc
  have hRs : R.slots = 0 := hRs
  generalize ([] : List Loc) = locs at w ⊢
  refine lv_iload_n hx hb dJ11_checkIndex_0 rfl (lv_at hl 0 rfl) ?_
  refine lv_iload_n hx hb dJ11_checkIndex_1 rfl (lv_at hl 1 rfl) ?_
  refine mx_gets (v := va_rf (kcO G)) X w (C := "jdk/internal/util/Preconditions") (by simp [kcZ]) q1238 (fun _ h => h) dJ11_checkIndex_2 ?_
  refine mx_bi w (va_runS (As := [.int (nI k), .int (nI n), va_rf (kcO G)]) (rest := []) X (jt_pre_ckS l G A M1 k n  (by first | omega | assumption) (by first | omega | assumption)) (va_cwS 3 X.2.2.2.2 (lw_S q1839 q255 q107 q256) rfl rfl rfl (by decide +kernel) ⟨by rw [hRf]; decide, by rw [hRl]; decide⟩) (mx_preS w rfl) rfl rfl hl.1 rfl (lv_room (Nat.le_of_ble_eq_true rfl)) dJ11_checkIndex_5 ⟨Nat.zero_le _, Nat.zero_le _⟩) (fun r M9 H locs hp w => ?_)
  obtain ⟨eR, eM⟩ := hp; subst M9; subst eR
  refine lv_pop hx hb dJ11_checkIndex_8 rfl ?_
  exact fin _ H locs ls 9 dJ11_checkIndex_9 rfl w
set_option maxHeartbeats 4000000 in
set_option maxRecDepth 100000 in
theorem jt_asb_chr (l : Launch) (G : mg) (A : Nat → Prop) (M1 : mh) (a : Nat) (k : Nat) (va : Nat) (ml : Int32) (ct : Nat) (cap : Nat) (g : Nat → Int32) (h_a : M1 a = some (.inr (12, [.ref va, .int (0 : Int32), .int ml, .int (nI ct)]))) (h_va : M1 va = some (mIc (G.1.1 102) cap g))  (hk : k < ct) (hct : ct ≤ cap) (hcap : cap ≤ 1000) (hgc : ((g k &&& 255).toUInt32 % 65536).toInt32 = g k) (hgn : narrow .char (.int (g k)) = .int (g k)) : Met l yJ9_charAt (ws_ yJ9_charAt cJ9_charAt 5 (some .char)) ({ frames := 2, cells := 0, slots := 0, locals := 43 }) (va_Pc [.ref a, .int (nI k)] (mU G A (fun M => M = M1))) (mQi G A (fun r M => r = g k ∧ M = M1)) 0 0 A := by
  refine mx_ofx (fun v M hp => by obtain ⟨rfl, _⟩ := hp; exact hgn) (by decide) (Nat.le_of_ble_eq_true rfl) ?_
  intro p e R s m av below meth c M H Q ls X hRf hRl hRc hRs hin eM w fin hl
  subst M
  have X : CallFix p m c cJ9_charAt 5 s av lw_all "java/lang/AbstractStringBuilder" := X
  have hx := X.1
  have hb := X.2.1
  have hl : lv_has ls 5 [(0, .ref a), (1, .int (nI k))] := hl
  have hRf : R.frames = 2 := hRf
  have hRl : R.locals = 43 := hRl
  have hRc : R.cells = 0 := hRc
  have hRs : R.slots = 0 := hRs
  have n_a_va : a ≠ va := fun e => by rw [e, h_va] at h_a; simp at h_a
  generalize ([] : List Loc) = locs at w ⊢
  refine lv_aload_n hx hb dJ9_charAt_0 rfl (lv_at hl 0 rfl) ?_
  refine mx_get (T := TJ10) (v := .int (0 : Int32)) X w in_J10 (ci := 12) rfl 1 (by decide) q458 (fun _ h => h) h_a rfl dJ9_charAt_1 ?_
  refine lv_istore_n (lv' := [(2, .int (0 : Int32)), (0, .ref a), (1, .int (nI k))]) hx hb dJ9_charAt_4 rfl hl (by decide) rfl (fun ls hl => ?_)
  refine lv_aload_n hx hb dJ9_charAt_5 rfl (lv_at hl 1 rfl) ?_
  refine mx_get (T := TJ10) (v := .ref va) X w in_J10 (ci := 12) rfl 0 (by decide) q457 (fun _ h => h) h_a rfl dJ9_charAt_6 ?_
  refine lv_astore_n (lv' := [(3, .ref va), (2, .int (0 : Int32)), (0, .ref a), (1, .int (nI k))]) hx hb dJ9_charAt_9 rfl hl (by decide) rfl (fun ls hl => ?_)
  refine lv_aload_n hx hb dJ9_charAt_10 rfl (lv_at hl 2 rfl) ?_
  refine mx_get (T := TJ10) (v := .int (nI ct)) X w in_J10 (ci := 12) rfl 3 (by decide) q460 (fun _ h => h) h_a rfl dJ9_charAt_11 ?_
  refine lv_aload_n hx hb dJ9_charAt_14 rfl (lv_at hl 0 rfl) ?_
  refine mx_alen X w 2 h_va rfl dJ9_charAt_15 ?_
  refine lv_iload_n hx hb dJ9_charAt_16 rfl (lv_at hl 1 rfl) ?_
  refine lv_ishr hx hb dJ9_charAt_17 ?_
  refine mx_cast (z := nI (cap)) (sx_shr0) ?_
  refine va_mmin hx hb (X.2.2.1.trans hl.1.symm) X.2.2.2.1 (X.2.2.2.2 _ q1919) (X.2.2.2.2 _ q729) (X.2.2.2.2 _ q120) (X.2.2.2.2 _ q730) (by rw [hRf]; decide) (by rw [hRl]; exact Nat.le_of_ble_eq_true rfl) (Nat.zero_le _) (Nat.zero_le _) dJ9_charAt_18 ?_
  refine mx_cast (z := (jmin (nI ct) (nI cap))) rfl ?_
  refine mx_cast (z := nI (ct)) (jmin_n2 hct (by omega)) ?_
  refine lv_istore (lv' := [(4, .int (nI ct)), (3, .ref va), (2, .int (0 : Int32)), (0, .ref a), (1, .int (nI k))]) hx hb dJ9_charAt_21 hl (by decide) rfl (fun ls hl => ?_)
  refine lv_iload_n hx hb dJ9_charAt_23 rfl (lv_at hl 4 rfl) ?_
  refine lv_iload hx hb dJ9_charAt_24 (lv_at hl 0 rfl) ?_
  refine mx_bv w (va_runS (As := [.int (nI k), .int (nI ct)]) (rest := []) X (jt_str_ck l G A M1 k ct  (by first | omega | assumption) (by first | omega | assumption)) (va_cwS 2 X.2.2.2.2 (lw_S q1920 q1837 q111 q1838) rfl rfl rfl (by decide +kernel) ⟨by rw [hRf]; decide, by rw [hRl]; decide⟩) (mx_preS w rfl) rfl rfl hl.1 rfl (lv_room (Nat.le_of_ble_eq_true rfl)) dJ9_charAt_26 ⟨Nat.zero_le _, Nat.zero_le _⟩) (fun M9 H locs hp w => ?_)
  have eM := hp; subst M9
  refine lv_iload_n hx hb dJ9_charAt_29 rfl (lv_at hl 2 rfl) ?_
  refine lv_if_ne (tgt := 42) hx hb dJ9_charAt_30 (by decide) (fun c_30 => absurd (by decide) c_30) (fun c_30 => ?_)
  refine lv_aload_n hx hb dJ9_charAt_33 rfl (lv_at hl 1 rfl) ?_
  refine lv_iload_n hx hb dJ9_charAt_34 rfl (lv_at hl 4 rfl) ?_
  refine mx_bald X w h_va k (by first | omega | decide) (by omega) dJ9_charAt_35 ?_
  refine lv_sipush (v := (255 : Int32)) hx hb dJ9_charAt_36 (by decide) ?_
  refine lv_iand hx hb dJ9_charAt_39 ?_
  refine lv_i2c hx hb dJ9_charAt_40 rfl ?_
  refine mx_cast (z := g k) (hgc) ?_
  exact fin (g k) _ H locs ls 41 dJ9_charAt_41 ⟨rfl, rfl⟩ w
set_option maxHeartbeats 4000000 in
set_option maxRecDepth 100000 in
theorem jt_sb_chr (l : Launch) (G : mg) (A : Nat → Prop) (M1 : mh) (a : Nat) (k : Nat) (va : Nat) (ml : Int32) (ct : Nat) (cap : Nat) (g : Nat → Int32) (h_a : M1 a = some (.inr (12, [.ref va, .int (0 : Int32), .int ml, .int (nI ct)]))) (h_va : M1 va = some (mIc (G.1.1 102) cap g))  (hk : k < ct) (hct : ct ≤ cap) (hcap : cap ≤ 1000) (hgc : ((g k &&& 255).toUInt32 % 65536).toInt32 = g k) (hgn : narrow .char (.int (g k)) = .int (g k)) : Met l yJ10_charAt (ws_ yJ10_charAt cJ10_charAt 2 (some .char)) ({ frames := 3, cells := 0, slots := 0, locals := 67 }) (va_Pc [.ref a, .int (nI k)] (mU G A (fun M => M = M1))) (mQi G A (fun r M => r = g k ∧ M = M1)) 0 0 A := by
  refine mx_ofx (fun v M hp => by obtain ⟨rfl, _⟩ := hp; exact hgn) (by decide) (Nat.le_of_ble_eq_true rfl) ?_
  intro p e R s m av below meth c M H Q ls X hRf hRl hRc hRs hin eM w fin hl
  subst M
  have X : CallFix p m c cJ10_charAt 2 s av lw_all "java/lang/StringBuilder" := X
  have hx := X.1
  have hb := X.2.1
  have hl : lv_has ls 2 [(0, .ref a), (1, .int (nI k))] := hl
  have hRf : R.frames = 3 := hRf
  have hRl : R.locals = 67 := hRl
  have hRc : R.cells = 0 := hRc
  have hRs : R.slots = 0 := hRs
  have n_a_va : a ≠ va := fun e => by rw [e, h_va] at h_a; simp at h_a
  generalize ([] : List Loc) = locs at w ⊢
  refine lv_aload_n hx hb dJ10_charAt_0 rfl (lv_at hl 0 rfl) ?_
  refine lv_iload_n hx hb dJ10_charAt_1 rfl (lv_at hl 1 rfl) ?_
  refine mx_bi w (va_runSU (As := [.int (nI k)]) (rest := []) (w.cls0 (ci := 12) rfl).choose_spec X (jt_asb_chr l G A M1 a k va ml ct cap g h_a h_va (by first | omega | assumption) (by first | omega | assumption) (by first | omega | assumption) (by first | omega | assumption) (by first | omega | assumption)) (va_cwSU 1 X.2.2.2.2 (lw_SU q1916 q2403 q469 q1917 q109 q1918) rfl rfl rfl (by decide +kernel) ⟨by rw [hRf]; decide, by rw [hRl]; decide⟩) (mx_preV w rfl h_a rfl) rfl rfl hl.1 rfl (lv_room (Nat.le_of_ble_eq_true rfl)) dJ10_charAt_2 ⟨Nat.zero_le _, Nat.zero_le _⟩) (fun r M9 H locs hp w => ?_)
  obtain ⟨eR, eM⟩ := hp; subst M9; subst eR
  exact fin (g k) _ H locs ls 5 dJ10_charAt_5 ⟨rfl, rfl⟩ w
set_option maxHeartbeats 4000000 in
set_option maxRecDepth 100000 in
theorem jt_asb_setl1 (l : Launch) (G : mg) (A : Nat → Prop) (M1 : mh) (a : Nat) (va : Nat) (ml : Int32) (ct : Nat) (cap : Nat) (g : Nat → Int32) (h_a : M1 a = some (.inr (12, [.ref va, .int (0 : Int32), .int ml, .int (nI ct)]))) (h_va : M1 va = some (mIc (G.1.1 102) cap g))  (h0 : 0 < ct) (hct : ct ≤ cap) (hcap : cap ≤ 1000) : Met l yJ9_setLength (ws_ yJ9_setLength cJ9_setLength 2 (none)) ({ frames := 1, cells := 0, slots := 0, locals := 22 }) (va_Pc [.ref a, .int (0 : Int32)] (mU G A (fun M => M = M1))) (mQv G A (fun M => M = (va_up (va_up M1 a (some (.inr (12, [.ref va, .int (0 : Int32), .int (1 : Int32), .int (nI ct)])))) a (some (.inr (12, [.ref va, .int (0 : Int32), .int (1 : Int32), .int (0 : Int32)])))))) 0 0 A := by
  refine mx_ofv (by decide) (Nat.le_of_ble_eq_true rfl) ?_
  intro p e R s m av below meth c M H Q ls X hRf hRl hRc hRs hin eM w fin hl
  subst M
  have X : CallFix p m c cJ9_setLength 2 s av lw_all "java/lang/AbstractStringBuilder" := X
  have hx := X.1
  have hb := X.2.1
  have hl : lv_has ls 2 [(0, .ref a), (1, .int (0 : Int32))] := hl
  have hRf : R.frames = 1 := hRf
  have hRl : R.locals = 22 := hRl
  have hRc : R.cells = 0 := hRc
  have hRs : R.slots = 0 := hRs
  have n_a_va : a ≠ va := fun e => by rw [e, h_va] at h_a; simp at h_a
  generalize ([] : List Loc) = locs at w ⊢
  refine lv_iload_n hx hb dJ9_setLength_0 rfl (lv_at hl 1 rfl) ?_
  refine lv_if_ge (tgt := 13) hx hb dJ9_setLength_1 (by decide) (fun c_1 => ?_) (fun c_1 => absurd (by decide) c_1)
  refine lv_aload_n hx hb dJ9_setLength_13 rfl (lv_at hl 0 rfl) ?_
  refine lv_iload_n hx hb dJ9_setLength_14 rfl (lv_at hl 1 rfl) ?_
  refine mx_bv w (va_runP (As := [.int (nI 0)]) (rest := []) 1 X (jt_asb_ens1 l G A M1 a 0 va ml ct cap g h_a h_va (by first | omega | assumption) (by first | omega | assumption)) q1787 q2399 q1789 q109 q1790 (w.tblB (args := av) q1788 rfl rfl) (by decide +kernel) rfl rfl ⟨by rw [hRf]; decide, by rw [hRl]; decide⟩ (mx_preV w rfl h_a rfl) rfl rfl hl.1 rfl (lv_room (Nat.le_of_ble_eq_true rfl)) dJ9_setLength_15 ⟨Nat.zero_le _, Nat.zero_le _⟩) (fun M9 H locs hp w => ?_)
  have eM := hp; subst M9
  refine lv_aload_n hx hb dJ9_setLength_18 rfl (lv_at hl 0 rfl) ?_
  refine mx_get (T := TJ10) (v := .int (nI ct)) X w in_J10 (ci := 12) rfl 3 (by decide) q460 (fun _ h => h) h_a rfl dJ9_setLength_19 ?_
  refine lv_iload_n hx hb dJ9_setLength_22 rfl (lv_at hl 1 rfl) ?_
  refine mx_nge (u := ct) (v := 0) (tgt := 63) hx hb rfl rfl (by omega) (by omega) dJ9_setLength_23 (by decide) (fun c_23 => ?_) (fun c_23 => absurd (Nat.zero_le _) c_23)
  refine lv_aload_n hx hb dJ9_setLength_63 rfl (lv_at hl 0 rfl) ?_
  refine mx_get (T := TJ10) (v := .int (nI ct)) X w in_J10 (ci := 12) rfl 3 (by decide) q460 (fun _ h => h) h_a rfl dJ9_setLength_64 ?_
  refine lv_iload_n hx hb dJ9_setLength_67 rfl (lv_at hl 1 rfl) ?_
  refine mx_nle (u := ct) (v := 0) (tgt := 76) hx hb rfl rfl (by omega) (by omega) dJ9_setLength_68 (by decide) (fun c_68 => absurd c_68 (by omega)) (fun c_68 => ?_)
  refine lv_aload_n hx hb dJ9_setLength_71 rfl (lv_at hl 0 rfl) ?_
  refine lv_iconst (v := (1 : Int32)) hx hb dJ9_setLength_72 (by decide) ?_
  refine mx_put (T := TJ10) X w in_J10 tyJ10 tyJ10_ok nmJ10 (ci := 12) rfl 2 (by decide) q459 (fun _ h => h) rfl (v := .int (1 : Int32)) rfl rfl h_a (show 2 < 4 by decide) dJ9_setLength_73 (fun H locs w => ?_)
  have w : mW G A s (va_up M1 a (some (.inr (12, [.ref va, .int (0 : Int32), .int (1 : Int32), .int (nI ct)])))) H locs := w
  have h_va : (va_up M1 a (some (.inr (12, [.ref va, .int (0 : Int32), .int (1 : Int32), .int (nI ct)])))) va = some (mIc (G.1.1 102) cap g) := (va_up_k (by first | assumption | exact Ne.symm (by assumption))).trans h_va
  have h_a : (va_up M1 a (some (.inr (12, [.ref va, .int (0 : Int32), .int (1 : Int32), .int (nI ct)])))) a = some (.inr (12, [.ref va, .int (0 : Int32), .int (1 : Int32), .int (nI ct)])) := va_up_s
  refine lv_aload_n hx hb dJ9_setLength_76 rfl (lv_at hl 0 rfl) ?_
  refine lv_iload_n hx hb dJ9_setLength_77 rfl (lv_at hl 1 rfl) ?_
  refine mx_put (T := TJ10) X w in_J10 tyJ10 tyJ10_ok nmJ10 (ci := 12) rfl 3 (by decide) q460 (fun _ h => h) rfl (v := .int (0 : Int32)) rfl rfl h_a (show 3 < 4 by decide) dJ9_setLength_78 (fun H locs w => ?_)
  have w : mW G A s (va_up (va_up M1 a (some (.inr (12, [.ref va, .int (0 : Int32), .int (1 : Int32), .int (nI ct)])))) a (some (.inr (12, [.ref va, .int (0 : Int32), .int (1 : Int32), .int (0 : Int32)])))) H locs := w
  have h_va : (va_up (va_up M1 a (some (.inr (12, [.ref va, .int (0 : Int32), .int (1 : Int32), .int (nI ct)])))) a (some (.inr (12, [.ref va, .int (0 : Int32), .int (1 : Int32), .int (0 : Int32)])))) va = some (mIc (G.1.1 102) cap g) := (va_up_k (by first | assumption | exact Ne.symm (by assumption))).trans h_va
  have h_a : (va_up (va_up M1 a (some (.inr (12, [.ref va, .int (0 : Int32), .int (1 : Int32), .int (nI ct)])))) a (some (.inr (12, [.ref va, .int (0 : Int32), .int (1 : Int32), .int (0 : Int32)])))) a = some (.inr (12, [.ref va, .int (0 : Int32), .int (1 : Int32), .int (0 : Int32)])) := va_up_s
  exact fin _ H locs ls 81 dJ9_setLength_81 rfl w
set_option maxHeartbeats 4000000 in
set_option maxRecDepth 100000 in
theorem jt_asb_setl0 (l : Launch) (G : mg) (A : Nat → Prop) (M1 : mh) (a : Nat) (va : Nat) (ml : Int32) (ct : Nat) (cap : Nat) (g : Nat → Int32) (h_a : M1 a = some (.inr (12, [.ref va, .int (0 : Int32), .int ml, .int (nI ct)]))) (h_va : M1 va = some (mIc (G.1.1 102) cap g))  (h0 : ct = 0) (hct : ct ≤ cap) (hcap : cap ≤ 1000) : Met l yJ9_setLength (ws_ yJ9_setLength cJ9_setLength 2 (none)) ({ frames := 1, cells := 0, slots := 0, locals := 22 }) (va_Pc [.ref a, .int (0 : Int32)] (mU G A (fun M => M = M1))) (mQv G A (fun M => M = (va_up M1 a (some (.inr (12, [.ref va, .int (0 : Int32), .int ml, .int (0 : Int32)])))))) 0 0 A := by
  refine mx_ofv (by decide) (Nat.le_of_ble_eq_true rfl) ?_
  intro p e R s m av below meth c M H Q ls X hRf hRl hRc hRs hin eM w fin hl
  subst M
  have X : CallFix p m c cJ9_setLength 2 s av lw_all "java/lang/AbstractStringBuilder" := X
  have hx := X.1
  have hb := X.2.1
  have hl : lv_has ls 2 [(0, .ref a), (1, .int (0 : Int32))] := hl
  have hRf : R.frames = 1 := hRf
  have hRl : R.locals = 22 := hRl
  have hRc : R.cells = 0 := hRc
  have hRs : R.slots = 0 := hRs
  have n_a_va : a ≠ va := fun e => by rw [e, h_va] at h_a; simp at h_a
  generalize ([] : List Loc) = locs at w ⊢
  refine lv_iload_n hx hb dJ9_setLength_0 rfl (lv_at hl 1 rfl) ?_
  refine lv_if_ge (tgt := 13) hx hb dJ9_setLength_1 (by decide) (fun c_1 => ?_) (fun c_1 => absurd (by decide) c_1)
  refine lv_aload_n hx hb dJ9_setLength_13 rfl (lv_at hl 0 rfl) ?_
  refine lv_iload_n hx hb dJ9_setLength_14 rfl (lv_at hl 1 rfl) ?_
  refine mx_bv w (va_runP (As := [.int (nI 0)]) (rest := []) 1 X (jt_asb_ens1 l G A M1 a 0 va ml ct cap g h_a h_va (by first | omega | assumption) (by first | omega | assumption)) q1787 q2399 q1789 q109 q1790 (w.tblB (args := av) q1788 rfl rfl) (by decide +kernel) rfl rfl ⟨by rw [hRf]; decide, by rw [hRl]; decide⟩ (mx_preV w rfl h_a rfl) rfl rfl hl.1 rfl (lv_room (Nat.le_of_ble_eq_true rfl)) dJ9_setLength_15 ⟨Nat.zero_le _, Nat.zero_le _⟩) (fun M9 H locs hp w => ?_)
  have eM := hp; subst M9
  refine lv_aload_n hx hb dJ9_setLength_18 rfl (lv_at hl 0 rfl) ?_
  refine mx_get (T := TJ10) (v := .int (nI ct)) X w in_J10 (ci := 12) rfl 3 (by decide) q460 (fun _ h => h) h_a rfl dJ9_setLength_19 ?_
  refine lv_iload_n hx hb dJ9_setLength_22 rfl (lv_at hl 1 rfl) ?_
  refine mx_nge (u := ct) (v := 0) (tgt := 63) hx hb rfl rfl (by omega) (by omega) dJ9_setLength_23 (by decide) (fun c_23 => ?_) (fun c_23 => absurd (Nat.zero_le _) c_23)
  refine lv_aload_n hx hb dJ9_setLength_63 rfl (lv_at hl 0 rfl) ?_
  refine mx_get (T := TJ10) (v := .int (nI ct)) X w in_J10 (ci := 12) rfl 3 (by decide) q460 (fun _ h => h) h_a rfl dJ9_setLength_64 ?_
  refine lv_iload_n hx hb dJ9_setLength_67 rfl (lv_at hl 1 rfl) ?_
  refine mx_nle (u := ct) (v := 0) (tgt := 76) hx hb rfl rfl (by omega) (by omega) dJ9_setLength_68 (by decide) (fun c_68 => ?_) (fun c_68 => absurd (by omega) c_68)
  refine lv_aload_n hx hb dJ9_setLength_76 rfl (lv_at hl 0 rfl) ?_
  refine lv_iload_n hx hb dJ9_setLength_77 rfl (lv_at hl 1 rfl) ?_
  refine mx_put (T := TJ10) X w in_J10 tyJ10 tyJ10_ok nmJ10 (ci := 12) rfl 3 (by decide) q460 (fun _ h => h) rfl (v := .int (0 : Int32)) rfl rfl h_a (show 3 < 4 by decide) dJ9_setLength_78 (fun H locs w => ?_)
  have w : mW G A s (va_up M1 a (some (.inr (12, [.ref va, .int (0 : Int32), .int ml, .int (0 : Int32)])))) H locs := w
  have h_va : (va_up M1 a (some (.inr (12, [.ref va, .int (0 : Int32), .int ml, .int (0 : Int32)])))) va = some (mIc (G.1.1 102) cap g) := (va_up_k (by first | assumption | exact Ne.symm (by assumption))).trans h_va
  have h_a : (va_up M1 a (some (.inr (12, [.ref va, .int (0 : Int32), .int ml, .int (0 : Int32)])))) a = some (.inr (12, [.ref va, .int (0 : Int32), .int ml, .int (0 : Int32)])) := va_up_s
  exact fin _ H locs ls 81 dJ9_setLength_81 rfl w
set_option maxHeartbeats 4000000 in
set_option maxRecDepth 100000 in
theorem jt_sb_setl1 (l : Launch) (G : mg) (A : Nat → Prop) (M1 : mh) (a : Nat) (va : Nat) (ml : Int32) (ct : Nat) (cap : Nat) (g : Nat → Int32) (h_a : M1 a = some (.inr (12, [.ref va, .int (0 : Int32), .int ml, .int (nI ct)]))) (h_va : M1 va = some (mIc (G.1.1 102) cap g))  (h0 : 0 < ct) (hct : ct ≤ cap) (hcap : cap ≤ 1000) : Met l yJ10_setLength (ws_ yJ10_setLength cJ10_setLength 2 (none)) ({ frames := 2, cells := 0, slots := 0, locals := 43 }) (va_Pc [.ref a, .int (0 : Int32)] (mU G A (fun M => M = M1))) (mQv G A (fun M => M = (va_up (va_up M1 a (some (.inr (12, [.ref va, .int (0 : Int32), .int (1 : Int32), .int (nI ct)])))) a (some (.inr (12, [.ref va, .int (0 : Int32), .int (1 : Int32), .int (0 : Int32)])))))) 0 0 A := by
  refine mx_ofv (by decide) (Nat.le_of_ble_eq_true rfl) ?_
  intro p e R s m av below meth c M H Q ls X hRf hRl hRc hRs hin eM w fin hl
  subst M
  have X : CallFix p m c cJ10_setLength 2 s av lw_all "java/lang/StringBuilder" := X
  have hx := X.1
  have hb := X.2.1
  have hl : lv_has ls 2 [(0, .ref a), (1, .int (0 : Int32))] := hl
  have hRf : R.frames = 2 := hRf
  have hRl : R.locals = 43 := hRl
  have hRc : R.cells = 0 := hRc
  have hRs : R.slots = 0 := hRs
  have n_a_va : a ≠ va := fun e => by rw [e, h_va] at h_a; simp at h_a
  generalize ([] : List Loc) = locs at w ⊢
  refine lv_aload_n hx hb dJ10_setLength_0 rfl (lv_at hl 0 rfl) ?_
  refine lv_iload_n hx hb dJ10_setLength_1 rfl (lv_at hl 1 rfl) ?_
  refine mx_bv w (va_runSU (As := [.int (0 : Int32)]) (rest := []) (w.cls0 (ci := 12) rfl).choose_spec X (jt_asb_setl1 l G A M1 a va ml ct cap g h_a h_va (by first | omega | assumption) (by first | omega | assumption) (by first | omega | assumption)) (va_cwSU 1 X.2.2.2.2 (lw_SU q1848 q2402 q469 q1849 q109 q1850) rfl rfl rfl (by decide +kernel) ⟨by rw [hRf]; decide, by rw [hRl]; decide⟩) (mx_preV w rfl h_a rfl) rfl rfl hl.1 rfl (lv_room (Nat.le_of_ble_eq_true rfl)) dJ10_setLength_2 ⟨Nat.zero_le _, Nat.zero_le _⟩) (fun M9 H locs hp w => ?_)
  have eM := hp; subst M9
  have h_va : (va_up M1 a (some (.inr (12, [.ref va, .int (0 : Int32), .int (1 : Int32), .int (nI ct)])))) va = some (mIc (G.1.1 102) cap g) := (va_up_k (by first | assumption | exact Ne.symm (by assumption))).trans h_va
  have h_a : (va_up M1 a (some (.inr (12, [.ref va, .int (0 : Int32), .int (1 : Int32), .int (nI ct)])))) a = some (.inr (12, [.ref va, .int (0 : Int32), .int (1 : Int32), .int (nI ct)])) := va_up_s
  have h_va : (va_up (va_up M1 a (some (.inr (12, [.ref va, .int (0 : Int32), .int (1 : Int32), .int (nI ct)])))) a (some (.inr (12, [.ref va, .int (0 : Int32), .int (1 : Int32), .int (0 : Int32)])))) va = some (mIc (G.1.1 102) cap g) := (va_up_k (by first | assumption | exact Ne.symm (by assumption))).trans h_va
  have h_a : (va_up (va_up M1 a (some (.inr (12, [.ref va, .int (0 : Int32), .int (1 : Int32), .int (nI ct)])))) a (some (.inr (12, [.ref va, .int (0 : Int32), .int (1 : Int32), .int (0 : Int32)])))) a = some (.inr (12, [.ref va, .int (0 : Int32), .int (1 : Int32), .int (0 : Int32)])) := va_up_s
  have w : mW G A s (va_up (va_up M1 a (some (.inr (12, [.ref va, .int (0 : Int32), .int (1 : Int32), .int (nI ct)])))) a (some (.inr (12, [.ref va, .int (0 : Int32), .int (1 : Int32), .int (0 : Int32)])))) H locs := w
  exact fin _ H locs ls 5 dJ10_setLength_5 rfl w
set_option maxHeartbeats 4000000 in
set_option maxRecDepth 100000 in
theorem jt_sb_setl0 (l : Launch) (G : mg) (A : Nat → Prop) (M1 : mh) (a : Nat) (va : Nat) (ml : Int32) (ct : Nat) (cap : Nat) (g : Nat → Int32) (h_a : M1 a = some (.inr (12, [.ref va, .int (0 : Int32), .int ml, .int (nI ct)]))) (h_va : M1 va = some (mIc (G.1.1 102) cap g))  (h0 : ct = 0) (hct : ct ≤ cap) (hcap : cap ≤ 1000) : Met l yJ10_setLength (ws_ yJ10_setLength cJ10_setLength 2 (none)) ({ frames := 2, cells := 0, slots := 0, locals := 43 }) (va_Pc [.ref a, .int (0 : Int32)] (mU G A (fun M => M = M1))) (mQv G A (fun M => M = (va_up M1 a (some (.inr (12, [.ref va, .int (0 : Int32), .int ml, .int (0 : Int32)])))))) 0 0 A := by
  refine mx_ofv (by decide) (Nat.le_of_ble_eq_true rfl) ?_
  intro p e R s m av below meth c M H Q ls X hRf hRl hRc hRs hin eM w fin hl
  subst M
  have X : CallFix p m c cJ10_setLength 2 s av lw_all "java/lang/StringBuilder" := X
  have hx := X.1
  have hb := X.2.1
  have hl : lv_has ls 2 [(0, .ref a), (1, .int (0 : Int32))] := hl
  have hRf : R.frames = 2 := hRf
  have hRl : R.locals = 43 := hRl
  have hRc : R.cells = 0 := hRc
  have hRs : R.slots = 0 := hRs
  have n_a_va : a ≠ va := fun e => by rw [e, h_va] at h_a; simp at h_a
  generalize ([] : List Loc) = locs at w ⊢
  refine lv_aload_n hx hb dJ10_setLength_0 rfl (lv_at hl 0 rfl) ?_
  refine lv_iload_n hx hb dJ10_setLength_1 rfl (lv_at hl 1 rfl) ?_
  refine mx_bv w (va_runSU (As := [.int (0 : Int32)]) (rest := []) (w.cls0 (ci := 12) rfl).choose_spec X (jt_asb_setl0 l G A M1 a va ml ct cap g h_a h_va (by first | omega | assumption) (by first | omega | assumption) (by first | omega | assumption)) (va_cwSU 1 X.2.2.2.2 (lw_SU q1848 q2402 q469 q1849 q109 q1850) rfl rfl rfl (by decide +kernel) ⟨by rw [hRf]; decide, by rw [hRl]; decide⟩) (mx_preV w rfl h_a rfl) rfl rfl hl.1 rfl (lv_room (Nat.le_of_ble_eq_true rfl)) dJ10_setLength_2 ⟨Nat.zero_le _, Nat.zero_le _⟩) (fun M9 H locs hp w => ?_)
  have eM := hp; subst M9
  have h_va : (va_up M1 a (some (.inr (12, [.ref va, .int (0 : Int32), .int ml, .int (0 : Int32)])))) va = some (mIc (G.1.1 102) cap g) := (va_up_k (by first | assumption | exact Ne.symm (by assumption))).trans h_va
  have h_a : (va_up M1 a (some (.inr (12, [.ref va, .int (0 : Int32), .int ml, .int (0 : Int32)])))) a = some (.inr (12, [.ref va, .int (0 : Int32), .int ml, .int (0 : Int32)])) := va_up_s
  have w : mW G A s (va_up M1 a (some (.inr (12, [.ref va, .int (0 : Int32), .int ml, .int (0 : Int32)])))) H locs := w
  exact fin _ H locs ls 5 dJ10_setLength_5 rfl w
set_option maxHeartbeats 4000000 in
set_option maxRecDepth 100000 in
theorem jt_op_init (l : Launch) (G : mg) (A : Nat → Prop) (M1 : mh) (a : Nat) (x : Nat)  (h_a : M1 a = some (.inr (18, [.null])))   : Met l yJ26_init (ws_ yJ26_init cJ26_init 2 (none)) ({ frames := 1, cells := 0, slots := 0, locals := 12 }) (va_Pc [.ref a, .ref x] (mU G A (fun M => M = M1))) (mQv G A (fun M => M = (va_up M1 a (some (.inr (18, [.ref x])))))) 0 0 A := by
  refine mx_ofv (by decide) (Nat.le_of_ble_eq_true rfl) ?_
  intro p e R s m av below meth c M H Q ls X hRf hRl hRc hRs hin eM w fin hl
  subst M
  have X : CallFix p m c cJ26_init 2 s av lw_all "java/util/Optional" := X
  have hx := X.1
  have hb := X.2.1
  have hl : lv_has ls 2 [(0, .ref a), (1, .ref x)] := hl
  have hRf : R.frames = 1 := hRf
  have hRl : R.locals = 12 := hRl
  have hRc : R.cells = 0 := hRc
  have hRs : R.slots = 0 := hRs
  have hin : meth.name = "<init>" := hin
  generalize ([] : List Loc) = locs at w ⊢
  refine lv_aload_n hx hb dJ26_init_0 rfl (lv_at hl 0 rfl) ?_
  refine W.objInit hx hb X.2.2.2.1 (X.2.2.2.2 _ q1717) (X.2.2.2.2 _ q144) (X.2.2.2.2 _ q145) rfl (by rw [X.2.2.1]; exact hl.1) rfl dJ26_init_1 (by rw [hRf]; decide) (by rw [hRl]; exact Nat.le_of_ble_eq_true rfl) ?_
  refine W.eq (g2 := F0 m 4 ls []) rfl ?_
  refine lv_aload_n hx hb dJ26_init_4 rfl (lv_at hl 0 rfl) ?_
  refine lv_aload_n hx hb dJ26_init_5 rfl (lv_at hl 1 rfl) ?_
  refine mx_putF (T := TJ26) X w in_J26 tyJ26 tyJ26_ok nmJ26 (ci := 18) rfl 0 (by decide) q1718 (fun _ h => h) rfl hin rfl (v := .ref x) rfl rfl h_a (show 0 < 1 by decide) dJ26_init_6 (fun H locs w => ?_)
  have w : mW G A s (va_up M1 a (some (.inr (18, [.ref x])))) H locs := w
  have h_a : (va_up M1 a (some (.inr (18, [.ref x])))) a = some (.inr (18, [.ref x])) := va_up_s
  exact fin _ H locs ls 9 dJ26_init_9 rfl w
set_option maxHeartbeats 4000000 in
set_option maxRecDepth 100000 in
theorem jt_op_of (l : Launch) (G : mg) (A : Nat → Prop) (M1 : mh) (x : Nat)     : Met l yJ26_of (ws_ yJ26_of cJ26_of 1 (some (.object "java/util/Optional"))) ({ frames := 2, cells := 1, slots := 1, locals := 33 }) (va_Pc [.ref x] (mU G A (fun M => M = M1))) (mQq G A (fun r M => ∃ q : Nat, M1 q = none ∧ r = some q ∧ M = (va_up (va_up M1 q (some (.inr (18, [.null])))) q (some (.inr (18, [.ref x])))))) 1 1 A := by
  refine mx_ofq (Or.inl ⟨_, rfl⟩) (by decide) (Nat.le_of_ble_eq_true rfl) ?_
  intro p e R s m av below meth c M H Q ls X hRf hRl hRc hRs hin eM w fin hl
  subst M
  have X : CallFix p m c cJ26_of 1 s av lw_all "java/util/Optional" := X
  have hx := X.1
  have hb := X.2.1
  have hl : lv_has ls 1 [(0, .ref x)] := hl
  have hRf : R.frames = 2 := hRf
  have hRl : R.locals = 33 := hRl
  have hRc : R.cells = 1 := hRc
  have hRs : R.slots = 1 := hRs
  generalize ([] : List Loc) = locs at w ⊢
  refine mx_new (T := TJ26) X w in_J26 tyJ26 tyJ26_ok q1711 q1712 q135 (ci := 18) rfl (fs := [.null]) (fun j hj => vz_J26 j hj) (by rw [hRc]; omega) (by rw [hRs]; omega) dJ26_of_0 (fun q H nq_q w => ?_)
  have z_q : M1 q = none := by exact nq_q
  have w : mW G A s (va_up M1 q (some (.inr (18, [.null])))) H locs := w
  have h_q : (va_up M1 q (some (.inr (18, [.null])))) q = some (.inr (18, [.null])) := va_up_s
  refine lv_dup hx hb dJ26_of_3 rfl ?_
  refine lv_aload_n hx hb dJ26_of_4 rfl (lv_at hl 0 rfl) ?_
  refine mx_bq w (va_runS (As := [.ref x]) (rest := [.ref q, .ref q]) X (jt_req l G A (va_up M1 q (some (.inr (18, [.null])))) x  ) (va_cwS 1 X.2.2.2.2 (lw_S q1713 q982 q106 q983) rfl rfl rfl (by decide +kernel) ⟨by rw [hRf]; decide, by rw [hRl]; decide⟩) (mx_preS w rfl) rfl rfl hl.1 rfl (lv_room (Nat.le_of_ble_eq_true rfl)) dJ26_of_5 ⟨by rw [hRc]; omega, by rw [hRs]; omega⟩) (fun r M9 H locs hp w => ?_)
  obtain ⟨eR, eM⟩ := hp; subst M9; subst eR
  refine mx_bv w (va_runI (As := [.ref x]) (rest := [.ref q]) X (jt_op_init l G A (va_up M1 q (some (.inr (18, [.null])))) q x h_q ) (cwI 1 X.2.2.2.2 (lw_meth q1716) rfl rfl rfl (X.2.2.2.2 _ q135) (X.2.2.2.2 _ q1714) (X.2.2.2.2 _ q1715) rfl (by decide +kernel) ⟨by rw [hRf]; decide, by rw [hRl]; decide⟩) (mx_preS w rfl) rfl rfl hl.1 rfl (lv_room (Nat.le_of_ble_eq_true rfl)) dJ26_of_8 ⟨by rw [hRc]; omega, by rw [hRs]; omega⟩) (fun M9 H locs hp w => ?_)
  have eM := hp; subst M9
  have h_q : (va_up (va_up M1 q (some (.inr (18, [.null])))) q (some (.inr (18, [.ref x])))) q = some (.inr (18, [.ref x])) := va_up_s
  have w : mW G A s (va_up (va_up M1 q (some (.inr (18, [.null])))) q (some (.inr (18, [.ref x])))) H locs := w
  exact fin (some q) _ H locs ls 11 dJ26_of_11 ⟨q, z_q, rfl, rfl⟩ w
set_option maxHeartbeats 4000000 in
set_option maxRecDepth 100000 in
theorem jt_op_emp (l : Launch) (G : mg) (A : Nat → Prop) (M1 : mh)      : Met l yJ26_empty (ws_ yJ26_empty cJ26_empty 1 (some (.object "java/util/Optional"))) ({ frames := 0, cells := 0, slots := 0, locals := 0 }) (va_Pc [] (mU G A (fun M => M = M1))) (mQq G A (fun r M => r = some (G.2 1) ∧ M = M1)) 0 0 A := by
  refine mx_ofq (Or.inl ⟨_, rfl⟩) (by decide) (Nat.le_of_ble_eq_true rfl) ?_
  intro p e R s m av below meth c M H Q ls X hRf hRl hRc hRs hin eM w fin hl
  subst M
  have X : CallFix p m c cJ26_empty 1 s av lw_all "java/util/Optional" := X
  have hx := X.1
  have hb := X.2.1
  have hl : lv_has ls 1 [] := hl
  have hRf : R.frames = 0 := hRf
  have hRl : R.locals = 0 := hRl
  have hRc : R.cells = 0 := hRc
  have hRs : R.slots = 0 := hRs
  generalize ([] : List Loc) = locs at w ⊢
  refine mx_gets (v := .ref (G.2 1)) X w (C := "java/util/Optional") (by simp [kcZ]) q1706 (fun _ h => h) dJ26_empty_0 ?_
  refine lv_astore_n (lv' := [(0, .ref (G.2 1))]) hx hb dJ26_empty_3 rfl hl (by decide) rfl (fun ls hl => ?_)
  refine lv_aload_n hx hb dJ26_empty_4 rfl (lv_at hl 0 rfl) ?_
  exact fin (some (G.2 1)) _ H locs ls 5 dJ26_empty_5 ⟨rfl, rfl⟩ w
set_option maxHeartbeats 4000000 in
set_option maxRecDepth 100000 in
theorem jt_op_or (l : Launch) (G : mg) (A : Nat → Prop) (M1 : mh) (a : Nat) (x : Nat) (h_a : M1 a = some (.inr (18, [.ref x])))   : Met l yJ26_orElse (ws_ yJ26_orElse cJ26_orElse 2 (some (.object "java/lang/Object"))) ({ frames := 0, cells := 0, slots := 0, locals := 0 }) (va_Pc [.ref a, .null] (mU G A (fun M => M = M1))) (mQq G A (fun r M => r = some x ∧ M = M1)) 0 0 A := by
  refine mx_ofq (Or.inl ⟨_, rfl⟩) (by decide) (Nat.le_of_ble_eq_true rfl) ?_
  intro p e R s m av below meth c M H Q ls X hRf hRl hRc hRs hin eM w fin hl
  subst M
  have X : CallFix p m c cJ26_orElse 2 s av lw_all "java/util/Optional" := X
  have hx := X.1
  have hb := X.2.1
  have hl : lv_has ls 2 [(0, .ref a), (1, .null)] := hl
  have hRf : R.frames = 0 := hRf
  have hRl : R.locals = 0 := hRl
  have hRc : R.cells = 0 := hRc
  have hRs : R.slots = 0 := hRs
  generalize ([] : List Loc) = locs at w ⊢
  refine lv_aload_n hx hb dJ26_orElse_0 rfl (lv_at hl 0 rfl) ?_
  refine mx_get (T := TJ26) (v := .ref x) X w in_J26 (ci := 18) rfl 0 (by decide) q1718 (fun _ h => h) h_a rfl dJ26_orElse_1 ?_
  refine lv_ifnull hx hb dJ26_orElse_4 ?_
  refine lv_aload_n hx hb dJ26_orElse_7 rfl (lv_at hl 0 rfl) ?_
  refine mx_get (T := TJ26) (v := .ref x) X w in_J26 (ci := 18) rfl 0 (by decide) q1718 (fun _ h => h) h_a rfl dJ26_orElse_8 ?_
  refine lv_goto (tgt := 15) hx hb dJ26_orElse_11 (by decide) ?_
  exact fin (some x) _ H locs ls 15 dJ26_orElse_15 ⟨rfl, rfl⟩ w
