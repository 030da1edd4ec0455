set_option maxRecDepth 100000
/-! DQ: the history's deque; constructors -/
set_option maxHeartbeats 4000000 in
set_option maxRecDepth 100000 in
theorem jt_cmp_init (l : Launch) (G : mg) (A : Nat → Prop) (M1 : mh) (cq : Nat) (o : Nat)  (h_cq : M1 cq = some (.inr (2, [.null])))   : Met l yX3_init (ws_ yX3_init cX3_init 2 (none)) ({ frames := 1, cells := 0, slots := 0, locals := 12 }) (va_Pc [.ref cq, .ref o] (mU G A (fun M => M = M1))) (mQv G A (fun M => M = (va_up M1 cq (some (.inr (2, [.ref o])))))) 0 0 A := by
  refine mx_ofv (by decide) (Nat.le_of_ble_eq_true rfl) ?_
  intro p e R s m av below meth c M H Q ls X hRf hRl hRc hRs hin eM w fin hl
  subst M
  have X : CallFix p m c cX3_init 2 s av lw_all "FieldPumps$Station$1" := X
  have hx := X.1
  have hb := X.2.1
  have hl : lv_has ls 2 [(0, .ref cq), (1, .ref o)] := hl
  have hRf : R.frames = 1 := hRf
  have hRl : R.locals = 12 := hRl
  have hRc : R.cells = 0 := hRc
  have hRs : R.slots = 0 := hRs
  have hin : meth.name = "<init>" := hin
  generalize ([] : List Loc) = locs at w ⊢
  refine lv_aload_n hx hb dX3_init_0 rfl (lv_at hl 0 rfl) ?_
  refine lv_aload_n hx hb dX3_init_1 rfl (lv_at hl 1 rfl) ?_
  refine mx_putF (T := TX3) X w in_X3 tyX3 tyX3_ok nmX3 (ci := 2) rfl 0 (by decide) q210 (fun _ h => h) rfl hin rfl (v := .ref o) rfl rfl h_cq (show 0 < 1 by decide) dX3_init_2 (fun H locs w => ?_)
  have w : mW G A s (va_up M1 cq (some (.inr (2, [.ref o])))) H locs := w
  have h_cq : (va_up M1 cq (some (.inr (2, [.ref o])))) cq = some (.inr (2, [.ref o])) := va_up_s
  refine lv_aload_n hx hb dX3_init_5 rfl (lv_at hl 0 rfl) ?_
  refine W.objInit hx hb X.2.2.2.1 (X.2.2.2.2 _ q209) (X.2.2.2.2 _ q144) (X.2.2.2.2 _ q145) rfl (by rw [X.2.2.1]; exact hl.1) rfl dX3_init_6 (by rw [hRf]; decide) (by rw [hRl]; exact Nat.le_of_ble_eq_true rfl) ?_
  refine W.eq (g2 := F0 m 9 ls []) rfl ?_
  exact fin _ H locs ls 9 dX3_init_9 rfl w
set_option maxHeartbeats 4000000 in
set_option maxRecDepth 100000 in
theorem jt_pq_init (l : Launch) (G : mg) (A : Nat → Prop) (M1 : mh) (a : Nat) (cq : Nat)  (h_a : M1 a = some (.inr (10, [.null, .int (0 : Int32), .null, .int (0 : Int32)])))   : Met l yJ5_init (ws_ yJ5_init cJ5_init 3 (none)) ({ frames := 3, cells := 1, slots := 6, locals := 52 }) (va_Pc [.ref a, .int (6 : Int32), .ref cq] (mU G A (fun M => M = M1))) (mQv G A (fun M => ∃ q : Nat, M1 q = none ∧ M = (va_up (va_up (va_up M1 q (some (mRc (G.1.1 103) 6 (fun _ => none)))) a (some (.inr (10, [.ref q, .int (0 : Int32), .null, .int (0 : Int32)])))) a (some (.inr (10, [.ref q, .int (0 : Int32), .ref cq, .int (0 : Int32)])))))) 1 6 A := by
  refine mx_ofv (by decide) (Nat.le_of_ble_eq_true rfl) ?_
  intro p e R s m av below meth c M H Q ls X hRf hRl hRc hRs hin eM w fin hl
  subst M
  have X : CallFix p m c cJ5_init 3 s av lw_all "java/util/PriorityQueue" := X
  have hx := X.1
  have hb := X.2.1
  have hl : lv_has ls 3 [(0, .ref a), (1, .int (6 : Int32)), (2, .ref cq)] := hl
  have hRf : R.frames = 3 := hRf
  have hRl : R.locals = 52 := hRl
  have hRc : R.cells = 1 := hRc
  have hRs : R.slots = 6 := hRs
  have hin : meth.name = "<init>" := hin
  generalize ([] : List Loc) = locs at w ⊢
  refine lv_aload_n hx hb dJ5_init_0 rfl (lv_at hl 0 rfl) ?_
  refine mx_bv w (va_runI (As := []) (rest := []) X (jt_aq_init l G A M1 a  ) (cwI 0 X.2.2.2.2 (lw_meth q220) rfl rfl rfl (X.2.2.2.2 _ q103) (X.2.2.2.2 _ q218) (X.2.2.2.2 _ q219) rfl (by decide +kernel) ⟨by rw [hRf]; decide, by rw [hRl]; decide⟩) (mx_preS w rfl) rfl rfl hl.1 rfl (lv_room (Nat.le_of_ble_eq_true rfl)) dJ5_init_1 ⟨Nat.zero_le _, Nat.zero_le _⟩) (fun M9 H locs hp w => ?_)
  have eM := hp; subst M9
  refine lv_iload_n hx hb dJ5_init_4 rfl (lv_at hl 1 rfl) ?_
  refine lv_iconst (v := (1 : Int32)) hx hb dJ5_init_5 (by decide) ?_
  refine lv_icmp_ge (tgt := 17) hx hb dJ5_init_6 (by decide) (fun c_6 => ?_) (fun c_6 => absurd (by decide) c_6)
  refine lv_aload_n hx hb dJ5_init_17 rfl (lv_at hl 0 rfl) ?_
  refine lv_iload_n hx hb dJ5_init_18 rfl (lv_at hl 1 rfl) ?_
  refine mx_newQ X w 3 q222 (by simp [kcArr]) rfl 6 rfl (by first | decide | omega) (by rw [hRc]; omega) (by rw [hRs]; omega) dJ5_init_19 (fun q H nq_q w => ?_)
  have n_q_a : q ≠ a := fun e => by rw [e, h_a] at nq_q; cases nq_q
  have z_q : M1 q = none := by exact nq_q
  have w : mW G A s (va_up M1 q (some (mRc (G.1.1 103) 6 (fun _ => none)))) H locs := w
  have h_a : (va_up M1 q (some (mRc (G.1.1 103) 6 (fun _ => none)))) a = some (.inr (10, [.null, .int (0 : Int32), .null, .int (0 : Int32)])) := (va_up_k (by first | assumption | exact Ne.symm (by assumption))).trans h_a
  have h_q : (va_up M1 q (some (mRc (G.1.1 103) 6 (fun _ => none)))) q = some (mRc (G.1.1 103) 6 (fun _ => none)) := va_up_s
  refine mx_put (T := TJ5) X w in_J5 tyJ5 tyJ5_ok nmJ5 (ci := 10) rfl 0 (by decide) q224 (fun _ h => h) rfl (v := .ref q) rfl rfl h_a (show 0 < 4 by decide) dJ5_init_22 (fun H locs w => ?_)
  have w : mW G A s (va_up (va_up M1 q (some (mRc (G.1.1 103) 6 (fun _ => none)))) a (some (.inr (10, [.ref q, .int (0 : Int32), .null, .int (0 : Int32)])))) H locs := w
  have h_q : (va_up (va_up M1 q (some (mRc (G.1.1 103) 6 (fun _ => none)))) a (some (.inr (10, [.ref q, .int (0 : Int32), .null, .int (0 : Int32)])))) q = some (mRc (G.1.1 103) 6 (fun _ => none)) := (va_up_k (by first | assumption | exact Ne.symm (by assumption))).trans h_q
  have h_a : (va_up (va_up M1 q (some (mRc (G.1.1 103) 6 (fun _ => none)))) a (some (.inr (10, [.ref q, .int (0 : Int32), .null, .int (0 : Int32)])))) a = some (.inr (10, [.ref q, .int (0 : Int32), .null, .int (0 : Int32)])) := va_up_s
  refine lv_aload_n hx hb dJ5_init_25 rfl (lv_at hl 0 rfl) ?_
  refine lv_aload_n hx hb dJ5_init_26 rfl (lv_at hl 2 rfl) ?_
  refine mx_putF (T := TJ5) X w in_J5 tyJ5 tyJ5_ok nmJ5 (ci := 10) rfl 2 (by decide) q226 (fun _ h => h) rfl hin rfl (v := .ref cq) rfl rfl h_a (show 2 < 4 by decide) dJ5_init_27 (fun H locs w => ?_)
  have w : mW G A s (va_up (va_up (va_up M1 q (some (mRc (G.1.1 103) 6 (fun _ => none)))) a (some (.inr (10, [.ref q, .int (0 : Int32), .null, .int (0 : Int32)])))) a (some (.inr (10, [.ref q, .int (0 : Int32), .ref cq, .int (0 : Int32)])))) H locs := w
  have h_q : (va_up (va_up (va_up M1 q (some (mRc (G.1.1 103) 6 (fun _ => none)))) a (some (.inr (10, [.ref q, .int (0 : Int32), .null, .int (0 : Int32)])))) a (some (.inr (10, [.ref q, .int (0 : Int32), .ref cq, .int (0 : Int32)])))) q = some (mRc (G.1.1 103) 6 (fun _ => none)) := (va_up_k (by first | assumption | exact Ne.symm (by assumption))).trans h_q
  have h_a : (va_up (va_up (va_up M1 q (some (mRc (G.1.1 103) 6 (fun _ => none)))) a (some (.inr (10, [.ref q, .int (0 : Int32), .null, .int (0 : Int32)])))) a (some (.inr (10, [.ref q, .int (0 : Int32), .ref cq, .int (0 : Int32)])))) a = some (.inr (10, [.ref q, .int (0 : Int32), .ref cq, .int (0 : Int32)])) := va_up_s
  exact fin _ H locs ls 30 dJ5_init_30 ⟨q, z_q, rfl⟩ w
set_option maxHeartbeats 4000000 in
set_option maxRecDepth 100000 in
theorem jt_dq_init (l : Launch) (G : mg) (A : Nat → Prop) (M1 : mh) (a : Nat)  (h_a : M1 a = some (.inr (11, [.null, .int (0 : Int32), .int (0 : Int32)])))   : Met l yJ8_init (ws_ yJ8_init cJ8_init 1 (none)) ({ frames := 2, cells := 1, slots := 17, locals := 32 }) (va_Pc [.ref a] (mU G A (fun M => M = M1))) (mQv G A (fun M => ∃ q : Nat, M1 q = none ∧ M = (va_up (va_up M1 q (some (mRc (G.1.1 103) 17 (fun _ => none)))) a (some (.inr (11, [.ref q, .int (0 : Int32), .int (0 : Int32)])))))) 1 17 A := by
  refine mx_ofv (by decide) (Nat.le_of_ble_eq_true rfl) ?_
  intro p e R s m av below meth c M H Q ls X hRf hRl hRc hRs hin eM w fin hl
  subst M
  have X : CallFix p m c cJ8_init 1 s av lw_all "java/util/ArrayDeque" := X
  have hx := X.1
  have hb := X.2.1
  have hl : lv_has ls 1 [(0, .ref a)] := hl
  have hRf : R.frames = 2 := hRf
  have hRl : R.locals = 32 := hRl
  have hRc : R.cells = 1 := hRc
  have hRs : R.slots = 17 := hRs
  have hin : meth.name = "<init>" := hin
  generalize ([] : List Loc) = locs at w ⊢
  refine lv_aload_n hx hb dJ8_init_0 rfl (lv_at hl 0 rfl) ?_
  refine mx_bv w (va_runI (As := []) (rest := []) X (jt_ac_init l G A M1 a  ) (cwI 0 X.2.2.2.2 (lw_meth q165) rfl rfl rfl (X.2.2.2.2 _ q98) (X.2.2.2.2 _ q427) (X.2.2.2.2 _ q164) rfl (by decide +kernel) ⟨by rw [hRf]; decide, by rw [hRl]; decide⟩) (mx_preS w rfl) rfl rfl hl.1 rfl (lv_room (Nat.le_of_ble_eq_true rfl)) dJ8_init_1 ⟨Nat.zero_le _, Nat.zero_le _⟩) (fun M9 H locs hp w => ?_)
  have eM := hp; subst M9
  refine lv_aload_n hx hb dJ8_init_4 rfl (lv_at hl 0 rfl) ?_
  refine lv_bipush (v := (17 : Int32)) hx hb dJ8_init_5 (by decide) ?_
  refine mx_newQ X w 3 q428 (by simp [kcArr]) rfl 17 rfl (by first | decide | omega) (by rw [hRc]; omega) (by rw [hRs]; omega) dJ8_init_7 (fun q H nq_q w => ?_)
  have n_q_a : q ≠ a := fun e => by rw [e, h_a] at nq_q; cases nq_q
  have z_q : M1 q = none := by exact nq_q
  have w : mW G A s (va_up M1 q (some (mRc (G.1.1 103) 17 (fun _ => none)))) H locs := w
  have h_a : (va_up M1 q (some (mRc (G.1.1 103) 17 (fun _ => none)))) a = some (.inr (11, [.null, .int (0 : Int32), .int (0 : Int32)])) := (va_up_k (by first | assumption | exact Ne.symm (by assumption))).trans h_a
  have h_q : (va_up M1 q (some (mRc (G.1.1 103) 17 (fun _ => none)))) q = some (mRc (G.1.1 103) 17 (fun _ => none)) := va_up_s
  refine mx_put (T := TJ8) X w in_J8 tyJ8 tyJ8_ok nmJ8 (ci := 11) rfl 0 (by decide) q429 (fun _ h => h) rfl (v := .ref q) rfl rfl h_a (show 0 < 3 by decide) dJ8_init_10 (fun H locs w => ?_)
  have w : mW G A s (va_up (va_up M1 q (some (mRc (G.1.1 103) 17 (fun _ => none)))) a (some (.inr (11, [.ref q, .int (0 : Int32), .int (0 : Int32)])))) H locs := w
  have h_q : (va_up (va_up M1 q (some (mRc (G.1.1 103) 17 (fun _ => none)))) a (some (.inr (11, [.ref q, .int (0 : Int32), .int (0 : Int32)])))) q = some (mRc (G.1.1 103) 17 (fun _ => none)) := (va_up_k (by first | assumption | exact Ne.symm (by assumption))).trans h_q
  have h_a : (va_up (va_up M1 q (some (mRc (G.1.1 103) 17 (fun _ => none)))) a (some (.inr (11, [.ref q, .int (0 : Int32), .int (0 : Int32)])))) a = some (.inr (11, [.ref q, .int (0 : Int32), .int (0 : Int32)])) := va_up_s
  exact fin _ H locs ls 13 dJ8_init_13 ⟨q, z_q, rfl⟩ w
set_option maxHeartbeats 4000000 in
set_option maxRecDepth 100000 in
theorem jt_dq_inc1 (l : Launch) (G : mg) (A : Nat → Prop) (M1 : mh) (k : Nat)    (hk : k + 1 < 17) : Met l yJ8_inc (ws_ yJ8_inc cJ8_inc 2 (some .int)) ({ frames := 0, cells := 0, slots := 0, locals := 0 }) (va_Pc [.int (nI k), .int (17 : Int32)] (mU G A (fun M => M = M1))) (mQi G A (fun r M => r = (nI (k + 1)) ∧ M = M1)) 0 0 A := by
  refine mx_ofi (by decide) (Nat.le_of_ble_eq_true rfl) ?_
  intro p e R s m av below meth c M H Q ls X hRf hRl hRc hRs hin eM w fin hl
  subst M
  have X : CallFix p m c cJ8_inc 2 s av lw_all "java/util/ArrayDeque" := X
  have hx := X.1
  have hb := X.2.1
  have hl : lv_has ls 2 [(0, .int (nI k)), (1, .int (17 : Int32))] := hl
  have hRf : R.frames = 0 := hRf
  have hRl : R.locals = 0 := hRl
  have hRc : R.cells = 0 := hRc
  have hRs : R.slots = 0 := hRs
  generalize ([] : List Loc) = locs at w ⊢
  refine lv_iinc (v := (nI (k + 1))) (lv' := [(0, .int (nI (k + 1))), (1, .int (17 : Int32))]) hx hb dJ8_inc_0 hl (k := 0) rfl (nI_incr _ 1) (by decide) rfl (fun ls hl => ?_)
  refine lv_iload_n hx hb dJ8_inc_3 rfl (lv_at hl 0 rfl) ?_
  refine lv_iload_n hx hb dJ8_inc_4 rfl (lv_at hl 1 rfl) ?_
  refine mx_nlt (u := (k + 1)) (v := 17) (tgt := 10) hx hb rfl rfl (by omega) (by omega) dJ8_inc_5 (by decide) (fun c_5 => ?_) (fun c_5 => absurd (by omega) c_5)
  refine lv_iload_n hx hb dJ8_inc_10 rfl (lv_at hl 0 rfl) ?_
  exact fin (nI (k + 1)) _ H locs ls 11 dJ8_inc_11 ⟨rfl, rfl⟩ w
set_option maxHeartbeats 4000000 in
set_option maxRecDepth 100000 in
theorem jt_dq_inc0 (l : Launch) (G : mg) (A : Nat → Prop) (M1 : mh) (k : Nat)    (hk : k + 1 = 17) : Met l yJ8_inc (ws_ yJ8_inc cJ8_inc 2 (some .int)) ({ frames := 0, cells := 0, slots := 0, locals := 0 }) (va_Pc [.int (nI k), .int (17 : Int32)] (mU G A (fun M => M = M1))) (mQi G A (fun r M => r = (0 : Int32) ∧ M = M1)) 0 0 A := by
  refine mx_ofi (by decide) (Nat.le_of_ble_eq_true rfl) ?_
  intro p e R s m av below meth c M H Q ls X hRf hRl hRc hRs hin eM w fin hl
  subst M
  have X : CallFix p m c cJ8_inc 2 s av lw_all "java/util/ArrayDeque" := X
  have hx := X.1
  have hb := X.2.1
  have hl : lv_has ls 2 [(0, .int (nI k)), (1, .int (17 : Int32))] := hl
  have hRf : R.frames = 0 := hRf
  have hRl : R.locals = 0 := hRl
  have hRc : R.cells = 0 := hRc
  have hRs : R.slots = 0 := hRs
  generalize ([] : List Loc) = locs at w ⊢
  refine lv_iinc (v := (nI (k + 1))) (lv' := [(0, .int (nI (k + 1))), (1, .int (17 : Int32))]) hx hb dJ8_inc_0 hl (k := 0) rfl (nI_incr _ 1) (by decide) rfl (fun ls hl => ?_)
  refine lv_iload_n hx hb dJ8_inc_3 rfl (lv_at hl 0 rfl) ?_
  refine lv_iload_n hx hb dJ8_inc_4 rfl (lv_at hl 1 rfl) ?_
  refine mx_nlt (u := (k + 1)) (v := 17) (tgt := 10) hx hb rfl rfl (by omega) (by omega) dJ8_inc_5 (by decide) (fun c_5 => absurd c_5 (by omega)) (fun c_5 => ?_)
  refine lv_iconst (v := (0 : Int32)) hx hb dJ8_inc_8 (by decide) ?_
  refine lv_istore_n (lv' := [(0, .int (0 : Int32)), (1, .int (17 : Int32))]) hx hb dJ8_inc_9 rfl hl (by decide) rfl (fun ls hl => ?_)
  refine lv_iload_n hx hb dJ8_inc_10 rfl (lv_at hl 0 rfl) ?_
  exact fin (0 : Int32) _ H locs ls 11 dJ8_inc_11 ⟨rfl, rfl⟩ w
set_option maxHeartbeats 4000000 in
set_option maxRecDepth 100000 in
theorem jt_dq_dec1 (l : Launch) (G : mg) (A : Nat → Prop) (M1 : mh) (k : Nat)    (hk : 1 ≤ k) (hk2 : k < 17) : Met l yJ8_dec (ws_ yJ8_dec cJ8_dec 2 (some .int)) ({ frames := 0, cells := 0, slots := 0, locals := 0 }) (va_Pc [.int (nI k), .int (17 : Int32)] (mU G A (fun M => M = M1))) (mQi G A (fun r M => r = (nI (k - 1)) ∧ M = M1)) 0 0 A := by
  refine mx_ofi (by decide) (Nat.le_of_ble_eq_true rfl) ?_
  intro p e R s m av below meth c M H Q ls X hRf hRl hRc hRs hin eM w fin hl
  subst M
  have X : CallFix p m c cJ8_dec 2 s av lw_all "java/util/ArrayDeque" := X
  have hx := X.1
  have hb := X.2.1
  have hl : lv_has ls 2 [(0, .int (nI k)), (1, .int (17 : Int32))] := hl
  have hRf : R.frames = 0 := hRf
  have hRl : R.locals = 0 := hRl
  have hRc : R.cells = 0 := hRc
  have hRs : R.slots = 0 := hRs
  generalize ([] : List Loc) = locs at w ⊢
  refine lv_iinc (v := (nI (k - 1))) (lv' := [(0, .int (nI (k - 1))), (1, .int (17 : Int32))]) hx hb dJ8_dec_0 hl (k := 0) rfl (nI_decr (k := 1) (by omega)) (by decide) rfl (fun ls hl => ?_)
  refine lv_iload_n hx hb dJ8_dec_3 rfl (lv_at hl 0 rfl) ?_
  refine lv_if_ge (tgt := 11) hx hb dJ8_dec_4 (by decide) (fun c_4 => ?_) (fun c_4 => absurd (Int32.not_lt.mp (nI_pos (by omega))) c_4)
  refine lv_iload_n hx hb dJ8_dec_11 rfl (lv_at hl 0 rfl) ?_
  exact fin (nI (k - 1)) _ H locs ls 12 dJ8_dec_12 ⟨rfl, rfl⟩ w
set_option maxHeartbeats 4000000 in
set_option maxRecDepth 100000 in
theorem jt_dq_dec0 (l : Launch) (G : mg) (A : Nat → Prop) (M1 : mh)      : Met l yJ8_dec (ws_ yJ8_dec cJ8_dec 2 (some .int)) ({ frames := 0, cells := 0, slots := 0, locals := 0 }) (va_Pc [.int (0 : Int32), .int (17 : Int32)] (mU G A (fun M => M = M1))) (mQi G A (fun r M => r = (16 : Int32) ∧ M = M1)) 0 0 A := by
  refine mx_ofi (by decide) (Nat.le_of_ble_eq_true rfl) ?_
  intro p e R s m av below meth c M H Q ls X hRf hRl hRc hRs hin eM w fin hl
  subst M
  have X : CallFix p m c cJ8_dec 2 s av lw_all "java/util/ArrayDeque" := X
  have hx := X.1
  have hb := X.2.1
  have hl : lv_has ls 2 [(0, .int (0 : Int32)), (1, .int (17 : Int32))] := hl
  have hRf : R.frames = 0 := hRf
  have hRl : R.locals = 0 := hRl
  have hRc : R.cells = 0 := hRc
  have hRs : R.slots = 0 := hRs
  generalize ([] : List Loc) = locs at w ⊢
  refine lv_iinc (v := (-1 : Int32)) (lv' := [(0, .int (-1 : Int32)), (1, .int (17 : Int32))]) hx hb dJ8_dec_0 hl (k := 0) rfl (by decide) (by decide) rfl (fun ls hl => ?_)
  refine lv_iload_n hx hb dJ8_dec_3 rfl (lv_at hl 0 rfl) ?_
  refine lv_if_ge (tgt := 11) hx hb dJ8_dec_4 (by decide) (fun c_4 => absurd c_4 (by decide)) (fun c_4 => ?_)
  refine lv_iload_n hx hb dJ8_dec_7 rfl (lv_at hl 1 rfl) ?_
  refine lv_iconst (v := (1 : Int32)) hx hb dJ8_dec_8 (by decide) ?_
  refine lv_isub hx hb dJ8_dec_9 ?_
  refine mx_cast (z := (16 : Int32)) (by decide) ?_
  refine lv_istore_n (lv' := [(0, .int (16 : Int32)), (1, .int (17 : Int32))]) hx hb dJ8_dec_10 rfl hl (by decide) rfl (fun ls hl => ?_)
  refine lv_iload_n hx hb dJ8_dec_11 rfl (lv_at hl 0 rfl) ?_
  exact fin (16 : Int32) _ H locs ls 12 dJ8_dec_12 ⟨rfl, rfl⟩ w
theorem jt_dq_inc (l : Launch) (G : mg) (A : Nat → Prop) (M1 : mh) (k : Nat)    (hk : k < 17) : Met l yJ8_inc (ws_ yJ8_inc cJ8_inc 2 (some .int)) ({ frames := 0, cells := 0, slots := 0, locals := 0 }) (va_Pc [.int (nI k), .int (17 : Int32)] (mU G A (fun M => M = M1))) (mQi G A (fun r M => r = nI ((k + 1) % 17) ∧ M = M1)) 0 0 A := by
  by_cases c : k + 1 = 17
  · have e : k = 16 := by omega
    subst e
    exact jt_dq_inc0 l G A M1 16 rfl
  · rw [Nat.mod_eq_of_lt (by omega)]
    exact jt_dq_inc1 l G A M1 k (by omega)
theorem jt_dq_dec (l : Launch) (G : mg) (A : Nat → Prop) (M1 : mh) (k : Nat)    (hk : k < 17) : Met l yJ8_dec (ws_ yJ8_dec cJ8_dec 2 (some .int)) ({ frames := 0, cells := 0, slots := 0, locals := 0 }) (va_Pc [.int (nI k), .int (17 : Int32)] (mU G A (fun M => M = M1))) (mQi G A (fun r M => r = nI ((k + 16) % 17) ∧ M = M1)) 0 0 A := by
  by_cases c : k = 0
  · subst c
    exact jt_dq_dec0 l G A M1
  · have e : (k + 16) % 17 = k - 1 := by omega
    rw [e]
    exact jt_dq_dec1 l G A M1 k (by omega) hk
theorem dq_neg {a b : Nat} (h : a < b) (hb : b < 17) : ¬ (0 : Int32) ≤ nI a - nI b := by
  have t : (nI a - nI b).toInt = (a : Int) - b := by
    rw [Int32.toInt_sub, nI_toInt (by omega), nI_toInt (by omega), Int.bmod_eq_of_le (by omega) (by omega)]
  intro hh
  have := Int32.le_iff_toInt_le.mp hh
  rw [t, show (0 : Int32).toInt = 0 from rfl] at this
  omega
theorem dq_sw {a b : Nat} (h : a < b) (hb : b < 17) : nI a - nI b + (17 : Int32) = nI (a + 17 - b) := by
  rw [show (17 : Int32) = nI 17 from rfl, Int32.sub_eq_add_neg, Int32.add_assoc, Int32.add_comm (-nI b), ← Int32.add_assoc, ← Int32.sub_eq_add_neg, nI_add, nI_sub (by omega)]
set_option maxHeartbeats 4000000 in
set_option maxRecDepth 100000 in
theorem jt_dq_at (l : Launch) (G : mg) (A : Nat → Prop) (M1 : mh) (ea : Nat) (k : Nat) (g : Nat → Option Nat) (x : Nat) (h_ea : M1 ea = some (mRc (G.1.1 103) 17 g))  (hk : k < 17) (hgx : g k = some x) : Met l yJ8_elementAt (ws_ yJ8_elementAt cJ8_elementAt 2 (some (.object "java/lang/Object"))) ({ frames := 0, cells := 0, slots := 0, locals := 0 }) (va_Pc [.ref ea, .int (nI k)] (mU G A (fun M => M = M1))) (mQq G A (fun r M => r = some x ∧ M = M1)) 0 0 A := by
  refine mx_ofq (Or.inl ⟨_, rfl⟩) (by decide) (Nat.le_of_ble_eq_true rfl) ?_
  intro p e R s m av below meth c M H Q ls X hRf hRl hRc hRs hin eM w fin hl
  subst M
  have X : CallFix p m c cJ8_elementAt 2 s av lw_all "java/util/ArrayDeque" := X
  have hx := X.1
  have hb := X.2.1
  have hl : lv_has ls 2 [(0, .ref ea), (1, .int (nI k))] := hl
  have hRf : R.frames = 0 := hRf
  have hRl : R.locals = 0 := hRl
  have hRc : R.cells = 0 := hRc
  have hRs : R.slots = 0 := hRs
  generalize ([] : List Loc) = locs at w ⊢
  refine lv_aload_n hx hb dJ8_elementAt_0 rfl (lv_at hl 0 rfl) ?_
  refine lv_iload_n hx hb dJ8_elementAt_1 rfl (lv_at hl 1 rfl) ?_
  refine mx_aald X w 3 (r := (some x)) h_ea rfl k (by first | omega | decide) (by omega) (hgx) dJ8_elementAt_2 ?_
  exact fin (some x) _ H locs ls 3 dJ8_elementAt_3 ⟨rfl, rfl⟩ w
set_option maxHeartbeats 4000000 in
set_option maxRecDepth 100000 in
theorem jt_dq_add (l : Launch) (G : mg) (A : Nat → Prop) (M1 : mh) (a : Nat) (x : Nat) (ea : Nat) (h : Nat) (t : Nat) (g : Nat → Option Nat) (h_a : M1 a = some (.inr (11, [.ref ea, .int (nI h), .int (nI t)]))) (h_ea : M1 ea = some (mRc (G.1.1 103) 17 g)) (ha_x : anyAt G M1 x) (hh : h < 17) (ht : t < 17) (hne : ¬ h = (t + 1) % 17) : Met l yJ8_addLast (ws_ yJ8_addLast cJ8_addLast 3 (none)) ({ frames := 1, cells := 0, slots := 0, locals := 21 }) (va_Pc [.ref a, .ref x] (mU G A (fun M => M = M1))) (mQv G A (fun M => M = (va_up (va_up M1 ea (some (mRc (G.1.1 103) 17 (va_up g t (some x))))) a (some (.inr (11, [.ref ea, .int (nI h), .int (nI ((t + 1) % 17))])))))) 0 0 A := by
  refine mx_ofv (by decide) (Nat.le_of_ble_eq_true rfl) ?_
  intro p e R s m av below meth c M H Q ls X hRf hRl hRc hRs hin eM w fin hl
  subst M
  have X : CallFix p m c cJ8_addLast 3 s av lw_all "java/util/ArrayDeque" := X
  have hx := X.1
  have hb := X.2.1
  have hl : lv_has ls 3 [(0, .ref a), (1, .ref x)] := hl
  have hRf : R.frames = 1 := hRf
  have hRl : R.locals = 21 := hRl
  have hRc : R.cells = 0 := hRc
  have hRs : R.slots = 0 := hRs
  have n_a_ea : a ≠ ea := fun e => by rw [e, h_ea] at h_a; simp at h_a
  generalize ([] : List Loc) = locs at w ⊢
  refine lv_aload_n hx hb dJ8_addLast_0 rfl (lv_at hl 1 rfl) ?_
  refine lv_ifnonnull (tgt := 12) hx hb dJ8_addLast_1 (by decide) ?_
  refine lv_aload_n hx hb dJ8_addLast_12 rfl (lv_at hl 0 rfl) ?_
  refine mx_get (T := TJ8) (v := .ref ea) X w in_J8 (ci := 11) rfl 0 (by decide) q429 (fun _ h => h) h_a rfl dJ8_addLast_13 ?_
  refine lv_astore_n (lv' := [(2, .ref ea), (0, .ref a), (1, .ref x)]) hx hb dJ8_addLast_16 rfl hl (by decide) rfl (fun ls hl => ?_)
  refine lv_aload_n hx hb dJ8_addLast_17 rfl (lv_at hl 0 rfl) ?_
  refine lv_aload_n hx hb dJ8_addLast_18 rfl (lv_at hl 1 rfl) ?_
  refine mx_get (T := TJ8) (v := .int (nI t)) X w in_J8 (ci := 11) rfl 2 (by decide) q431 (fun _ h => h) h_a rfl dJ8_addLast_19 ?_
  refine lv_aload_n hx hb dJ8_addLast_22 rfl (lv_at hl 2 rfl) ?_
  refine mx_aastM X w 3 h_ea rfl (w.anyAt ha_x) t (by first | omega | decide) (by omega) dJ8_addLast_23 (fun H locs w => ?_)
  have w : mW G A s (va_up M1 ea (some (mRc (G.1.1 103) 17 (va_up g t (some x))))) H locs := w
  have ha_x : anyAt G (va_up M1 ea (some (mRc (G.1.1 103) 17 (va_up g t (some x))))) x := ha_x.up_a h_ea
  have h_a : (va_up M1 ea (some (mRc (G.1.1 103) 17 (va_up g t (some x))))) a = some (.inr (11, [.ref ea, .int (nI h), .int (nI t)])) := (va_up_k (by first | assumption | exact Ne.symm (by assumption))).trans h_a
  have h_ea : (va_up M1 ea (some (mRc (G.1.1 103) 17 (va_up g t (some x))))) ea = some (mRc (G.1.1 103) 17 (va_up g t (some x))) := va_up_s
  refine lv_aload_n hx hb dJ8_addLast_24 rfl (lv_at hl 1 rfl) ?_
  refine mx_get (T := TJ8) (v := .int (nI h)) X w in_J8 (ci := 11) rfl 1 (by decide) q430 (fun _ h => h) h_a rfl dJ8_addLast_25 ?_
  refine lv_aload_n hx hb dJ8_addLast_28 rfl (lv_at hl 1 rfl) ?_
  refine lv_aload_n hx hb dJ8_addLast_29 rfl (lv_at hl 1 rfl) ?_
  refine mx_get (T := TJ8) (v := .int (nI t)) X w in_J8 (ci := 11) rfl 2 (by decide) q431 (fun _ h => h) h_a rfl dJ8_addLast_30 ?_
  refine lv_aload_n hx hb dJ8_addLast_33 rfl (lv_at hl 0 rfl) ?_
  refine mx_alen X w 3 h_ea rfl dJ8_addLast_34 ?_
  refine mx_bi w (va_runS (As := [.int (nI t), .int (17 : Int32)]) (rest := [.ref a, .int (nI h)]) X (jt_dq_inc l G A (va_up M1 ea (some (mRc (G.1.1 103) 17 (va_up g t (some x))))) t  (by first | omega | assumption)) (va_cwS 2 X.2.2.2.2 (lw_S q767 q768 q108 q769) rfl rfl rfl (by decide +kernel) ⟨by rw [hRf]; decide, by rw [hRl]; decide⟩) (mx_preS w rfl) rfl rfl hl.1 rfl (lv_room (Nat.le_of_ble_eq_true rfl)) dJ8_addLast_35 ⟨Nat.zero_le _, Nat.zero_le _⟩) (fun r M9 H locs hp w => ?_)
  obtain ⟨eR, eM⟩ := hp; subst M9; subst eR
  refine lv_dup_x1 hx hb dJ8_addLast_38 rfl rfl ?_
  refine mx_put (T := TJ8) X w in_J8 tyJ8 tyJ8_ok nmJ8 (ci := 11) rfl 2 (by decide) q431 (fun _ h => h) rfl (v := .int (nI ((t + 1) % 17))) rfl rfl h_a (show 2 < 3 by decide) dJ8_addLast_39 (fun H locs w => ?_)
  have w : mW G A s (va_up (va_up M1 ea (some (mRc (G.1.1 103) 17 (va_up g t (some x))))) a (some (.inr (11, [.ref ea, .int (nI h), .int (nI ((t + 1) % 17))])))) H locs := w
  have ha_x : anyAt G (va_up (va_up M1 ea (some (mRc (G.1.1 103) 17 (va_up g t (some x))))) a (some (.inr (11, [.ref ea, .int (nI h), .int (nI ((t + 1) % 17))])))) x := ha_x.up_o h_a
  have h_ea : (va_up (va_up M1 ea (some (mRc (G.1.1 103) 17 (va_up g t (some x))))) a (some (.inr (11, [.ref ea, .int (nI h), .int (nI ((t + 1) % 17))])))) ea = some (mRc (G.1.1 103) 17 (va_up g t (some x))) := (va_up_k (by first | assumption | exact Ne.symm (by assumption))).trans h_ea
  have h_a : (va_up (va_up M1 ea (some (mRc (G.1.1 103) 17 (va_up g t (some x))))) a (some (.inr (11, [.ref ea, .int (nI h), .int (nI ((t + 1) % 17))])))) a = some (.inr (11, [.ref ea, .int (nI h), .int (nI ((t + 1) % 17))])) := va_up_s
  refine mx_nne (u := h) (v := ((t + 1) % 17)) (tgt := 50) hx hb rfl rfl (by omega) (by omega) dJ8_addLast_42 (by decide) (fun c_42 => ?_) (fun c_42 => absurd c_42 (hne))
  exact fin _ H locs ls 50 dJ8_addLast_50 rfl w
set_option maxHeartbeats 4000000 in
set_option maxRecDepth 100000 in
theorem jt_dq_pollF (l : Launch) (G : mg) (A : Nat → Prop) (M1 : mh) (a : Nat) (ea : Nat) (h : Nat) (t : Nat) (g : Nat → Option Nat) (x : Nat) (h_a : M1 a = some (.inr (11, [.ref ea, .int (nI h), .int (nI t)]))) (h_ea : M1 ea = some (mRc (G.1.1 103) 17 g))  (hh : h < 17) (ht : t < 17) (hgx : g h = some x) : Met l yJ8_pollFirst (ws_ yJ8_pollFirst cJ8_pollFirst 4 (some (.object "java/lang/Object"))) ({ frames := 1, cells := 0, slots := 0, locals := 21 }) (va_Pc [.ref a] (mU G A (fun M => M = M1))) (mQq G A (fun r M => r = some x ∧ M = (va_up (va_up M1 ea (some (mRc (G.1.1 103) 17 (va_up g h none)))) a (some (.inr (11, [.ref ea, .int (nI ((h + 1) % 17)), .int (nI t)])))))) 0 0 A := by
  refine mx_ofq (Or.inl ⟨_, rfl⟩) (by decide) (Nat.le_of_ble_eq_true rfl) ?_
  intro p e R s m av below meth c M H Q ls X hRf hRl hRc hRs hin eM w fin hl
  subst M
  have X : CallFix p m c cJ8_pollFirst 4 s av lw_all "java/util/ArrayDeque" := X
  have hx := X.1
  have hb := X.2.1
  have hl : lv_has ls 4 [(0, .ref a)] := hl
  have hRf : R.frames = 1 := hRf
  have hRl : R.locals = 21 := hRl
  have hRc : R.cells = 0 := hRc
  have hRs : R.slots = 0 := hRs
  have n_a_ea : a ≠ ea := fun e => by rw [e, h_ea] at h_a; simp at h_a
  generalize ([] : List Loc) = locs at w ⊢
  refine lv_aload_n hx hb dJ8_pollFirst_0 rfl (lv_at hl 0 rfl) ?_
  refine mx_get (T := TJ8) (v := .ref ea) X w in_J8 (ci := 11) rfl 0 (by decide) q429 (fun _ h => h) h_a rfl dJ8_pollFirst_1 ?_
  refine lv_dup hx hb dJ8_pollFirst_4 rfl ?_
  refine lv_astore_n (lv' := [(1, .ref ea), (0, .ref a)]) hx hb dJ8_pollFirst_5 rfl hl (by decide) rfl (fun ls hl => ?_)
  refine lv_aload_n hx hb dJ8_pollFirst_6 rfl (lv_at hl 1 rfl) ?_
  refine mx_get (T := TJ8) (v := .int (nI h)) X w in_J8 (ci := 11) rfl 1 (by decide) q430 (fun _ h => h) h_a rfl dJ8_pollFirst_7 ?_
  refine lv_dup hx hb dJ8_pollFirst_10 rfl ?_
  refine lv_istore_n (lv' := [(2, .int (nI h)), (1, .ref ea), (0, .ref a)]) hx hb dJ8_pollFirst_11 rfl hl (by decide) rfl (fun ls hl => ?_)
  refine mx_bq w (va_runS (As := [.ref ea, .int (nI h)]) (rest := []) X (jt_dq_at l G A M1 ea h g x h_ea (by first | omega | assumption) (by first | omega | assumption)) (va_cwS 2 X.2.2.2.2 (lw_S q797 q798 q108 q799) rfl rfl rfl (by decide +kernel) ⟨by rw [hRf]; decide, by rw [hRl]; decide⟩) (mx_preS w rfl) rfl rfl hl.1 rfl (lv_room (Nat.le_of_ble_eq_true rfl)) dJ8_pollFirst_12 ⟨Nat.zero_le _, Nat.zero_le _⟩) (fun r M9 H locs hp w => ?_)
  obtain ⟨eR, eM⟩ := hp; subst M9; subst eR
  refine lv_astore_n (lv' := [(3, .ref x), (2, .int (nI h)), (1, .ref ea), (0, .ref a)]) hx hb dJ8_pollFirst_15 rfl hl (by decide) rfl (fun ls hl => ?_)
  refine lv_aload_n hx hb dJ8_pollFirst_16 rfl (lv_at hl 0 rfl) ?_
  refine lv_ifnull hx hb dJ8_pollFirst_17 ?_
  refine lv_aload_n hx hb dJ8_pollFirst_20 rfl (lv_at hl 2 rfl) ?_
  refine lv_iload_n hx hb dJ8_pollFirst_21 rfl (lv_at hl 1 rfl) ?_
  refine lv_null hx hb dJ8_pollFirst_22 ?_
  refine mx_aastN X w 3 h_ea rfl h (by first | omega | decide) (by omega) dJ8_pollFirst_23 (fun H locs w => ?_)
  have w : mW G A s (va_up M1 ea (some (mRc (G.1.1 103) 17 (va_up g h none)))) H locs := w
  have h_a : (va_up M1 ea (some (mRc (G.1.1 103) 17 (va_up g h none)))) a = some (.inr (11, [.ref ea, .int (nI h), .int (nI t)])) := (va_up_k (by first | assumption | exact Ne.symm (by assumption))).trans h_a
  have h_ea : (va_up M1 ea (some (mRc (G.1.1 103) 17 (va_up g h none)))) ea = some (mRc (G.1.1 103) 17 (va_up g h none)) := va_up_s
  refine lv_aload_n hx hb dJ8_pollFirst_24 rfl (lv_at hl 3 rfl) ?_
  refine lv_iload_n hx hb dJ8_pollFirst_25 rfl (lv_at hl 1 rfl) ?_
  refine lv_aload_n hx hb dJ8_pollFirst_26 rfl (lv_at hl 2 rfl) ?_
  refine mx_alen X w 3 h_ea rfl dJ8_pollFirst_27 ?_
  refine mx_bi w (va_runS (As := [.int (nI h), .int (17 : Int32)]) (rest := [.ref a]) X (jt_dq_inc l G A (va_up M1 ea (some (mRc (G.1.1 103) 17 (va_up g h none)))) h  (by first | omega | assumption)) (va_cwS 2 X.2.2.2.2 (lw_S q767 q768 q108 q769) rfl rfl rfl (by decide +kernel) ⟨by rw [hRf]; decide, by rw [hRl]; decide⟩) (mx_preS w rfl) rfl rfl hl.1 rfl (lv_room (Nat.le_of_ble_eq_true rfl)) dJ8_pollFirst_28 ⟨Nat.zero_le _, Nat.zero_le _⟩) (fun r M9 H locs hp w => ?_)
  obtain ⟨eR, eM⟩ := hp; subst M9; subst eR
  refine mx_put (T := TJ8) X w in_J8 tyJ8 tyJ8_ok nmJ8 (ci := 11) rfl 1 (by decide) q430 (fun _ h => h) rfl (v := .int (nI ((h + 1) % 17))) rfl rfl h_a (show 1 < 3 by decide) dJ8_pollFirst_31 (fun H locs w => ?_)
  have w : mW G A s (va_up (va_up M1 ea (some (mRc (G.1.1 103) 17 (va_up g h none)))) a (some (.inr (11, [.ref ea, .int (nI ((h + 1) % 17)), .int (nI t)])))) H locs := w
  have h_ea : (va_up (va_up M1 ea (some (mRc (G.1.1 103) 17 (va_up g h none)))) a (some (.inr (11, [.ref ea, .int (nI ((h + 1) % 17)), .int (nI t)])))) ea = some (mRc (G.1.1 103) 17 (va_up g h none)) := (va_up_k (by first | assumption | exact Ne.symm (by assumption))).trans h_ea
  have h_a : (va_up (va_up M1 ea (some (mRc (G.1.1 103) 17 (va_up g h none)))) a (some (.inr (11, [.ref ea, .int (nI ((h + 1) % 17)), .int (nI t)])))) a = some (.inr (11, [.ref ea, .int (nI ((h + 1) % 17)), .int (nI t)])) := va_up_s
  refine lv_aload_n hx hb dJ8_pollFirst_34 rfl (lv_at hl 0 rfl) ?_
  exact fin (some x) _ H locs ls 35 dJ8_pollFirst_35 ⟨rfl, rfl⟩ w
set_option maxHeartbeats 4000000 in
set_option maxRecDepth 100000 in
theorem jt_dq_pollL (l : Launch) (G : mg) (A : Nat → Prop) (M1 : mh) (a : Nat) (ea : Nat) (h : Nat) (t : Nat) (g : Nat → Option Nat) (x : Nat) (h_a : M1 a = some (.inr (11, [.ref ea, .int (nI h), .int (nI t)]))) (h_ea : M1 ea = some (mRc (G.1.1 103) 17 g))  (hh : h < 17) (ht : t < 17) (hgx : g ((t + 16) % 17) = some x) : Met l yJ8_pollLast (ws_ yJ8_pollLast cJ8_pollLast 4 (some (.object "java/lang/Object"))) ({ frames := 1, cells := 0, slots := 0, locals := 21 }) (va_Pc [.ref a] (mU G A (fun M => M = M1))) (mQq G A (fun r M => r = some x ∧ M = (va_up (va_up M1 a (some (.inr (11, [.ref ea, .int (nI h), .int (nI ((t + 16) % 17))])))) ea (some (mRc (G.1.1 103) 17 (va_up g ((t + 16) % 17) none)))))) 0 0 A := by
  refine mx_ofq (Or.inl ⟨_, rfl⟩) (by decide) (Nat.le_of_ble_eq_true rfl) ?_
  intro p e R s m av below meth c M H Q ls X hRf hRl hRc hRs hin eM w fin hl
  subst M
  have X : CallFix p m c cJ8_pollLast 4 s av lw_all "java/util/ArrayDeque" := X
  have hx := X.1
  have hb := X.2.1
  have hl : lv_has ls 4 [(0, .ref a)] := hl
  have hRf : R.frames = 1 := hRf
  have hRl : R.locals = 21 := hRl
  have hRc : R.cells = 0 := hRc
  have hRs : R.slots = 0 := hRs
  have n_a_ea : a ≠ ea := fun e => by rw [e, h_ea] at h_a; simp at h_a
  generalize ([] : List Loc) = locs at w ⊢
  refine lv_aload_n hx hb dJ8_pollLast_0 rfl (lv_at hl 0 rfl) ?_
  refine mx_get (T := TJ8) (v := .ref ea) X w in_J8 (ci := 11) rfl 0 (by decide) q429 (fun _ h => h) h_a rfl dJ8_pollLast_1 ?_
  refine lv_dup hx hb dJ8_pollLast_4 rfl ?_
  refine lv_astore_n (lv' := [(1, .ref ea), (0, .ref a)]) hx hb dJ8_pollLast_5 rfl hl (by decide) rfl (fun ls hl => ?_)
  refine lv_aload_n hx hb dJ8_pollLast_6 rfl (lv_at hl 1 rfl) ?_
  refine mx_get (T := TJ8) (v := .int (nI t)) X w in_J8 (ci := 11) rfl 2 (by decide) q431 (fun _ h => h) h_a rfl dJ8_pollLast_7 ?_
  refine lv_aload_n hx hb dJ8_pollLast_10 rfl (lv_at hl 0 rfl) ?_
  refine mx_alen X w 3 h_ea rfl dJ8_pollLast_11 ?_
  refine mx_bi w (va_runS (As := [.int (nI t), .int (17 : Int32)]) (rest := [.ref ea]) X (jt_dq_dec l G A M1 t  (by first | omega | assumption)) (va_cwS 2 X.2.2.2.2 (lw_S q1771 q1772 q108 q1773) rfl rfl rfl (by decide +kernel) ⟨by rw [hRf]; decide, by rw [hRl]; decide⟩) (mx_preS w rfl) rfl rfl hl.1 rfl (lv_room (Nat.le_of_ble_eq_true rfl)) dJ8_pollLast_12 ⟨Nat.zero_le _, Nat.zero_le _⟩) (fun r M9 H locs hp w => ?_)
  obtain ⟨eR, eM⟩ := hp; subst M9; subst eR
  refine lv_dup hx hb dJ8_pollLast_15 rfl ?_
  refine lv_istore_n (lv' := [(2, .int (nI ((t + 16) % 17))), (1, .ref ea), (0, .ref a)]) hx hb dJ8_pollLast_16 rfl hl (by decide) rfl (fun ls hl => ?_)
  refine mx_bq w (va_runS (As := [.ref ea, .int (nI ((t + 16) % 17))]) (rest := []) X (jt_dq_at l G A M1 ea ((t + 16) % 17) g x h_ea (by first | omega | assumption) (by first | omega | assumption)) (va_cwS 2 X.2.2.2.2 (lw_S q797 q798 q108 q799) rfl rfl rfl (by decide +kernel) ⟨by rw [hRf]; decide, by rw [hRl]; decide⟩) (mx_preS w rfl) rfl rfl hl.1 rfl (lv_room (Nat.le_of_ble_eq_true rfl)) dJ8_pollLast_17 ⟨Nat.zero_le _, Nat.zero_le _⟩) (fun r M9 H locs hp w => ?_)
  obtain ⟨eR, eM⟩ := hp; subst M9; subst eR
  refine lv_astore_n (lv' := [(3, .ref x), (2, .int (nI ((t + 16) % 17))), (1, .ref ea), (0, .ref a)]) hx hb dJ8_pollLast_20 rfl hl (by decide) rfl (fun ls hl => ?_)
  refine lv_aload_n hx hb dJ8_pollLast_21 rfl (lv_at hl 0 rfl) ?_
  refine lv_ifnull hx hb dJ8_pollLast_22 ?_
  refine lv_aload_n hx hb dJ8_pollLast_25 rfl (lv_at hl 2 rfl) ?_
  refine lv_aload_n hx hb dJ8_pollLast_26 rfl (lv_at hl 3 rfl) ?_
  refine lv_iload_n hx hb dJ8_pollLast_27 rfl (lv_at hl 1 rfl) ?_
  refine lv_dup_x1 hx hb dJ8_pollLast_28 rfl rfl ?_
  refine mx_put (T := TJ8) X w in_J8 tyJ8 tyJ8_ok nmJ8 (ci := 11) rfl 2 (by decide) q431 (fun _ h => h) rfl (v := .int (nI ((t + 16) % 17))) rfl rfl h_a (show 2 < 3 by decide) dJ8_pollLast_29 (fun H locs w => ?_)
  have w : mW G A s (va_up M1 a (some (.inr (11, [.ref ea, .int (nI h), .int (nI ((t + 16) % 17))])))) H locs := w
  have h_ea : (va_up M1 a (some (.inr (11, [.ref ea, .int (nI h), .int (nI ((t + 16) % 17))])))) ea = some (mRc (G.1.1 103) 17 g) := (va_up_k (by first | assumption | exact Ne.symm (by assumption))).trans h_ea
  have h_a : (va_up M1 a (some (.inr (11, [.ref ea, .int (nI h), .int (nI ((t + 16) % 17))])))) a = some (.inr (11, [.ref ea, .int (nI h), .int (nI ((t + 16) % 17))])) := va_up_s
  refine lv_null hx hb dJ8_pollLast_32 ?_
  refine mx_aastN X w 3 h_ea rfl ((t + 16) % 17) (by first | omega | decide) (by omega) dJ8_pollLast_33 (fun H locs w => ?_)
  have w : mW G A s (va_up (va_up M1 a (some (.inr (11, [.ref ea, .int (nI h), .int (nI ((t + 16) % 17))])))) ea (some (mRc (G.1.1 103) 17 (va_up g ((t + 16) % 17) none)))) H locs := w
  have h_a : (va_up (va_up M1 a (some (.inr (11, [.ref ea, .int (nI h), .int (nI ((t + 16) % 17))])))) ea (some (mRc (G.1.1 103) 17 (va_up g ((t + 16) % 17) none)))) a = some (.inr (11, [.ref ea, .int (nI h), .int (nI ((t + 16) % 17))])) := (va_up_k (by first | assumption | exact Ne.symm (by assumption))).trans h_a
  have h_ea : (va_up (va_up M1 a (some (.inr (11, [.ref ea, .int (nI h), .int (nI ((t + 16) % 17))])))) ea (some (mRc (G.1.1 103) 17 (va_up g ((t + 16) % 17) none)))) ea = some (mRc (G.1.1 103) 17 (va_up g ((t + 16) % 17) none)) := va_up_s
  refine lv_aload_n hx hb dJ8_pollLast_34 rfl (lv_at hl 0 rfl) ?_
  exact fin (some x) _ H locs ls 35 dJ8_pollLast_35 ⟨rfl, rfl⟩ w
set_option maxHeartbeats 4000000 in
set_option maxRecDepth 100000 in
theorem jt_dq_remF (l : Launch) (G : mg) (A : Nat → Prop) (M1 : mh) (a : Nat) (ea : Nat) (h : Nat) (t : Nat) (g : Nat → Option Nat) (x : Nat) (h_a : M1 a = some (.inr (11, [.ref ea, .int (nI h), .int (nI t)]))) (h_ea : M1 ea = some (mRc (G.1.1 103) 17 g))  (hh : h < 17) (ht : t < 17) (hgx : g h = some x) : Met l yJ8_removeFirst (ws_ yJ8_removeFirst cJ8_removeFirst 2 (some (.object "java/lang/Object"))) ({ frames := 2, cells := 0, slots := 0, locals := 44 }) (va_Pc [.ref a] (mU G A (fun M => M = M1))) (mQq G A (fun r M => r = some x ∧ M = (va_up (va_up M1 ea (some (mRc (G.1.1 103) 17 (va_up g h none)))) a (some (.inr (11, [.ref ea, .int (nI ((h + 1) % 17)), .int (nI t)])))))) 0 0 A := by
  refine mx_ofq (Or.inl ⟨_, rfl⟩) (by decide) (Nat.le_of_ble_eq_true rfl) ?_
  intro p e R s m av below meth c M H Q ls X hRf hRl hRc hRs hin eM w fin hl
  subst M
  have X : CallFix p m c cJ8_removeFirst 2 s av lw_all "java/util/ArrayDeque" := X
  have hx := X.1
  have hb := X.2.1
  have hl : lv_has ls 2 [(0, .ref a)] := hl
  have hRf : R.frames = 2 := hRf
  have hRl : R.locals = 44 := hRl
  have hRc : R.cells = 0 := hRc
  have hRs : R.slots = 0 := hRs
  have n_a_ea : a ≠ ea := fun e => by rw [e, h_ea] at h_a; simp at h_a
  generalize ([] : List Loc) = locs at w ⊢
  refine lv_aload_n hx hb dJ8_removeFirst_0 rfl (lv_at hl 0 rfl) ?_
  refine mx_bq w (va_runV (As := []) (rest := []) X (jt_dq_pollF l G A M1 a ea h t g x h_a h_ea (by first | omega | assumption) (by first | omega | assumption) (by first | omega | assumption)) (cwV 0 X.2.2.2.2 (lw_V q793 q794 q795 q108 q796) rfl rfl rfl (by decide +kernel) ⟨by rw [hRf]; decide, by rw [hRl]; decide⟩) (mx_preV w rfl h_a rfl) rfl rfl hl.1 rfl (lv_room (Nat.le_of_ble_eq_true rfl)) dJ8_removeFirst_1 ⟨Nat.zero_le _, Nat.zero_le _⟩) (fun r M9 H locs hp w => ?_)
  obtain ⟨eR, eM⟩ := hp; subst M9; subst eR
  have h_a : (va_up M1 ea (some (mRc (G.1.1 103) 17 (va_up g h none)))) a = some (.inr (11, [.ref ea, .int (nI h), .int (nI t)])) := (va_up_k (by first | assumption | exact Ne.symm (by assumption))).trans h_a
  have h_ea : (va_up M1 ea (some (mRc (G.1.1 103) 17 (va_up g h none)))) ea = some (mRc (G.1.1 103) 17 (va_up g h none)) := va_up_s
  have h_ea : (va_up (va_up M1 ea (some (mRc (G.1.1 103) 17 (va_up g h none)))) a (some (.inr (11, [.ref ea, .int (nI ((h + 1) % 17)), .int (nI t)])))) ea = some (mRc (G.1.1 103) 17 (va_up g h none)) := (va_up_k (by first | assumption | exact Ne.symm (by assumption))).trans h_ea
  have h_a : (va_up (va_up M1 ea (some (mRc (G.1.1 103) 17 (va_up g h none)))) a (some (.inr (11, [.ref ea, .int (nI ((h + 1) % 17)), .int (nI t)])))) a = some (.inr (11, [.ref ea, .int (nI ((h + 1) % 17)), .int (nI t)])) := va_up_s
  have w : mW G A s (va_up (va_up M1 ea (some (mRc (G.1.1 103) 17 (va_up g h none)))) a (some (.inr (11, [.ref ea, .int (nI ((h + 1) % 17)), .int (nI t)])))) H locs := w
  refine lv_astore_n (lv' := [(1, .ref x), (0, .ref a)]) hx hb dJ8_removeFirst_4 rfl hl (by decide) rfl (fun ls hl => ?_)
  refine lv_aload_n hx hb dJ8_removeFirst_5 rfl (lv_at hl 0 rfl) ?_
  refine lv_ifnonnull (tgt := 17) hx hb dJ8_removeFirst_6 (by decide) ?_
  refine lv_aload_n hx hb dJ8_removeFirst_17 rfl (lv_at hl 0 rfl) ?_
  exact fin (some x) _ H locs ls 18 dJ8_removeFirst_18 ⟨rfl, rfl⟩ w
set_option maxHeartbeats 4000000 in
set_option maxRecDepth 100000 in
theorem jt_dq_remL (l : Launch) (G : mg) (A : Nat → Prop) (M1 : mh) (a : Nat) (ea : Nat) (h : Nat) (t : Nat) (g : Nat → Option Nat) (x : Nat) (h_a : M1 a = some (.inr (11, [.ref ea, .int (nI h), .int (nI t)]))) (h_ea : M1 ea = some (mRc (G.1.1 103) 17 g))  (hh : h < 17) (ht : t < 17) (hgx : g ((t + 16) % 17) = some x) : Met l yJ8_removeLast (ws_ yJ8_removeLast cJ8_removeLast 2 (some (.object "java/lang/Object"))) ({ frames := 2, cells := 0, slots := 0, locals := 44 }) (va_Pc [.ref a] (mU G A (fun M => M = M1))) (mQq G A (fun r M => r = some x ∧ M = (va_up (va_up M1 a (some (.inr (11, [.ref ea, .int (nI h), .int (nI ((t + 16) % 17))])))) ea (some (mRc (G.1.1 103) 17 (va_up g ((t + 16) % 17) none)))))) 0 0 A := by
  refine mx_ofq (Or.inl ⟨_, rfl⟩) (by decide) (Nat.le_of_ble_eq_true rfl) ?_
  intro p e R s m av below meth c M H Q ls X hRf hRl hRc hRs hin eM w fin hl
  subst M
  have X : CallFix p m c cJ8_removeLast 2 s av lw_all "java/util/ArrayDeque" := X
  have hx := X.1
  have hb := X.2.1
  have hl : lv_has ls 2 [(0, .ref a)] := hl
  have hRf : R.frames = 2 := hRf
  have hRl : R.locals = 44 := hRl
  have hRc : R.cells = 0 := hRc
  have hRs : R.slots = 0 := hRs
  have n_a_ea : a ≠ ea := fun e => by rw [e, h_ea] at h_a; simp at h_a
  generalize ([] : List Loc) = locs at w ⊢
  refine lv_aload_n hx hb dJ8_removeLast_0 rfl (lv_at hl 0 rfl) ?_
  refine mx_bq w (va_runV (As := []) (rest := []) X (jt_dq_pollL l G A M1 a ea h t g x h_a h_ea (by first | omega | assumption) (by first | omega | assumption) (by first | omega | assumption)) (cwV 0 X.2.2.2.2 (lw_V q1767 q1768 q1769 q108 q1770) rfl rfl rfl (by decide +kernel) ⟨by rw [hRf]; decide, by rw [hRl]; decide⟩) (mx_preV w rfl h_a rfl) rfl rfl hl.1 rfl (lv_room (Nat.le_of_ble_eq_true rfl)) dJ8_removeLast_1 ⟨Nat.zero_le _, Nat.zero_le _⟩) (fun r M9 H locs hp w => ?_)
  obtain ⟨eR, eM⟩ := hp; subst M9; subst eR
  have h_ea : (va_up M1 a (some (.inr (11, [.ref ea, .int (nI h), .int (nI ((t + 16) % 17))])))) ea = some (mRc (G.1.1 103) 17 g) := (va_up_k (by first | assumption | exact Ne.symm (by assumption))).trans h_ea
  have h_a : (va_up M1 a (some (.inr (11, [.ref ea, .int (nI h), .int (nI ((t + 16) % 17))])))) a = some (.inr (11, [.ref ea, .int (nI h), .int (nI ((t + 16) % 17))])) := va_up_s
  have h_a : (va_up (va_up M1 a (some (.inr (11, [.ref ea, .int (nI h), .int (nI ((t + 16) % 17))])))) ea (some (mRc (G.1.1 103) 17 (va_up g ((t + 16) % 17) none)))) a = some (.inr (11, [.ref ea, .int (nI h), .int (nI ((t + 16) % 17))])) := (va_up_k (by first | assumption | exact Ne.symm (by assumption))).trans h_a
  have h_ea : (va_up (va_up M1 a (some (.inr (11, [.ref ea, .int (nI h), .int (nI ((t + 16) % 17))])))) ea (some (mRc (G.1.1 103) 17 (va_up g ((t + 16) % 17) none)))) ea = some (mRc (G.1.1 103) 17 (va_up g ((t + 16) % 17) none)) := va_up_s
  have w : mW G A s (va_up (va_up M1 a (some (.inr (11, [.ref ea, .int (nI h), .int (nI ((t + 16) % 17))])))) ea (some (mRc (G.1.1 103) 17 (va_up g ((t + 16) % 17) none)))) H locs := w
  refine lv_astore_n (lv' := [(1, .ref x), (0, .ref a)]) hx hb dJ8_removeLast_4 rfl hl (by decide) rfl (fun ls hl => ?_)
  refine lv_aload_n hx hb dJ8_removeLast_5 rfl (lv_at hl 0 rfl) ?_
  refine lv_ifnonnull (tgt := 17) hx hb dJ8_removeLast_6 (by decide) ?_
  refine lv_aload_n hx hb dJ8_removeLast_17 rfl (lv_at hl 0 rfl) ?_
  exact fin (some x) _ H locs ls 18 dJ8_removeLast_18 ⟨rfl, rfl⟩ w
set_option maxHeartbeats 4000000 in
set_option maxRecDepth 100000 in
theorem jt_dq_sub1 (l : Launch) (G : mg) (A : Nat → Prop) (M1 : mh) (t : Nat) (h : Nat)    (hht : h ≤ t) (ht : t < 17) : Met l yJ8_sub (ws_ yJ8_sub cJ8_sub 3 (some .int)) ({ frames := 0, cells := 0, slots := 0, locals := 0 }) (va_Pc [.int (nI t), .int (nI h), .int (17 : Int32)] (mU G A (fun M => M = M1))) (mQi G A (fun r M => r = (nI (t - h)) ∧ M = M1)) 0 0 A := by
  refine mx_ofi (by decide) (Nat.le_of_ble_eq_true rfl) ?_
  intro p e R s m av below meth c M H Q ls X hRf hRl hRc hRs hin eM w fin hl
  subst M
  have X : CallFix p m c cJ8_sub 3 s av lw_all "java/util/ArrayDeque" := X
  have hx := X.1
  have hb := X.2.1
  have hl : lv_has ls 3 [(0, .int (nI t)), (1, .int (nI h)), (2, .int (17 : Int32))] := hl
  have hRf : R.frames = 0 := hRf
  have hRl : R.locals = 0 := hRl
  have hRc : R.cells = 0 := hRc
  have hRs : R.slots = 0 := hRs
  generalize ([] : List Loc) = locs at w ⊢
  refine lv_iload_n hx hb dJ8_sub_0 rfl (lv_at hl 0 rfl) ?_
  refine lv_iload_n hx hb dJ8_sub_1 rfl (lv_at hl 1 rfl) ?_
  refine mx_nsub (u := t) (v := h) hx hb rfl rfl (by omega) dJ8_sub_2 ?_
  refine lv_dup hx hb dJ8_sub_3 rfl ?_
  refine lv_istore_n (lv' := [(0, .int (nI (t - h))), (1, .int (nI h)), (2, .int (17 : Int32))]) hx hb dJ8_sub_4 rfl hl (by decide) rfl (fun ls hl => ?_)
  refine lv_if_ge (tgt := 12) hx hb dJ8_sub_5 (by decide) (fun c_5 => ?_) (fun c_5 => absurd (Int32.not_lt.mp (nI_pos (by omega))) c_5)
  refine lv_iload_n hx hb dJ8_sub_12 rfl (lv_at hl 0 rfl) ?_
  exact fin (nI (t - h)) _ H locs ls 13 dJ8_sub_13 ⟨rfl, rfl⟩ w
set_option maxHeartbeats 4000000 in
set_option maxRecDepth 100000 in
theorem jt_dq_sub0 (l : Launch) (G : mg) (A : Nat → Prop) (M1 : mh) (t : Nat) (h : Nat)    (hht : t < h) (hh : h < 17) : Met l yJ8_sub (ws_ yJ8_sub cJ8_sub 3 (some .int)) ({ frames := 0, cells := 0, slots := 0, locals := 0 }) (va_Pc [.int (nI t), .int (nI h), .int (17 : Int32)] (mU G A (fun M => M = M1))) (mQi G A (fun r M => r = (((nI t) - (nI h)) + (17 : Int32)) ∧ M = M1)) 0 0 A := by
  refine mx_ofi (by decide) (Nat.le_of_ble_eq_true rfl) ?_
  intro p e R s m av below meth c M H Q ls X hRf hRl hRc hRs hin eM w fin hl
  subst M
  have X : CallFix p m c cJ8_sub 3 s av lw_all "java/util/ArrayDeque" := X
  have hx := X.1
  have hb := X.2.1
  have hl : lv_has ls 3 [(0, .int (nI t)), (1, .int (nI h)), (2, .int (17 : Int32))] := hl
  have hRf : R.frames = 0 := hRf
  have hRl : R.locals = 0 := hRl
  have hRc : R.cells = 0 := hRc
  have hRs : R.slots = 0 := hRs
  generalize ([] : List Loc) = locs at w ⊢
  refine lv_iload_n hx hb dJ8_sub_0 rfl (lv_at hl 0 rfl) ?_
  refine lv_iload_n hx hb dJ8_sub_1 rfl (lv_at hl 1 rfl) ?_
  refine lv_isub hx hb dJ8_sub_2 ?_
  refine lv_dup hx hb dJ8_sub_3 rfl ?_
  refine lv_istore_n (lv' := [(0, .int ((nI t) - (nI h))), (1, .int (nI h)), (2, .int (17 : Int32))]) hx hb dJ8_sub_4 rfl hl (by decide) rfl (fun ls hl => ?_)
  refine lv_if_ge (tgt := 12) hx hb dJ8_sub_5 (by decide) (fun c_5 => absurd c_5 (dq_neg hht hh)) (fun c_5 => ?_)
  refine lv_iload_n hx hb dJ8_sub_8 rfl (lv_at hl 0 rfl) ?_
  refine lv_iload_n hx hb dJ8_sub_9 rfl (lv_at hl 2 rfl) ?_
  refine lv_iadd hx hb dJ8_sub_10 ?_
  refine lv_istore_n (lv' := [(0, .int (((nI t) - (nI h)) + (17 : Int32))), (1, .int (nI h)), (2, .int (17 : Int32))]) hx hb dJ8_sub_11 rfl hl (by decide) rfl (fun ls hl => ?_)
  refine lv_iload_n hx hb dJ8_sub_12 rfl (lv_at hl 0 rfl) ?_
  exact fin (((nI t) - (nI h)) + (17 : Int32)) _ H locs ls 13 dJ8_sub_13 ⟨rfl, rfl⟩ w
set_option maxHeartbeats 4000000 in
set_option maxRecDepth 100000 in
theorem jt_dq_emp1 (l : Launch) (G : mg) (A : Nat → Prop) (M1 : mh) (a : Nat) (ea : Nat) (h : Nat) (t : Nat) (h_a : M1 a = some (.inr (11, [.ref ea, .int (nI h), .int (nI t)])))  (hh : h < 17) (ht : t < 17) (hne : ¬ h = t) : Met l yJ8_isEmpty (ws_ yJ8_isEmpty cJ8_isEmpty 1 (some .boolean)) ({ frames := 0, cells := 0, slots := 0, locals := 0 }) (va_Pc [.ref a] (mU G A (fun M => M = M1))) (mQi G A (fun r M => r = bI false ∧ M = M1)) 0 0 A := by
  refine mx_ofz (by decide) (Nat.le_of_ble_eq_true rfl) ?_
  intro p e R s m av below meth c M H Q ls X hRf hRl hRc hRs hin eM w fin hl
  subst M
  have X : CallFix p m c cJ8_isEmpty 1 s av lw_all "java/util/ArrayDeque" := X
  have hx := X.1
  have hb := X.2.1
  have hl : lv_has ls 1 [(0, .ref a)] := hl
  have hRf : R.frames = 0 := hRf
  have hRl : R.locals = 0 := hRl
  have hRc : R.cells = 0 := hRc
  have hRs : R.slots = 0 := hRs
  generalize ([] : List Loc) = locs at w ⊢
  refine lv_aload_n hx hb dJ8_isEmpty_0 rfl (lv_at hl 0 rfl) ?_
  refine mx_get (T := TJ8) (v := .int (nI h)) X w in_J8 (ci := 11) rfl 1 (by decide) q430 (fun _ h => h) h_a rfl dJ8_isEmpty_1 ?_
  refine lv_aload_n hx hb dJ8_isEmpty_4 rfl (lv_at hl 0 rfl) ?_
  refine mx_get (T := TJ8) (v := .int (nI t)) X w in_J8 (ci := 11) rfl 2 (by decide) q431 (fun _ h => h) h_a rfl dJ8_isEmpty_5 ?_
  refine mx_nne (u := h) (v := t) (tgt := 15) hx hb rfl rfl (by omega) (by omega) dJ8_isEmpty_8 (by decide) (fun c_8 => ?_) (fun c_8 => absurd c_8 (hne))
  refine lv_iconst (v := (0 : Int32)) hx hb dJ8_isEmpty_15 (by decide) ?_
  exact fin false _ H locs ls 16 dJ8_isEmpty_16 ⟨rfl, rfl⟩ w
set_option maxHeartbeats 4000000 in
set_option maxRecDepth 100000 in
theorem jt_dq_emp0 (l : Launch) (G : mg) (A : Nat → Prop) (M1 : mh) (a : Nat) (ea : Nat) (h : Nat) (t : Nat) (h_a : M1 a = some (.inr (11, [.ref ea, .int (nI h), .int (nI t)])))  (hh : h < 17) (ht : t < 17) (hne : h = t) : Met l yJ8_isEmpty (ws_ yJ8_isEmpty cJ8_isEmpty 1 (some .boolean)) ({ frames := 0, cells := 0, slots := 0, locals := 0 }) (va_Pc [.ref a] (mU G A (fun M => M = M1))) (mQi G A (fun r M => r = bI true ∧ M = M1)) 0 0 A := by
  refine mx_ofz (by decide) (Nat.le_of_ble_eq_true rfl) ?_
  intro p e R s m av below meth c M H Q ls X hRf hRl hRc hRs hin eM w fin hl
  subst M
  have X : CallFix p m c cJ8_isEmpty 1 s av lw_all "java/util/ArrayDeque" := X
  have hx := X.1
  have hb := X.2.1
  have hl : lv_has ls 1 [(0, .ref a)] := hl
  have hRf : R.frames = 0 := hRf
  have hRl : R.locals = 0 := hRl
  have hRc : R.cells = 0 := hRc
  have hRs : R.slots = 0 := hRs
  generalize ([] : List Loc) = locs at w ⊢
  refine lv_aload_n hx hb dJ8_isEmpty_0 rfl (lv_at hl 0 rfl) ?_
  refine mx_get (T := TJ8) (v := .int (nI h)) X w in_J8 (ci := 11) rfl 1 (by decide) q430 (fun _ h => h) h_a rfl dJ8_isEmpty_1 ?_
  refine lv_aload_n hx hb dJ8_isEmpty_4 rfl (lv_at hl 0 rfl) ?_
  refine mx_get (T := TJ8) (v := .int (nI t)) X w in_J8 (ci := 11) rfl 2 (by decide) q431 (fun _ h => h) h_a rfl dJ8_isEmpty_5 ?_
  refine mx_nne (u := h) (v := t) (tgt := 15) hx hb rfl rfl (by omega) (by omega) dJ8_isEmpty_8 (by decide) (fun c_8 => absurd (hne) c_8) (fun c_8 => ?_)
  refine lv_iconst (v := (1 : Int32)) hx hb dJ8_isEmpty_11 (by decide) ?_
  refine lv_goto (tgt := 16) hx hb dJ8_isEmpty_12 (by decide) ?_
  exact fin true _ H locs ls 16 dJ8_isEmpty_16 ⟨rfl, rfl⟩ w
theorem jt_dq_sub (l : Launch) (G : mg) (A : Nat → Prop) (M1 : mh) (t : Nat) (h : Nat)    (ht : t < 17) (hh : h < 17) : Met l yJ8_sub (ws_ yJ8_sub cJ8_sub 3 (some .int)) ({ frames := 0, cells := 0, slots := 0, locals := 0 }) (va_Pc [.int (nI t), .int (nI h), .int (17 : Int32)] (mU G A (fun M => M = M1))) (mQi G A (fun r M => r = nI ((t + 17 - h) % 17) ∧ M = M1)) 0 0 A := by
  by_cases c : t < h
  · have e : (t + 17 - h) % 17 = t + 17 - h := Nat.mod_eq_of_lt (by omega)
    rw [e, ← dq_sw c hh]
    exact jt_dq_sub0 l G A M1 t h c hh
  · have e : (t + 17 - h) % 17 = t - h := by omega
    rw [e]
    exact jt_dq_sub1 l G A M1 t h (by omega) ht
theorem jt_dq_emp (l : Launch) (G : mg) (A : Nat → Prop) (M1 : mh) (a : Nat) (ea : Nat) (h : Nat) (t : Nat) (h_a : M1 a = some (.inr (11, [.ref ea, .int (nI h), .int (nI t)])))  (hh : h < 17) (ht : t < 17)  : Met l yJ8_isEmpty (ws_ yJ8_isEmpty cJ8_isEmpty 1 (some .boolean)) ({ frames := 0, cells := 0, slots := 0, locals := 0 }) (va_Pc [.ref a] (mU G A (fun M => M = M1))) (mQi G A (fun r M => r = bI (decide (h = t)) ∧ M = M1)) 0 0 A := by
  by_cases c : h = t
  · rw [decide_eq_true c]
    exact jt_dq_emp0 l G A M1 a ea h t h_a hh ht c
  · rw [decide_eq_false c]
    exact jt_dq_emp1 l G A M1 a ea h t h_a hh ht c
set_option maxHeartbeats 4000000 in
set_option maxRecDepth 100000 in
theorem jt_dq_size (l : Launch) (G : mg) (A : Nat → Prop) (M1 : mh) (a : Nat) (ea : Nat) (h : Nat) (t : Nat) (g : Nat → Option Nat) (h_a : M1 a = some (.inr (11, [.ref ea, .int (nI h), .int (nI t)]))) (h_ea : M1 ea = some (mRc (G.1.1 103) 17 g))  (hh : h < 17) (ht : t < 17) : Met l yJ8_size (ws_ yJ8_size cJ8_size 1 (some .int)) ({ frames := 1, cells := 0, slots := 0, locals := 22 }) (va_Pc [.ref a] (mU G A (fun M => M = M1))) (mQi G A (fun r M => r = (nI ((t + 17 - h) % 17)) ∧ M = M1)) 0 0 A := by
  refine mx_ofi (by decide) (Nat.le_of_ble_eq_true rfl) ?_
  intro p e R s m av below meth c M H Q ls X hRf hRl hRc hRs hin eM w fin hl
  subst M
  have X : CallFix p m c cJ8_size 1 s av lw_all "java/util/ArrayDeque" := X
  have hx := X.1
  have hb := X.2.1
  have hl : lv_has ls 1 [(0, .ref a)] := hl
  have hRf : R.frames = 1 := hRf
  have hRl : R.locals = 22 := hRl
  have hRc : R.cells = 0 := hRc
  have hRs : R.slots = 0 := hRs
  have n_a_ea : a ≠ ea := fun e => by rw [e, h_ea] at h_a; simp at h_a
  generalize ([] : List Loc) = locs at w ⊢
  refine lv_aload_n hx hb dJ8_size_0 rfl (lv_at hl 0 rfl) ?_
  refine mx_get (T := TJ8) (v := .int (nI t)) X w in_J8 (ci := 11) rfl 2 (by decide) q431 (fun _ h => h) h_a rfl dJ8_size_1 ?_
  refine lv_aload_n hx hb dJ8_size_4 rfl (lv_at hl 0 rfl) ?_
  refine mx_get (T := TJ8) (v := .int (nI h)) X w in_J8 (ci := 11) rfl 1 (by decide) q430 (fun _ h => h) h_a rfl dJ8_size_5 ?_
  refine lv_aload_n hx hb dJ8_size_8 rfl (lv_at hl 0 rfl) ?_
  refine mx_get (T := TJ8) (v := .ref ea) X w in_J8 (ci := 11) rfl 0 (by decide) q429 (fun _ h => h) h_a rfl dJ8_size_9 ?_
  refine mx_alen X w 3 h_ea rfl dJ8_size_12 ?_
  refine mx_bi w (va_runS (As := [.int (nI t), .int (nI h), .int (17 : Int32)]) (rest := []) X (jt_dq_sub l G A M1 t h  (by first | omega | assumption) (by first | omega | assumption)) (va_cwS 3 X.2.2.2.2 (lw_S q786 q787 q108 q788) rfl rfl rfl (by decide +kernel) ⟨by rw [hRf]; decide, by rw [hRl]; decide⟩) (mx_preS w rfl) rfl rfl hl.1 rfl (lv_room (Nat.le_of_ble_eq_true rfl)) dJ8_size_13 ⟨Nat.zero_le _, Nat.zero_le _⟩) (fun r M9 H locs hp w => ?_)
  obtain ⟨eR, eM⟩ := hp; subst M9; subst eR
  exact fin (nI ((t + 17 - h) % 17)) _ H locs ls 16 dJ8_size_16 ⟨rfl, rfl⟩ w
