set_option maxRecDepth 100000
/-! C5 -/
def cf_rank_19 (f : (Nat → Int32)) (k : Nat) (bs0_19 : Bool) : Int32 := (bI bs0_19)
def cf_rank (f : (Nat → Int32)) (k : Nat) : Int32 := (if (bI (isJo f k)) = (f 171) then (cf_rank_19 f k false) else (cf_rank_19 f k true))
set_option maxHeartbeats 4000000 in
set_option maxRecDepth 100000 in
theorem ct_rank (l : Launch) (G : mg) (A : Nat → Prop) (ad : Nat → Nat) (np ng : Nat) (M0 M1 : mh) (f : Nat → Int32) (k : Nat)  (hM : Sta G ad np ng M0 M1 f) (hk : k < np) : Met l yX3_rank (ws_ yX3_rank cX3_rank 2 (some .int)) ({ frames := 0, cells := 0, slots := 0, locals := 0 }) (va_Pc [.ref (ad 19), .ref (ad (20 + k))] (mU G A (fun M => M = M1))) (mQi G A (fun r M => r = cf_rank f k ∧ M = M1)) 0 0 A := by
  refine mx_ofi (by decide) (Nat.le_of_ble_eq_true rfl) ?_
  intro p e R s m av below meth c M H Q ls X hRf hRl hRc hRs hin eM w fin hl
  subst M
  have X : CallFix p m c cX3_rank 2 s av lw_all "FieldPumps$Station$1" := X
  have hx := X.1
  have hb := X.2.1
  have hl : lv_has ls 2 [(0, .ref (ad 19)), (1, .ref (ad (20 + k)))] := hl
  have hRf : R.frames = 0 := hRf
  have hRl : R.locals = 0 := hRl
  have hRc : R.cells = 0 := hRc
  have hRs : R.slots = 0 := hRs
  have hcp := hM.cnp
  have hn6 := hM.n6
  have hg8 := hM.g8
  generalize ([] : List Loc) = locs at w ⊢
  generalize E : cf_rank f k = z at fin
  rw [cf_rank] at E
  refine lv_aload_n hx hb dX3_rank_0 rfl (lv_at hl 1 rfl) ?_
  refine st_instJ X w hM (by first | omega | assumption) q980 dX3_rank_1 ?_
  refine lv_aload_n hx hb dX3_rank_4 rfl (lv_at hl 0 rfl) ?_
  refine mx_get (v := .ref (ad 0)) X w in_X3 (ci := 2) rfl 0 (by decide) q210 (fun _ h => h) hM.c19 rfl dX3_rank_5 ?_
  refine mx_getN (v := .int (f 171)) X w in_X1 (ci := 1) rfl 14 (by decide) (w.tblB q317 rfl rfl) (fun _ h => h) hM.st rfl dX3_rank_8 ?_
  have J19 : ∀ (bs0_19 : Bool) (M : mh) (H : Heap) (locs : List Loc) (ls : Array Slot), cf_rank_19 f k bs0_19 = z → lv_has ls 2 [] → mW G A s M H locs → M = M1 → W p l e R s m av below meth c H locs 0 0 Q (F0 m 19 ls [.int (bI bs0_19)]) := by
    intro bs0_19 M H locs ls  E hl w eM
    subst M
    rw [cf_rank_19] at E
    exact fin (bI bs0_19) M1 H locs ls 19 dX3_rank_19 ⟨E, rfl⟩ w
  refine lv_icmp_ne (tgt := 18) hx hb dX3_rank_11 (by decide) (fun c_11 => ?_) (fun c_11 => ?_)
  · rw [if_neg c_11] at E
    refine lv_iconst (v := (1 : Int32)) hx hb dX3_rank_18 (by decide) ?_
    exact J19 true M1 H locs ls E (lv_sub hl [] rfl) w rfl
  · rw [if_pos c_11] at E
    refine lv_iconst (v := (0 : Int32)) hx hb dX3_rank_14 (by decide) ?_
    refine lv_goto (tgt := 19) hx hb dX3_rank_15 (by decide) ?_
    exact J19 false M1 H locs ls E (lv_sub hl [] rfl) w rfl
def cf_cmpP_50 (f : (Nat → Int32)) (k : Nat) (k2 : Nat) (is0_50 : Int32) : Int32 := is0_50
def cf_cmpP (f : (Nat → Int32)) (k : Nat) (k2 : Nat) : Int32 := (if ((cf_rank f k) - (cf_rank f k2)) = 0 then (if ((f (39 + (8 * k) + 5)) - (f (39 + (8 * k2) + 5))) = 0 then (cf_cmpP_50 f k k2 ((nI k) - (nI k2))) else (cf_cmpP_50 f k k2 ((f (39 + (8 * k) + 5)) - (f (39 + (8 * k2) + 5))))) else (cf_cmpP_50 f k k2 ((cf_rank f k) - (cf_rank f k2))))
set_option maxHeartbeats 4000000 in
set_option maxRecDepth 100000 in
theorem ct_cmpP (l : Launch) (G : mg) (A : Nat → Prop) (ad : Nat → Nat) (np ng : Nat) (M0 M1 : mh) (f : Nat → Int32) (k : Nat) (k2 : Nat)  (hM : Sta G ad np ng M0 M1 f) (hk : k < np) (hk2 : k2 < np) : Met l yX3_compare_2 (ws_ yX3_compare_2 cX3_compare_2 5 (some .int)) ({ frames := 1, cells := 0, slots := 0, locals := 21 }) (va_Pc [.ref (ad 19), .ref (ad (20 + k)), .ref (ad (20 + k2))] (mU G A (fun M => M = M1))) (mQi G A (fun r M => r = cf_cmpP f k k2 ∧ M = M1)) 0 0 A := by
  refine mx_ofi (by decide) (Nat.le_of_ble_eq_true rfl) ?_
  intro p e R s m av below meth c M H Q ls X hRf hRl hRc hRs hin eM w fin hl
  subst M
  have X : CallFix p m c cX3_compare_2 5 s av lw_all "FieldPumps$Station$1" := X
  have hx := X.1
  have hb := X.2.1
  have hl : lv_has ls 5 [(0, .ref (ad 19)), (1, .ref (ad (20 + k))), (2, .ref (ad (20 + k2)))] := hl
  have hRf : R.frames = 1 := hRf
  have hRl : R.locals = 21 := hRl
  have hRc : R.cells = 0 := hRc
  have hRs : R.slots = 0 := hRs
  have hcp := hM.cnp
  have hn6 := hM.n6
  have hg8 := hM.g8
  generalize ([] : List Loc) = locs at w ⊢
  generalize E : cf_cmpP f k k2 = z at fin
  rw [cf_cmpP] at E
  refine lv_aload_n hx hb dX3_compare_2_0 rfl (lv_at hl 0 rfl) ?_
  refine lv_aload_n hx hb dX3_compare_2_1 rfl (lv_at hl 1 rfl) ?_
  refine mx_bi w (va_runV (As := [.ref (ad (20 + k))]) (rest := []) X (ct_rank l G A ad np ng M0 M1 f k hM (by first | omega | assumption)) (cwV 1 X.2.2.2.2 (lw_V q976 q978 qs13 q105 q979) rfl rfl rfl (by decide +kernel) ⟨by rw [hRf]; decide, by rw [hRl]; decide⟩) (mx_preV w rfl hM.c19 rfl) rfl rfl hl.1 rfl (lv_room (Nat.le_of_ble_eq_true rfl)) dX3_compare_2_2 ⟨Nat.zero_le _, Nat.zero_le _⟩) (fun r M9 H locs hp w => ?_)
  obtain ⟨rfl, eM⟩ := hp; subst M9
  refine lv_aload_n hx hb dX3_compare_2_5 rfl (lv_at hl 0 rfl) ?_
  refine lv_aload_n hx hb dX3_compare_2_6 rfl (lv_at hl 2 rfl) ?_
  refine mx_bi w (va_runV (As := [.ref (ad (20 + k2))]) (rest := [.int (cf_rank f k)]) X (ct_rank l G A ad np ng M0 M1 f k2 hM (by first | omega | assumption)) (cwV 1 X.2.2.2.2 (lw_V q976 q978 qs13 q105 q979) rfl rfl rfl (by decide +kernel) ⟨by rw [hRf]; decide, by rw [hRl]; decide⟩) (mx_preV w rfl hM.c19 rfl) rfl rfl hl.1 rfl (lv_room (Nat.le_of_ble_eq_true rfl)) dX3_compare_2_7 ⟨Nat.zero_le _, Nat.zero_le _⟩) (fun r M9 H locs hp w => ?_)
  obtain ⟨rfl, eM⟩ := hp; subst M9
  refine lv_isub hx hb dX3_compare_2_10 ?_
  refine lv_istore_n (lv' := [(3, .int ((cf_rank f k) - (cf_rank f k2))), (0, .ref (ad 19)), (1, .ref (ad (20 + k))), (2, .ref (ad (20 + k2)))]) hx hb dX3_compare_2_11 rfl hl (by decide) rfl (fun ls hl => ?_)
  refine lv_aload_n hx hb dX3_compare_2_12 rfl (lv_at hl 2 rfl) ?_
  refine st_getPN (v := .int (f (39 + (8 * k) + 5))) X w hM (k := k) (by first | omega | assumption) 5 (by decide) q600 rfl dX3_compare_2_13 ?_
  refine lv_aload_n hx hb dX3_compare_2_16 rfl (lv_at hl 3 rfl) ?_
  refine st_getPN (v := .int (f (39 + (8 * k2) + 5))) X w hM (k := k2) (by first | omega | assumption) 5 (by decide) q600 rfl dX3_compare_2_17 ?_
  refine lv_isub hx hb dX3_compare_2_20 ?_
  refine lv_istore (lv' := [(4, .int ((f (39 + (8 * k) + 5)) - (f (39 + (8 * k2) + 5)))), (3, .int ((cf_rank f k) - (cf_rank f k2))), (0, .ref (ad 19)), (1, .ref (ad (20 + k))), (2, .ref (ad (20 + k2)))]) hx hb dX3_compare_2_21 hl (by decide) rfl (fun ls hl => ?_)
  refine lv_iload_n hx hb dX3_compare_2_23 rfl (lv_at hl 1 rfl) ?_
  have J50 : ∀ (is0_50 : Int32) (M : mh) (H : Heap) (locs : List Loc) (ls : Array Slot), cf_cmpP_50 f k k2 is0_50 = z → lv_has ls 5 [] → mW G A s M H locs → M = M1 → W p l e R s m av below meth c H locs 0 0 Q (F0 m 50 ls [.int is0_50]) := by
    intro is0_50 M H locs ls  E hl w eM
    subst M
    rw [cf_cmpP_50] at E
    exact fin is0_50 M1 H locs ls 50 dX3_compare_2_50 ⟨E, rfl⟩ w
  refine lv_if_eq (tgt := 31) hx hb dX3_compare_2_24 (by decide) (fun c_24 => ?_) (fun c_24 => ?_)
  · rw [if_pos c_24] at E
    refine lv_iload hx hb dX3_compare_2_31 (lv_at hl 0 rfl) ?_
    refine lv_if_eq (tgt := 41) hx hb dX3_compare_2_33 (by decide) (fun c_33 => ?_) (fun c_33 => ?_)
    · rw [if_pos c_33] at E
      refine lv_aload_n hx hb dX3_compare_2_41 rfl (lv_at hl 3 rfl) ?_
      refine st_getPN (v := .int (nI k)) X w hM (k := k) (by first | omega | assumption) 0 (by decide) q583 rfl dX3_compare_2_42 ?_
      refine lv_aload_n hx hb dX3_compare_2_45 rfl (lv_at hl 4 rfl) ?_
      refine st_getPN (v := .int (nI k2)) X w hM (k := k2) (by first | omega | assumption) 0 (by decide) q583 rfl dX3_compare_2_46 ?_
      refine lv_isub hx hb dX3_compare_2_49 ?_
      exact J50 ((nI k) - (nI k2)) M1 H locs ls E (lv_sub hl [] rfl) w rfl
    · rw [if_neg c_33] at E
      refine lv_iload hx hb dX3_compare_2_36 (lv_at hl 0 rfl) ?_
      refine lv_goto (tgt := 50) hx hb dX3_compare_2_38 (by decide) ?_
      exact J50 ((f (39 + (8 * k) + 5)) - (f (39 + (8 * k2) + 5))) M1 H locs ls E (lv_sub hl [] rfl) w rfl
  · rw [if_neg c_24] at E
    refine lv_iload_n hx hb dX3_compare_2_27 rfl (lv_at hl 1 rfl) ?_
    refine lv_goto (tgt := 50) hx hb dX3_compare_2_28 (by decide) ?_
    exact J50 ((cf_rank f k) - (cf_rank f k2)) M1 H locs ls E (lv_sub hl [] rfl) w rfl
def cf_cmpO (f : (Nat → Int32)) (k : Nat) (k2 : Nat) : Int32 := (cf_cmpP f k k2)
set_option maxHeartbeats 4000000 in
set_option maxRecDepth 100000 in
theorem ct_cmpO (l : Launch) (G : mg) (A : Nat → Prop) (ad : Nat → Nat) (np ng : Nat) (M0 M1 : mh) (f : Nat → Int32) (k : Nat) (k2 : Nat)  (hM : Sta G ad np ng M0 M1 f) (hk : k < np) (hk2 : k2 < np) : Met l yX3_compare (ws_ yX3_compare cX3_compare 3 (some .int)) ({ frames := 2, cells := 0, slots := 0, locals := 45 }) (va_Pc [.ref (ad 19), .ref (ad (20 + k)), .ref (ad (20 + k2))] (mU G A (fun M => M = M1))) (mQi G A (fun r M => r = cf_cmpO f k k2 ∧ M = M1)) 0 0 A := by
  refine mx_ofi (by decide) (Nat.le_of_ble_eq_true rfl) ?_
  intro p e R s m av below meth c M H Q ls X hRf hRl hRc hRs hin eM w fin hl
  subst M
  have X : CallFix p m c cX3_compare 3 s av lw_all "FieldPumps$Station$1" := X
  have hx := X.1
  have hb := X.2.1
  have hl : lv_has ls 3 [(0, .ref (ad 19)), (1, .ref (ad (20 + k))), (2, .ref (ad (20 + k2)))] := hl
  have hRf : R.frames = 2 := hRf
  have hRl : R.locals = 45 := hRl
  have hRc : R.cells = 0 := hRc
  have hRs : R.slots = 0 := hRs
  have hcp := hM.cnp
  have hn6 := hM.n6
  have hg8 := hM.g8
  generalize ([] : List Loc) = locs at w ⊢
  generalize E : cf_cmpO f k k2 = z at fin
  rw [cf_cmpO] at E
  refine lv_aload_n hx hb dX3_compare_0 rfl (lv_at hl 0 rfl) ?_
  refine lv_aload_n hx hb dX3_compare_1 rfl (lv_at hl 1 rfl) ?_
  refine st_castP X w hM (by first | omega | assumption) q971 dX3_compare_2 ?_
  refine lv_aload_n hx hb dX3_compare_5 rfl (lv_at hl 2 rfl) ?_
  refine st_castP X w hM (by first | omega | assumption) q971 dX3_compare_6 ?_
  refine mx_bi w (va_runV (As := [.ref (ad (20 + k)), .ref (ad (20 + k2))]) (rest := []) X (ct_cmpP l G A ad np ng M0 M1 f k k2 hM (by first | omega | assumption) (by first | omega | assumption)) (cwV 2 X.2.2.2.2 (lw_V q972 q973 q974 q105 q975) rfl rfl rfl (by decide +kernel) ⟨by rw [hRf]; decide, by rw [hRl]; decide⟩) (mx_preV w rfl hM.c19 rfl) rfl rfl hl.1 rfl (lv_room (Nat.le_of_ble_eq_true rfl)) dX3_compare_9 ⟨Nat.zero_le _, Nat.zero_le _⟩) (fun r M9 H locs hp w => ?_)
  obtain ⟨rfl, eM⟩ := hp; subst M9
  exact fin (cf_cmpP f k k2) M1 H locs ls 12 dX3_compare_12 ⟨E, rfl⟩ w
def cf_siftUpC_43 (f : (Nat → Int32)) (nq : Nat) (kx : Nat) (rc_0 : Nat → (Nat → Int32) → (Nat → Int32)) (n0_0 : Nat) (f_0 : (Nat → Int32))  : (Nat → Int32) := (upd f_0 (180 + n0_0) (nI kx))
def cf_siftUpC_0 (f : (Nat → Int32)) (nq : Nat) (kx : Nat) : Nat → Nat → (Nat → Int32) → (Nat → Int32)
  | 0, _, f_0 => f_0
  | n_0 + 1, n0_0, f_0 => (if n0_0 = 0 then (cf_siftUpC_43 f nq kx (cf_siftUpC_0 f nq kx n_0) n0_0 f_0 ) else (if (cf_cmpO f_0 kx (tN (f_0 (180 + ((n0_0 - 1) / 2))))) < 0 then ( (cf_siftUpC_0 f nq kx n_0) ((n0_0 - 1) / 2) (upd f_0 (180 + n0_0) (nI (tN (f_0 (180 + ((n0_0 - 1) / 2))))))) else (cf_siftUpC_43 f nq kx (cf_siftUpC_0 f nq kx n_0) n0_0 f_0 )))
def cf_siftUpC (f : (Nat → Int32)) (nq : Nat) (kx : Nat) : (Nat → Int32) := (cf_siftUpC_0 f nq kx 7 nq f)
set_option maxHeartbeats 4000000 in
set_option maxRecDepth 100000 in
theorem ct_siftUpC (l : Launch) (G : mg) (A : Nat → Prop) (ad : Nat → Nat) (np ng : Nat) (M0 : mh) (f : Nat → Int32) (nq : Nat) (kx : Nat)  (hn : nq < 6) (hk : kx < np) (hq0 : ∀ i, i < nq → ∃ j, j < np ∧ f (180 + i) = nI j) : Met l yJ5_siftUpUsingComparator (ws_ yJ5_siftUpUsingComparator cJ5_siftUpUsingComparator 6 (none)) ({ frames := 3, cells := 0, slots := 0, locals := 67 }) (va_Pc [.int (nI nq), .ref (ad (20 + kx)), .ref (ad 18), .ref (ad 19)] (mU G A (fun M => Sta G ad np ng M0 M f))) (mQv G A (fun M => Sta G ad np ng M0 M (cf_siftUpC f nq kx))) 0 0 A := by
  refine mx_ofv (by decide) (Nat.le_of_ble_eq_true rfl) ?_
  intro p e R s m av below meth c M H Q ls X hRf hRl hRc hRs hin hM w fin hl
  have X : CallFix p m c cJ5_siftUpUsingComparator 6 s av lw_all "java/util/PriorityQueue" := X
  have hx := X.1
  have hb := X.2.1
  have hl : lv_has ls 6 [(0, .int (nI nq)), (1, .ref (ad (20 + kx))), (2, .ref (ad 18)), (3, .ref (ad 19))] := hl
  have hRf : R.frames = 3 := hRf
  have hRl : R.locals = 67 := hRl
  have hRc : R.cells = 0 := hRc
  have hRs : R.slots = 0 := hRs
  have hcp := hM.cnp
  have hn6 := hM.n6
  have hg8 := hM.g8
  generalize ([] : List Loc) = locs at w ⊢
  generalize E : cf_siftUpC f nq kx = z at fin
  rw [cf_siftUpC] at E
  have L0 : ∀ (n_0 : Nat) (n0_0 : Nat) (f_0 : (Nat → Int32)) (M : mh) (H : Heap) (locs : List Loc) (ls : Array Slot), (hq : ∀ i, i < nq → ∃ j, j < np ∧ f_0 (180 + i) = nI j) → (hi : n0_0 ≤ nq) → (hm : n0_0 < n_0) → cf_siftUpC_0 f nq kx n_0 n0_0 f_0 = z → lv_has ls 6 [(1, .ref (ad (20 + kx))), (2, .ref (ad 18)), (3, .ref (ad 19)), (0, .int (nI n0_0))] → mW G A s M H locs → Sta G ad np ng M0 M f_0 → W p l e R s m av below meth c H locs 0 0 Q (F0 m 0 ls []) := by
    intro n_0
    induction n_0 with
    | zero =>
      intro n0_0 f_0 M H locs ls hq hi hm E hl w hM
      have hcp := hM.cnp
      exfalso; omega
    | succ n_0 ih_0 =>
      intro n0_0 f_0 M H locs ls hq hi hm E hl w hM
      have hcp := hM.cnp
      rw [cf_siftUpC_0] at E
      refine lv_iload_n hx hb dJ5_siftUpUsingComparator_0 rfl (lv_at hl 3 rfl) ?_
      have J43 : ∀  (M : mh) (H : Heap) (locs : List Loc) (ls : Array Slot), cf_siftUpC_43 f nq kx (cf_siftUpC_0 f nq kx n_0) n0_0 f_0  = z → lv_has ls 6 [(1, .ref (ad (20 + kx))), (2, .ref (ad 18)), (0, .int (nI n0_0))] → mW G A s M H locs → Sta G ad np ng M0 M f_0 → W p l e R s m av below meth c H locs 0 0 Q (F0 m 43 ls []) := by
        intro  M H locs ls  E hl w hM
        have hcp := hM.cnp
        rw [cf_siftUpC_43] at E
        refine lv_aload_n hx hb dJ5_siftUpUsingComparator_43 rfl (lv_at hl 1 rfl) ?_
        refine lv_iload_n hx hb dJ5_siftUpUsingComparator_44 rfl (lv_at hl 2 rfl) ?_
        refine lv_aload_n hx hb dJ5_siftUpUsingComparator_45 rfl (lv_at hl 0 rfl) ?_
        refine st_qast X w hM (n := n0_0) (k := kx) (show n0_0 < 6 from by omega) (by first | omega | assumption) dJ5_siftUpUsingComparator_46 (fun M H locs w hM => ?_)
        exact fin M H locs ls 47 dJ5_siftUpUsingComparator_47 (by rw [← E]; exact hM) w
      refine mx_0le (u := n0_0) (tgt := 43) hx hb rfl (by omega) dJ5_siftUpUsingComparator_1 (by decide) (fun c_1 => ?_) (fun c_1 => ?_)
      · rw [if_pos c_1] at E
        exact J43  M H locs ls E (lv_sub hl [0, 1, 3] rfl) w hM
      · rw [if_neg c_1] at E
        refine lv_iload_n hx hb dJ5_siftUpUsingComparator_4 rfl (lv_at hl 3 rfl) ?_
        refine lv_iconst (v := (1 : Int32)) hx hb dJ5_siftUpUsingComparator_5 (by decide) ?_
        refine mx_nsub (u := n0_0) (v := 1) hx hb rfl rfl (by omega) dJ5_siftUpUsingComparator_6 ?_
        refine lv_iconst (v := (1 : Int32)) hx hb dJ5_siftUpUsingComparator_7 (by decide) ?_
        refine lv_iushr (v := nI ((n0_0 - 1) / 2)) hx hb dJ5_siftUpUsingComparator_8 (pk_ushrN (by omega) 1 1 (by decide)) ?_
        refine lv_istore (lv' := [(4, .int (nI ((n0_0 - 1) / 2))), (1, .ref (ad (20 + kx))), (2, .ref (ad 18)), (3, .ref (ad 19)), (0, .int (nI n0_0))]) hx hb dJ5_siftUpUsingComparator_9 hl (by decide) rfl (fun ls hl => ?_)
        refine lv_aload_n hx hb dJ5_siftUpUsingComparator_11 rfl (lv_at hl 2 rfl) ?_
        refine lv_iload hx hb dJ5_siftUpUsingComparator_12 (lv_at hl 0 rfl) ?_
        have hq_14 : ∃ j, j < np ∧ f_0 (180 + ((n0_0 - 1) / 2)) = nI j := hq _ (by omega)
        have hp_14 : (tN (f_0 (180 + ((n0_0 - 1) / 2)))) < np := q_lt hq_14 hM.n6
        refine st_qald X w hM (n := (n0_0 - 1) / 2) (show (n0_0 - 1) / 2 < 6 from by omega) hq_14 dJ5_siftUpUsingComparator_14 ?_
        refine lv_astore (lv' := [(5, .ref (ad (20 + (tN (f_0 (180 + ((n0_0 - 1) / 2))))))), (4, .int (nI ((n0_0 - 1) / 2))), (1, .ref (ad (20 + kx))), (2, .ref (ad 18)), (3, .ref (ad 19)), (0, .int (nI n0_0))]) hx hb dJ5_siftUpUsingComparator_15 hl (by decide) rfl (fun ls hl => ?_)
        refine lv_aload_n hx hb dJ5_siftUpUsingComparator_17 rfl (lv_at hl 4 rfl) ?_
        refine lv_aload_n hx hb dJ5_siftUpUsingComparator_18 rfl (lv_at hl 2 rfl) ?_
        refine lv_aload hx hb dJ5_siftUpUsingComparator_19 (lv_at hl 0 rfl) ?_
        refine mx_biF w (va_runF (As := [.ref (ad (20 + kx)), .ref (ad (20 + (tN (f_0 (180 + ((n0_0 - 1) / 2))))))]) (rest := []) (w.cls0 (ci := 2) rfl).choose_spec X (ct_cmpO l G A ad np ng M0 M f_0 kx (tN (f_0 (180 + ((n0_0 - 1) / 2)))) hM (by first | omega | assumption) (by first | omega | assumption)) (va_cwF 2 X.2.2.2.2 (lw_F q1491 q966 q968 q105 q970) rfl rfl rfl (va_Fw.of (w.tblB (args := av) q964 rfl rfl) (w.tblB (args := av) q963 rfl rfl) (w.tblB (args := av) q969 rfl rfl) (w.tblB (args := av) q967 rfl rfl) (w.tblB (args := av) q965 rfl rfl)) (by decide +kernel) ⟨by rw [hRf]; decide, by rw [hRl]; decide⟩) (mx_preV w rfl hM.c19 rfl) rfl rfl hl.1 rfl (lv_room (Nat.le_of_ble_eq_true rfl)) dJ5_siftUpUsingComparator_21 ⟨Nat.zero_le _, Nat.zero_le _⟩) (fun r M9 H locs hp w => ?_)
        obtain ⟨rfl, eM⟩ := hp; subst M9
        refine lv_if_lt (tgt := 32) hx hb dJ5_siftUpUsingComparator_26 (by decide) (fun c_26 => ?_) (fun c_26 => ?_)
        · rw [if_pos c_26] at E
          refine lv_aload_n hx hb dJ5_siftUpUsingComparator_32 rfl (lv_at hl 3 rfl) ?_
          refine lv_iload_n hx hb dJ5_siftUpUsingComparator_33 rfl (lv_at hl 5 rfl) ?_
          refine lv_aload hx hb dJ5_siftUpUsingComparator_34 (lv_at hl 0 rfl) ?_
          refine st_qast X w hM (n := n0_0) (k := (tN (f_0 (180 + ((n0_0 - 1) / 2))))) (show n0_0 < 6 from by omega) (by first | omega | assumption) dJ5_siftUpUsingComparator_36 (fun M H locs w hM => ?_)
          refine lv_iload hx hb dJ5_siftUpUsingComparator_37 (lv_at hl 1 rfl) ?_
          refine lv_istore_n (lv' := [(0, .int (nI ((n0_0 - 1) / 2))), (5, .ref (ad (20 + (tN (f_0 (180 + ((n0_0 - 1) / 2))))))), (4, .int (nI ((n0_0 - 1) / 2))), (1, .ref (ad (20 + kx))), (2, .ref (ad 18)), (3, .ref (ad 19))]) hx hb dJ5_siftUpUsingComparator_39 rfl hl (by decide) rfl (fun ls hl => ?_)
          refine lv_goto (tgt := 0) hx hb dJ5_siftUpUsingComparator_40 (by decide) ?_
          exact ih_0 ((n0_0 - 1) / 2) (upd f_0 (180 + n0_0) (nI (tN (f_0 (180 + ((n0_0 - 1) / 2)))))) M H locs ls (by first | omega | assumption | exact q_up hq (by assumption)) (by first | omega | assumption) (by first | omega | assumption) E (lv_sub hl [3, 4, 5, 0] rfl) w hM
        · rw [if_neg c_26] at E
          refine lv_goto (tgt := 43) hx hb dJ5_siftUpUsingComparator_29 (by decide) ?_
          exact J43  M H locs ls E (lv_sub hl [2, 3, 5] rfl) w hM
  exact L0 7 nq f M H locs ls (by first | omega | assumption | exact hq0) (by first | omega | assumption) (by first | omega | assumption) E (lv_sub hl [1, 2, 3, 0] rfl) w hM
def cf_siftUp_32 (f : (Nat → Int32)) (nq : Nat) (kx : Nat) (f_32 : (Nat → Int32)) : (Nat → Int32) := f_32
def cf_siftUp_c17 (f : (Nat → Int32)) (nq : Nat) (kx : Nat) (f_17 : (Nat → Int32)) : (Nat → Int32) := (cf_siftUp_32 f nq kx f_17)
def cf_siftUp (f : (Nat → Int32)) (nq : Nat) (kx : Nat) : (Nat → Int32) := (cf_siftUp_c17 f nq kx (cf_siftUpC f nq kx))
set_option maxHeartbeats 4000000 in
set_option maxRecDepth 100000 in
theorem ct_siftUp (l : Launch) (G : mg) (A : Nat → Prop) (ad : Nat → Nat) (np ng : Nat) (M0 : mh) (f : Nat → Int32) (nq : Nat) (kx : Nat)  (hn : nq < 6) (hk : kx < np) (hq0 : ∀ i, i < nq → ∃ j, j < np ∧ f (180 + i) = nI j) : Met l yJ5_siftUp (ws_ yJ5_siftUp cJ5_siftUp 3 (none)) ({ frames := 4, cells := 0, slots := 0, locals := 92 }) (va_Pc [.ref (ad 17), .int (nI nq), .ref (ad (20 + kx))] (mU G A (fun M => Sta G ad np ng M0 M f))) (mQv G A (fun M => Sta G ad np ng M0 M (cf_siftUp f nq kx))) 0 0 A := by
  refine mx_ofv (by decide) (Nat.le_of_ble_eq_true rfl) ?_
  intro p e R s m av below meth c M H Q ls X hRf hRl hRc hRs hin hM w fin hl
  have X : CallFix p m c cJ5_siftUp 3 s av lw_all "java/util/PriorityQueue" := X
  have hx := X.1
  have hb := X.2.1
  have hl : lv_has ls 3 [(0, .ref (ad 17)), (1, .int (nI nq)), (2, .ref (ad (20 + kx)))] := hl
  have hRf : R.frames = 4 := hRf
  have hRl : R.locals = 92 := hRl
  have hRc : R.cells = 0 := hRc
  have hRs : R.slots = 0 := hRs
  have hcp := hM.cnp
  have hn6 := hM.n6
  have hg8 := hM.g8
  generalize ([] : List Loc) = locs at w ⊢
  generalize E : cf_siftUp f nq kx = z at fin
  rw [cf_siftUp] at E
  refine lv_aload_n hx hb dJ5_siftUp_0 rfl (lv_at hl 0 rfl) ?_
  refine mx_get (v := .ref (ad 19)) X w in_J5 (ci := 10) rfl 2 (by decide) q226 (fun _ h => h) hM.q17 rfl dJ5_siftUp_1 ?_
  have J32 : ∀ (f_32 : (Nat → Int32)) (M : mh) (H : Heap) (locs : List Loc) (ls : Array Slot), cf_siftUp_32 f nq kx f_32 = z → lv_has ls 3 [] → mW G A s M H locs → Sta G ad np ng M0 M f_32 → W p l e R s m av below meth c H locs 0 0 Q (F0 m 32 ls []) := by
    intro f_32 M H locs ls  E hl w hM
    have hcp := hM.cnp
    rw [cf_siftUp_32] at E
    exact fin M H locs ls 32 dJ5_siftUp_32 (by rw [← E]; exact hM) w
  refine lv_ifnull hx hb dJ5_siftUp_4 ?_
  refine lv_iload_n hx hb dJ5_siftUp_7 rfl (lv_at hl 1 rfl) ?_
  refine lv_aload_n hx hb dJ5_siftUp_8 rfl (lv_at hl 2 rfl) ?_
  refine lv_aload_n hx hb dJ5_siftUp_9 rfl (lv_at hl 0 rfl) ?_
  refine mx_get (v := .ref (ad 18)) X w in_J5 (ci := 10) rfl 0 (by decide) q224 (fun _ h => h) hM.q17 rfl dJ5_siftUp_10 ?_
  refine lv_aload_n hx hb dJ5_siftUp_13 rfl (lv_at hl 0 rfl) ?_
  refine mx_get (v := .ref (ad 19)) X w in_J5 (ci := 10) rfl 2 (by decide) q226 (fun _ h => h) hM.q17 rfl dJ5_siftUp_14 ?_
  refine mx_bv w (va_runS (As := [.int (nI nq), .ref (ad (20 + kx)), .ref (ad 18), .ref (ad 19)]) (rest := []) X (ct_siftUpC l G A ad np ng M0 f nq kx  (by first | omega | assumption) (by first | omega | assumption) (by first | omega | assumption)) (va_cwS 4 X.2.2.2.2 (lw_S q1487 q1488 q104 q1489) rfl rfl rfl (by decide +kernel) ⟨by rw [hRf]; decide, by rw [hRl]; decide⟩) (mx_preS w hM) rfl rfl hl.1 rfl (lv_room (Nat.le_of_ble_eq_true rfl)) dJ5_siftUp_17 ⟨Nat.zero_le _, Nat.zero_le _⟩) (fun M H locs hM w => ?_)
  rw [cf_siftUp_c17] at E
  obtain ⟨f_17, ef_17⟩ : ∃ y, y = (cf_siftUpC f nq kx) := ⟨_, rfl⟩
  rw [← ef_17] at E hM
  refine lv_goto (tgt := 32) hx hb dJ5_siftUp_20 (by decide) ?_
  exact J32 f_17 M H locs ls E (lv_sub hl [] rfl) w hM
def cf_offer_c46 (f : (Nat → Int32)) (kx : Nat) (f_46 : (Nat → Int32)) : (Bool × (Nat → Int32)) := (true, (upd f_46 176 (nI (nC f 176 + 1))))
def cf_offer_43 (f : (Nat → Int32)) (kx : Nat)  : (Bool × (Nat → Int32)) := (cf_offer_c46 f kx (cf_siftUp (upd f 175 ((f 175) + (1 : Int32))) (nC f 176) kx))
def cf_offer (f : (Nat → Int32)) (kx : Nat) : Bool × (Nat → Int32) := (cf_offer_43 f kx )
set_option maxHeartbeats 4000000 in
set_option maxRecDepth 100000 in
theorem ct_offer (l : Launch) (G : mg) (A : Nat → Prop) (ad : Nat → Nat) (np ng : Nat) (M0 : mh) (f : Nat → Int32) (kx : Nat) (nq : Nat) (enq : f 176 = nI nq) (hn : nq < 6) (hk : kx < np) (hq0 : ∀ i, i < nq → ∃ j, j < np ∧ f (180 + i) = nI j) : Met l yJ5_offer (ws_ yJ5_offer cJ5_offer 3 (some .boolean)) ({ frames := 5, cells := 0, slots := 0, locals := 114 }) (va_Pc [.ref (ad 17), .ref (ad (20 + kx))] (mU G A (fun M => Sta G ad np ng M0 M f))) (mQi G A (fun r M => r = bI ((cf_offer f kx).1) ∧ Sta G ad np ng M0 M (cf_offer f kx).2)) 0 0 A := by
  refine mx_ofz (by decide) (Nat.le_of_ble_eq_true rfl) ?_
  intro p e R s m av below meth c M H Q ls X hRf hRl hRc hRs hin hM w fin hl
  have X : CallFix p m c cJ5_offer 3 s av lw_all "java/util/PriorityQueue" := X
  have hx := X.1
  have hb := X.2.1
  have hl : lv_has ls 3 [(0, .ref (ad 17)), (1, .ref (ad (20 + kx)))] := hl
  have hRf : R.frames = 5 := hRf
  have hRl : R.locals = 114 := hRl
  have hRc : R.cells = 0 := hRc
  have hRs : R.slots = 0 := hRs
  have hcp := hM.cnp
  have hn6 := hM.n6
  have hg8 := hM.g8
  generalize ([] : List Loc) = locs at w ⊢
  generalize E : cf_offer f kx = z at fin
  rw [cf_offer] at E
  have hcq := nC_of enq (by omega)
  refine lv_aload_n hx hb dJ5_offer_0 rfl (lv_at hl 1 rfl) ?_
  refine lv_ifnonnull (tgt := 12) hx hb dJ5_offer_1 (by decide) ?_
  refine lv_aload_n hx hb dJ5_offer_12 rfl (lv_at hl 0 rfl) ?_
  refine lv_dup hx hb dJ5_offer_13 rfl ?_
  refine mx_get (v := .int (f 175)) X w in_J5 (ci := 10) rfl 3 (by decide) q227 (fun _ h => h) hM.q17 rfl dJ5_offer_14 ?_
  refine lv_iconst (v := (1 : Int32)) hx hb dJ5_offer_17 (by decide) ?_
  refine lv_iadd hx hb dJ5_offer_18 ?_
  refine st_putq (x := ((f 175) + (1 : Int32))) X w hM 3 175 q227 rfl rfl rfl rfl (stOk_lit rfl) dJ5_offer_19 (fun M H locs w hM => ?_)
  refine lv_aload_n hx hb dJ5_offer_22 rfl (lv_at hl 0 rfl) ?_
  refine mx_get (v := .int ((upd f 175 ((f 175) + (1 : Int32))) 176)) X w in_J5 (ci := 10) rfl 1 (by decide) q225 (fun _ h => h) hM.q17 rfl dJ5_offer_23 ?_
  refine mx_cast (z := nI (nC f 176)) (by rw [pk_un (by decide), hcq]; exact enq) ?_
  refine lv_istore_n (lv' := [(2, .int (nI (nC f 176))), (0, .ref (ad 17)), (1, .ref (ad (20 + kx)))]) hx hb dJ5_offer_26 rfl hl (by decide) rfl (fun ls hl => ?_)
  refine lv_iload_n hx hb dJ5_offer_27 rfl (lv_at hl 0 rfl) ?_
  refine lv_aload_n hx hb dJ5_offer_28 rfl (lv_at hl 1 rfl) ?_
  refine mx_get (v := .ref (ad 18)) X w in_J5 (ci := 10) rfl 0 (by decide) q224 (fun _ h => h) hM.q17 rfl dJ5_offer_29 ?_
  refine mx_alen X w 3 hM.a18 rfl dJ5_offer_32 ?_
  refine mx_cast (z := (6 : Int32)) rfl ?_
  have J43 : ∀  (M : mh) (H : Heap) (locs : List Loc) (ls : Array Slot), cf_offer_43 f kx  = z → lv_has ls 3 [(2, .int (nI (nC f 176))), (0, .ref (ad 17)), (1, .ref (ad (20 + kx)))] → mW G A s M H locs → Sta G ad np ng M0 M (upd f 175 ((f 175) + (1 : Int32))) → W p l e R s m av below meth c H locs 0 0 Q (F0 m 43 ls []) := by
    intro  M H locs ls  E hl w hM
    have hcp := hM.cnp
    rw [cf_offer_43] at E
    refine lv_aload_n hx hb dJ5_offer_43 rfl (lv_at hl 1 rfl) ?_
    refine lv_iload_n hx hb dJ5_offer_44 rfl (lv_at hl 0 rfl) ?_
    refine lv_aload_n hx hb dJ5_offer_45 rfl (lv_at hl 2 rfl) ?_
    refine mx_bv w (va_runV (As := [.int (nI (nC f 176)), .ref (ad (20 + kx))]) (rest := []) X (ct_siftUp l G A ad np ng M0 (upd f 175 ((f 175) + (1 : Int32))) (nC f 176) kx  (by rw [hcq]; exact hn) (by assumption) (by rw [hcq]; exact q_oth hq0 (by decide))) (cwV 2 X.2.2.2.2 (lw_V q1483 q1485 qs31 q104 q1486) rfl rfl rfl (by decide +kernel) ⟨by rw [hRf]; decide, by rw [hRl]; decide⟩) (mx_preV w hM hM.q17 rfl) rfl rfl hl.1 rfl (lv_room (Nat.le_of_ble_eq_true rfl)) dJ5_offer_46 ⟨Nat.zero_le _, Nat.zero_le _⟩) (fun M H locs hM w => ?_)
    rw [cf_offer_c46] at E
    obtain ⟨f_46, ef_46⟩ : ∃ y, y = (cf_siftUp (upd f 175 ((f 175) + (1 : Int32))) (nC f 176) kx) := ⟨_, rfl⟩
    rw [← ef_46] at E hM
    refine lv_aload_n hx hb dJ5_offer_49 rfl (lv_at hl 1 rfl) ?_
    refine lv_iload_n hx hb dJ5_offer_50 rfl (lv_at hl 0 rfl) ?_
    refine lv_iconst (v := (1 : Int32)) hx hb dJ5_offer_51 (by decide) ?_
    refine mx_nadd (u := nC f 176) (v := 1) hx hb rfl rfl dJ5_offer_52 ?_
    refine st_putq (x := (nI (nC f 176 + 1))) X w hM 1 176 q225 rfl rfl rfl rfl (stOk_lit rfl) dJ5_offer_53 (fun M H locs w hM => ?_)
    refine lv_iconst (v := (1 : Int32)) hx hb dJ5_offer_56 (by decide) ?_
    exact fin true M H locs ls 57 dJ5_offer_57 ⟨by rw [← E], by rw [← E]; exact hM⟩ w
  refine mx_nlt (u := (nC f 176)) (v := 6) (tgt := 43) hx hb rfl rfl (by omega) (by omega) dJ5_offer_33 (by decide) (fun c_33 => ?_) (fun c_33 => absurd (by omega) c_33)
  exact J43  M H locs ls E (lv_sub hl [0, 1, 2] rfl) w hM
def cf_qadd_c2 (f : (Nat → Int32)) (kx : Nat) (f_2 : (Nat → Int32)) (r_2 : Bool) : (Bool × (Nat → Int32)) := (r_2, f_2)
def cf_qadd (f : (Nat → Int32)) (kx : Nat) : Bool × (Nat → Int32) := (cf_qadd_c2 f kx ((cf_offer f kx).2) ((cf_offer f kx).1))
set_option maxHeartbeats 4000000 in
set_option maxRecDepth 100000 in
theorem ct_qadd (l : Launch) (G : mg) (A : Nat → Prop) (ad : Nat → Nat) (np ng : Nat) (M0 : mh) (f : Nat → Int32) (kx : Nat) (nq : Nat) (enq : f 176 = nI nq) (hn : nq < 6) (hk : kx < np) (hq0 : ∀ i, i < nq → ∃ j, j < np ∧ f (180 + i) = nI j) : Met l yJ5_add (ws_ yJ5_add cJ5_add 2 (some .boolean)) ({ frames := 6, cells := 0, slots := 0, locals := 136 }) (va_Pc [.ref (ad 17), .ref (ad (20 + kx))] (mU G A (fun M => Sta G ad np ng M0 M f))) (mQi G A (fun r M => r = bI ((cf_qadd f kx).1) ∧ Sta G ad np ng M0 M (cf_qadd f kx).2)) 0 0 A := by
  refine mx_ofz (by decide) (Nat.le_of_ble_eq_true rfl) ?_
  intro p e R s m av below meth c M H Q ls X hRf hRl hRc hRs hin hM w fin hl
  have X : CallFix p m c cJ5_add 2 s av lw_all "java/util/PriorityQueue" := X
  have hx := X.1
  have hb := X.2.1
  have hl : lv_has ls 2 [(0, .ref (ad 17)), (1, .ref (ad (20 + kx)))] := hl
  have hRf : R.frames = 6 := hRf
  have hRl : R.locals = 136 := hRl
  have hRc : R.cells = 0 := hRc
  have hRs : R.slots = 0 := hRs
  have hcp := hM.cnp
  have hn6 := hM.n6
  have hg8 := hM.g8
  generalize ([] : List Loc) = locs at w ⊢
  generalize E : cf_qadd f kx = z at fin
  rw [cf_qadd] at E
  refine lv_aload_n hx hb dJ5_add_0 rfl (lv_at hl 0 rfl) ?_
  refine lv_aload_n hx hb dJ5_add_1 rfl (lv_at hl 1 rfl) ?_
  refine mx_bi w (va_runV (As := [.ref (ad (20 + kx))]) (rest := []) X (ct_offer l G A ad np ng M0 f kx nq (by first | omega | assumption) (by first | omega | assumption) (by first | omega | assumption) (by first | omega | assumption)) (cwV 1 X.2.2.2.2 (lw_V q1473 q1474 q1475 q104 q1476) rfl rfl rfl (by decide +kernel) ⟨by rw [hRf]; decide, by rw [hRl]; decide⟩) (mx_preV w hM hM.q17 rfl) rfl rfl hl.1 rfl (lv_room (Nat.le_of_ble_eq_true rfl)) dJ5_add_2 ⟨Nat.zero_le _, Nat.zero_le _⟩) (fun r M H locs hp w => ?_)
  obtain ⟨rfl, hM⟩ := hp
  rw [cf_qadd_c2] at E
  obtain ⟨f_2, ef_2⟩ : ∃ y, y = (cf_offer f kx).2 := ⟨_, rfl⟩
  obtain ⟨r_2, er_2⟩ : ∃ y, y = (cf_offer f kx).1 := ⟨_, rfl⟩
  rw [← ef_2] at E hM; (try rw [← er_2] at E); rw [← er_2]
  exact fin r_2 M H locs ls 5 dJ5_add_5 ⟨by rw [← E], by rw [← E]; exact hM⟩ w
def cf_qclear_22 (f : (Nat → Int32)) : Nat → Nat → (Nat → Int32) → (Nat → Int32)
  | 0, _, f_22 => f_22
  | n_22 + 1, n2_22, f_22 => (if (nC f 176) ≤ n2_22 then (upd f_22 176 (0 : Int32)) else ( (cf_qclear_22 f n_22) (n2_22 + 1) (upd f_22 (180 + n2_22) (-1 : Int32))))
def cf_qclear (f : (Nat → Int32)) : (Nat → Int32) := (cf_qclear_22 f 7 0 (upd f 175 ((f 175) + (1 : Int32))))
set_option maxHeartbeats 4000000 in
set_option maxRecDepth 100000 in
theorem ct_qclear (l : Launch) (G : mg) (A : Nat → Prop) (ad : Nat → Nat) (np ng : Nat) (M0 : mh) (f : Nat → Int32)  (nq : Nat) (enq : f 176 = nI nq) (hn : nq ≤ 6) : Met l yJ5_clear (ws_ yJ5_clear cJ5_clear 4 (none)) ({ frames := 0, cells := 0, slots := 0, locals := 0 }) (va_Pc [.ref (ad 17)] (mU G A (fun M => Sta G ad np ng M0 M f))) (mQv G A (fun M => Sta G ad np ng M0 M (cf_qclear f))) 0 0 A := by
  refine mx_ofv (by decide) (Nat.le_of_ble_eq_true rfl) ?_
  intro p e R s m av below meth c M H Q ls X hRf hRl hRc hRs hin hM w fin hl
  have X : CallFix p m c cJ5_clear 4 s av lw_all "java/util/PriorityQueue" := X
  have hx := X.1
  have hb := X.2.1
  have hl : lv_has ls 4 [(0, .ref (ad 17))] := hl
  have hRf : R.frames = 0 := hRf
  have hRl : R.locals = 0 := hRl
  have hRc : R.cells = 0 := hRc
  have hRs : R.slots = 0 := hRs
  have hcp := hM.cnp
  have hn6 := hM.n6
  have hg8 := hM.g8
  generalize ([] : List Loc) = locs at w ⊢
  generalize E : cf_qclear f = z at fin
  rw [cf_qclear] at E
  have hcq := nC_of enq (by omega)
  refine lv_aload_n hx hb dJ5_clear_0 rfl (lv_at hl 0 rfl) ?_
  refine lv_dup hx hb dJ5_clear_1 rfl ?_
  refine mx_get (v := .int (f 175)) X w in_J5 (ci := 10) rfl 3 (by decide) q227 (fun _ h => h) hM.q17 rfl dJ5_clear_2 ?_
  refine lv_iconst (v := (1 : Int32)) hx hb dJ5_clear_5 (by decide) ?_
  refine lv_iadd hx hb dJ5_clear_6 ?_
  refine st_putq (x := ((f 175) + (1 : Int32))) X w hM 3 175 q227 rfl rfl rfl rfl (stOk_lit rfl) dJ5_clear_7 (fun M H locs w hM => ?_)
  refine lv_aload_n hx hb dJ5_clear_10 rfl (lv_at hl 0 rfl) ?_
  refine mx_get (v := .ref (ad 18)) X w in_J5 (ci := 10) rfl 0 (by decide) q224 (fun _ h => h) hM.q17 rfl dJ5_clear_11 ?_
  refine lv_astore_n (lv' := [(1, .ref (ad 18)), (0, .ref (ad 17))]) hx hb dJ5_clear_14 rfl hl (by decide) rfl (fun ls hl => ?_)
  refine lv_iconst (v := (0 : Int32)) hx hb dJ5_clear_15 (by decide) ?_
  refine lv_istore_n (lv' := [(2, .int (0 : Int32)), (1, .ref (ad 18)), (0, .ref (ad 17))]) hx hb dJ5_clear_16 rfl hl (by decide) rfl (fun ls hl => ?_)
  refine lv_aload_n hx hb dJ5_clear_17 rfl (lv_at hl 2 rfl) ?_
  refine mx_get (v := .int ((upd f 175 ((f 175) + (1 : Int32))) 176)) X w in_J5 (ci := 10) rfl 1 (by decide) q225 (fun _ h => h) hM.q17 rfl dJ5_clear_18 ?_
  refine mx_cast (z := nI (nC f 176)) (by rw [pk_un (by decide), hcq]; exact enq) ?_
  refine lv_istore_n (lv' := [(3, .int (nI (nC f 176))), (2, .int (0 : Int32)), (1, .ref (ad 18)), (0, .ref (ad 17))]) hx hb dJ5_clear_21 rfl hl (by decide) rfl (fun ls hl => ?_)
  have L22 : ∀ (n_22 : Nat) (n2_22 : Nat) (f_22 : (Nat → Int32)) (M : mh) (H : Heap) (locs : List Loc) (ls : Array Slot), (hi : n2_22 ≤ nq) → (hm : nq < n2_22 + n_22) → cf_qclear_22 f n_22 n2_22 f_22 = z → lv_has ls 4 [(3, .int (nI (nC f 176))), (1, .ref (ad 18)), (0, .ref (ad 17)), (2, .int (nI n2_22))] → mW G A s M H locs → Sta G ad np ng M0 M f_22 → W p l e R s m av below meth c H locs 0 0 Q (F0 m 22 ls []) := by
    intro n_22
    induction n_22 with
    | zero =>
      intro n2_22 f_22 M H locs ls hi hm E hl w hM
      have hcp := hM.cnp
      exfalso; omega
    | succ n_22 ih_22 =>
      intro n2_22 f_22 M H locs ls hi hm E hl w hM
      have hcp := hM.cnp
      rw [cf_qclear_22] at E
      refine lv_iload_n hx hb dJ5_clear_22 rfl (lv_at hl 3 rfl) ?_
      refine lv_iload_n hx hb dJ5_clear_23 rfl (lv_at hl 0 rfl) ?_
      refine mx_nge (u := n2_22) (v := (nC f 176)) (tgt := 37) hx hb rfl rfl (by omega) (by omega) dJ5_clear_24 (by decide) (fun c_24 => ?_) (fun c_24 => ?_)
      · rw [if_pos c_24] at E
        refine lv_aload_n hx hb dJ5_clear_37 rfl (lv_at hl 2 rfl) ?_
        refine lv_iconst (v := (0 : Int32)) hx hb dJ5_clear_38 (by decide) ?_
        refine st_putq (x := (0 : Int32)) X w hM 1 176 q225 rfl rfl rfl rfl (stOk_lit rfl) dJ5_clear_39 (fun M H locs w hM => ?_)
        exact fin M H locs ls 42 dJ5_clear_42 (by rw [← E]; exact hM) w
      · rw [if_neg c_24] at E
        refine lv_aload_n hx hb dJ5_clear_27 rfl (lv_at hl 1 rfl) ?_
        refine lv_iload_n hx hb dJ5_clear_28 rfl (lv_at hl 3 rfl) ?_
        refine lv_null hx hb dJ5_clear_29 ?_
        refine st_qastN X w hM (n := n2_22) (show n2_22 < 6 from by omega) dJ5_clear_30 (fun M H locs w hM => ?_)
        refine lv_iinc (v := (nI (n2_22 + 1))) (lv' := [(2, .int (nI (n2_22 + 1))), (3, .int (nI (nC f 176))), (1, .ref (ad 18)), (0, .ref (ad 17))]) hx hb dJ5_clear_31 hl (k := 3) rfl (nI_incr _ 1) (by decide) rfl (fun ls hl => ?_)
        refine lv_goto (tgt := 22) hx hb dJ5_clear_34 (by decide) ?_
        exact ih_22 (n2_22 + 1) (upd f_22 (180 + n2_22) (-1 : Int32)) M H locs ls (by first | omega | assumption) (by first | omega | assumption) E (lv_sub hl [1, 2, 3, 0] rfl) w hM
  exact L22 7 0 (upd f 175 ((f 175) + (1 : Int32))) M H locs ls (by first | omega | assumption) (by first | omega | assumption) E (lv_sub hl [0, 2, 3, 1] rfl) w hM
def cf_qsize (f : (Nat → Int32)) : Int32 := (f 176)
set_option maxHeartbeats 4000000 in
set_option maxRecDepth 100000 in
theorem ct_qsize (l : Launch) (G : mg) (A : Nat → Prop) (ad : Nat → Nat) (np ng : Nat) (M0 M1 : mh) (f : Nat → Int32)   (hM : Sta G ad np ng M0 M1 f)  : Met l yJ5_size (ws_ yJ5_size cJ5_size 1 (some .int)) ({ frames := 0, cells := 0, slots := 0, locals := 0 }) (va_Pc [.ref (ad 17)] (mU G A (fun M => M = M1))) (mQi G A (fun r M => r = cf_qsize f ∧ M = M1)) 0 0 A := by
  refine mx_ofi (by decide) (Nat.le_of_ble_eq_true rfl) ?_
  intro p e R s m av below meth c M H Q ls X hRf hRl hRc hRs hin eM w fin hl
  subst M
  have X : CallFix p m c cJ5_size 1 s av lw_all "java/util/PriorityQueue" := X
  have hx := X.1
  have hb := X.2.1
  have hl : lv_has ls 1 [(0, .ref (ad 17))] := hl
  have hRf : R.frames = 0 := hRf
  have hRl : R.locals = 0 := hRl
  have hRc : R.cells = 0 := hRc
  have hRs : R.slots = 0 := hRs
  have hcp := hM.cnp
  have hn6 := hM.n6
  have hg8 := hM.g8
  generalize ([] : List Loc) = locs at w ⊢
  generalize E : cf_qsize f = z at fin
  rw [cf_qsize] at E
  refine lv_aload_n hx hb dJ5_size_0 rfl (lv_at hl 0 rfl) ?_
  refine mx_get (v := .int (f 176)) X w in_J5 (ci := 10) rfl 1 (by decide) q225 (fun _ h => h) hM.q17 rfl dJ5_size_1 ?_
  exact fin (f 176) M1 H locs ls 4 dJ5_size_4 ⟨E, rfl⟩ w
def cf_peek (f : (Nat → Int32)) : Option Nat := some (tN (f (180 + 0)))
set_option maxHeartbeats 4000000 in
set_option maxRecDepth 100000 in
theorem ct_peek (l : Launch) (G : mg) (A : Nat → Prop) (ad : Nat → Nat) (np ng : Nat) (M0 M1 : mh) (f : Nat → Int32)   (hM : Sta G ad np ng M0 M1 f) (hq0 : ∃ j, j < np ∧ f 180 = nI j) : Met l yJ5_peek (ws_ yJ5_peek cJ5_peek 1 (some (.object "java/lang/Object"))) ({ frames := 0, cells := 0, slots := 0, locals := 0 }) (va_Pc [.ref (ad 17)] (mU G A (fun M => M = M1))) (mQq G A (fun r M => r = ((cf_peek f).map fun k => ad (20 + k)) ∧ M = M1)) 0 0 A := by
  refine mx_ofq (Or.inl ⟨_, rfl⟩) (by decide) (Nat.le_of_ble_eq_true rfl) ?_
  intro p e R s m av below meth c M H Q ls X hRf hRl hRc hRs hin eM w fin hl
  subst M
  have X : CallFix p m c cJ5_peek 1 s av lw_all "java/util/PriorityQueue" := X
  have hx := X.1
  have hb := X.2.1
  have hl : lv_has ls 1 [(0, .ref (ad 17))] := hl
  have hRf : R.frames = 0 := hRf
  have hRl : R.locals = 0 := hRl
  have hRc : R.cells = 0 := hRc
  have hRs : R.slots = 0 := hRs
  have hcp := hM.cnp
  have hn6 := hM.n6
  have hg8 := hM.g8
  generalize ([] : List Loc) = locs at w ⊢
  generalize E : cf_peek f = z at fin
  rw [cf_peek] at E
  refine lv_aload_n hx hb dJ5_peek_0 rfl (lv_at hl 0 rfl) ?_
  refine mx_get (v := .ref (ad 18)) X w in_J5 (ci := 10) rfl 0 (by decide) q224 (fun _ h => h) hM.q17 rfl dJ5_peek_1 ?_
  refine lv_iconst (v := (0 : Int32)) hx hb dJ5_peek_4 (by decide) ?_
  have hq_5 : ∃ j, j < np ∧ f (180 + 0) = nI j := hq0
  have hp_5 : (tN (f (180 + 0))) < np := q_lt hq_5 hM.n6
  refine st_qald X w hM (n := 0) (show 0 < 6 from by decide) hq_5 dJ5_peek_5 ?_
  exact fin ((some (tN (f (180 + 0)))).map fun k => ad (20 + k)) M1 H locs ls 6 dJ5_peek_6 ⟨by rw [E], rfl⟩ w
def cf_siftDnC_88 (f : (Nat → Int32)) (k0 : Nat) (kx : Nat) (nq : Nat) (rc_5 : Nat → (Nat → Int32) → (Nat → Int32)) (n0_5 : Nat) (f_5 : (Nat → Int32))  : (Nat → Int32) := (upd f_5 (180 + n0_5) (nI kx))
def cf_siftDnC_61 (f : (Nat → Int32)) (k0 : Nat) (kx : Nat) (nq : Nat) (rc_5 : Nat → (Nat → Int32) → (Nat → Int32)) (n0_5 : Nat) (f_5 : (Nat → Int32)) (n6_61 : Nat) (u7_61 : Nat) : (Nat → Int32) := (if 0 < (cf_cmpO f_5 kx u7_61) then ( rc_5 n6_61 (upd f_5 (180 + n0_5) (nI u7_61))) else (cf_siftDnC_88 f k0 kx nq rc_5 n0_5 f_5 ))
def cf_siftDnC_5 (f : (Nat → Int32)) (k0 : Nat) (kx : Nat) (nq : Nat) : Nat → Nat → (Nat → Int32) → (Nat → Int32)
  | 0, _, f_5 => f_5
  | n_5 + 1, n0_5, f_5 => (if (nq / 2) ≤ n0_5 then (cf_siftDnC_88 f k0 kx nq (cf_siftDnC_5 f k0 kx nq n_5) n0_5 f_5 ) else (if nq ≤ (n0_5 * 2 + 1 + 1) then (cf_siftDnC_61 f k0 kx nq (cf_siftDnC_5 f k0 kx nq n_5) n0_5 f_5 (n0_5 * 2 + 1) (tN (f_5 (180 + (n0_5 * 2 + 1))))) else (if (cf_cmpO f_5 (tN (f_5 (180 + (n0_5 * 2 + 1)))) (tN (f_5 (180 + (n0_5 * 2 + 1 + 1))))) ≤ 0 then (cf_siftDnC_61 f k0 kx nq (cf_siftDnC_5 f k0 kx nq n_5) n0_5 f_5 (n0_5 * 2 + 1) (tN (f_5 (180 + (n0_5 * 2 + 1))))) else (cf_siftDnC_61 f k0 kx nq (cf_siftDnC_5 f k0 kx nq n_5) n0_5 f_5 (n0_5 * 2 + 1 + 1) (tN (f_5 (180 + (n0_5 * 2 + 1 + 1))))))))
def cf_siftDnC (f : (Nat → Int32)) (k0 : Nat) (kx : Nat) (nq : Nat) : (Nat → Int32) := (cf_siftDnC_5 f k0 kx nq 7 k0 f)
set_option maxHeartbeats 4000000 in
set_option maxRecDepth 100000 in
theorem ct_siftDnC (l : Launch) (G : mg) (A : Nat → Prop) (ad : Nat → Nat) (np ng : Nat) (M0 : mh) (f : Nat → Int32) (k0 : Nat) (kx : Nat) (nq : Nat)  (hn : nq < 6) (hk0 : k0 < nq) (hk : kx < np) (hq0 : ∀ i, i < nq → ∃ j, j < np ∧ f (180 + i) = nI j) : Met l yJ5_siftDownUsingComparator (ws_ yJ5_siftDownUsingComparator cJ5_siftDownUsingComparator 9 (none)) ({ frames := 3, cells := 0, slots := 0, locals := 67 }) (va_Pc [.int (nI k0), .ref (ad (20 + kx)), .ref (ad 18), .int (nI nq), .ref (ad 19)] (mU G A (fun M => Sta G ad np ng M0 M f))) (mQv G A (fun M => Sta G ad np ng M0 M (cf_siftDnC f k0 kx nq))) 0 0 A := by
  refine mx_ofv (by decide) (Nat.le_of_ble_eq_true rfl) ?_
  intro p e R s m av below meth c M H Q ls X hRf hRl hRc hRs hin hM w fin hl
  have X : CallFix p m c cJ5_siftDownUsingComparator 9 s av lw_all "java/util/PriorityQueue" := X
  have hx := X.1
  have hb := X.2.1
  have hl : lv_has ls 9 [(0, .int (nI k0)), (1, .ref (ad (20 + kx))), (2, .ref (ad 18)), (3, .int (nI nq)), (4, .ref (ad 19))] := hl
  have hRf : R.frames = 3 := hRf
  have hRl : R.locals = 67 := hRl
  have hRc : R.cells = 0 := hRc
  have hRs : R.slots = 0 := hRs
  have hcp := hM.cnp
  have hn6 := hM.n6
  have hg8 := hM.g8
  generalize ([] : List Loc) = locs at w ⊢
  generalize E : cf_siftDnC f k0 kx nq = z at fin
  rw [cf_siftDnC] at E
  refine lv_iload_n hx hb dJ5_siftDownUsingComparator_0 rfl (lv_at hl 3 rfl) ?_
  refine lv_iconst (v := (1 : Int32)) hx hb dJ5_siftDownUsingComparator_1 (by decide) ?_
  refine lv_iushr (v := nI (nq / 2)) hx hb dJ5_siftDownUsingComparator_2 (pk_ushrN (by omega) 1 1 (by decide)) ?_
  refine lv_istore (lv' := [(5, .int (nI (nq / 2))), (0, .int (nI k0)), (1, .ref (ad (20 + kx))), (2, .ref (ad 18)), (3, .int (nI nq)), (4, .ref (ad 19))]) hx hb dJ5_siftDownUsingComparator_3 hl (by decide) rfl (fun ls hl => ?_)
  have L5 : ∀ (n_5 : Nat) (n0_5 : Nat) (f_5 : (Nat → Int32)) (M : mh) (H : Heap) (locs : List Loc) (ls : Array Slot), (hq : ∀ i, i < nq → ∃ j, j < np ∧ f_5 (180 + i) = nI j) → (hi : n0_5 < nq) → (hm : nq ≤ n0_5 + n_5) → cf_siftDnC_5 f k0 kx nq n_5 n0_5 f_5 = z → lv_has ls 9 [(5, .int (nI (nq / 2))), (1, .ref (ad (20 + kx))), (2, .ref (ad 18)), (3, .int (nI nq)), (4, .ref (ad 19)), (0, .int (nI n0_5))] → mW G A s M H locs → Sta G ad np ng M0 M f_5 → W p l e R s m av below meth c H locs 0 0 Q (F0 m 5 ls []) := by
    intro n_5
    induction n_5 with
    | zero =>
      intro n0_5 f_5 M H locs ls hq hi hm E hl w hM
      have hcp := hM.cnp
      exfalso; omega
    | succ n_5 ih_5 =>
      intro n0_5 f_5 M H locs ls hq hi hm E hl w hM
      have hcp := hM.cnp
      rw [cf_siftDnC_5] at E
      refine lv_iload_n hx hb dJ5_siftDownUsingComparator_5 rfl (lv_at hl 5 rfl) ?_
      refine lv_iload hx hb dJ5_siftDownUsingComparator_6 (lv_at hl 0 rfl) ?_
      have J88 : ∀  (M : mh) (H : Heap) (locs : List Loc) (ls : Array Slot), (hk88 : True) → cf_siftDnC_88 f k0 kx nq (cf_siftDnC_5 f k0 kx nq n_5) n0_5 f_5  = z → lv_has ls 9 [(1, .ref (ad (20 + kx))), (2, .ref (ad 18)), (0, .int (nI n0_5))] → mW G A s M H locs → Sta G ad np ng M0 M f_5 → W p l e R s m av below meth c H locs 0 0 Q (F0 m 88 ls []) := by
        intro  M H locs ls hk88 E hl w hM
        have hcp := hM.cnp
        rw [cf_siftDnC_88] at E
        refine lv_aload_n hx hb dJ5_siftDownUsingComparator_88 rfl (lv_at hl 1 rfl) ?_
        refine lv_iload_n hx hb dJ5_siftDownUsingComparator_89 rfl (lv_at hl 2 rfl) ?_
        refine lv_aload_n hx hb dJ5_siftDownUsingComparator_90 rfl (lv_at hl 0 rfl) ?_
        refine st_qast X w hM (n := n0_5) (k := kx) (show n0_5 < 6 from by omega) (by first | omega | assumption) dJ5_siftDownUsingComparator_91 (fun M H locs w hM => ?_)
        exact fin M H locs ls 92 dJ5_siftDownUsingComparator_92 (by rw [← E]; exact hM) w
      refine mx_nge (u := n0_5) (v := (nq / 2)) (tgt := 88) hx hb rfl rfl (by omega) (by omega) dJ5_siftDownUsingComparator_8 (by decide) (fun c_8 => ?_) (fun c_8 => ?_)
      · rw [if_pos c_8] at E
        exact J88  M H locs ls (trivial) E (lv_sub hl [1, 2, 5] rfl) w hM
      · rw [if_neg c_8] at E
        refine lv_iload_n hx hb dJ5_siftDownUsingComparator_11 rfl (lv_at hl 5 rfl) ?_
        refine lv_iconst (v := (1 : Int32)) hx hb dJ5_siftDownUsingComparator_12 (by decide) ?_
        refine lv_ishl hx hb dJ5_siftDownUsingComparator_13 ?_
        refine mx_cast (z := nI (n0_5 * 2)) (pk_shlN _ 1 (by decide) (by omega)) ?_
        refine lv_iconst (v := (1 : Int32)) hx hb dJ5_siftDownUsingComparator_14 (by decide) ?_
        refine mx_nadd (u := n0_5 * 2) (v := 1) hx hb rfl rfl dJ5_siftDownUsingComparator_15 ?_
        refine lv_istore (lv' := [(6, .int (nI (n0_5 * 2 + 1))), (5, .int (nI (nq / 2))), (1, .ref (ad (20 + kx))), (2, .ref (ad 18)), (3, .int (nI nq)), (4, .ref (ad 19)), (0, .int (nI n0_5))]) hx hb dJ5_siftDownUsingComparator_16 hl (by decide) rfl (fun ls hl => ?_)
        refine lv_aload_n hx hb dJ5_siftDownUsingComparator_18 rfl (lv_at hl 3 rfl) ?_
        refine lv_iload hx hb dJ5_siftDownUsingComparator_19 (lv_at hl 0 rfl) ?_
        have hq_21 : ∃ j, j < np ∧ f_5 (180 + (n0_5 * 2 + 1)) = nI j := hq _ (by omega)
        have hp_21 : (tN (f_5 (180 + (n0_5 * 2 + 1)))) < np := q_lt hq_21 hM.n6
        refine st_qald X w hM (n := n0_5 * 2 + 1) (show n0_5 * 2 + 1 < 6 from by omega) hq_21 dJ5_siftDownUsingComparator_21 ?_
        refine lv_astore (lv' := [(7, .ref (ad (20 + (tN (f_5 (180 + (n0_5 * 2 + 1))))))), (6, .int (nI (n0_5 * 2 + 1))), (5, .int (nI (nq / 2))), (1, .ref (ad (20 + kx))), (2, .ref (ad 18)), (3, .int (nI nq)), (4, .ref (ad 19)), (0, .int (nI n0_5))]) hx hb dJ5_siftDownUsingComparator_22 hl (by decide) rfl (fun ls hl => ?_)
        refine lv_iload hx hb dJ5_siftDownUsingComparator_24 (lv_at hl 1 rfl) ?_
        refine lv_iconst (v := (1 : Int32)) hx hb dJ5_siftDownUsingComparator_26 (by decide) ?_
        refine mx_nadd (u := n0_5 * 2 + 1) (v := 1) hx hb rfl rfl dJ5_siftDownUsingComparator_27 ?_
        refine lv_istore (lv' := [(8, .int (nI (n0_5 * 2 + 1 + 1))), (7, .ref (ad (20 + (tN (f_5 (180 + (n0_5 * 2 + 1))))))), (6, .int (nI (n0_5 * 2 + 1))), (5, .int (nI (nq / 2))), (1, .ref (ad (20 + kx))), (2, .ref (ad 18)), (3, .int (nI nq)), (4, .ref (ad 19)), (0, .int (nI n0_5))]) hx hb dJ5_siftDownUsingComparator_28 hl (by decide) rfl (fun ls hl => ?_)
        refine lv_iload hx hb dJ5_siftDownUsingComparator_30 (lv_at hl 0 rfl) ?_
        refine lv_iload_n hx hb dJ5_siftDownUsingComparator_32 rfl (lv_at hl 6 rfl) ?_
        have J61 : ∀ (n6_61 : Nat) (u7_61 : Nat) (M : mh) (H : Heap) (locs : List Loc) (ls : Array Slot), (hk6 : n6_61 < nq) → (hk6b : n0_5 < n6_61) → (hk7 : u7_61 < np) → cf_siftDnC_61 f k0 kx nq (cf_siftDnC_5 f k0 kx nq n_5) n0_5 f_5 n6_61 u7_61 = z → lv_has ls 9 [(5, .int (nI (nq / 2))), (1, .ref (ad (20 + kx))), (2, .ref (ad 18)), (3, .int (nI nq)), (4, .ref (ad 19)), (0, .int (nI n0_5)), (6, .int (nI n6_61)), (7, .ref (ad (20 + u7_61)))] → mW G A s M H locs → Sta G ad np ng M0 M f_5 → W p l e R s m av below meth c H locs 0 0 Q (F0 m 61 ls []) := by
          intro n6_61 u7_61 M H locs ls hk6 hk6b hk7 E hl w hM
          have hcp := hM.cnp
          rw [cf_siftDnC_61] at E
          refine lv_aload hx hb dJ5_siftDownUsingComparator_61 (lv_at hl 4 rfl) ?_
          refine lv_aload_n hx hb dJ5_siftDownUsingComparator_63 rfl (lv_at hl 1 rfl) ?_
          refine lv_aload hx hb dJ5_siftDownUsingComparator_64 (lv_at hl 7 rfl) ?_
          refine mx_biF w (va_runF (As := [.ref (ad (20 + kx)), .ref (ad (20 + u7_61))]) (rest := []) (w.cls0 (ci := 2) rfl).choose_spec X (ct_cmpO l G A ad np ng M0 M f_5 kx u7_61 hM (by first | omega | assumption) (by first | omega | assumption)) (va_cwF 2 X.2.2.2.2 (lw_F q1491 q966 q968 q105 q970) rfl rfl rfl (va_Fw.of (w.tblB (args := av) q964 rfl rfl) (w.tblB (args := av) q963 rfl rfl) (w.tblB (args := av) q969 rfl rfl) (w.tblB (args := av) q967 rfl rfl) (w.tblB (args := av) q965 rfl rfl)) (by decide +kernel) ⟨by rw [hRf]; decide, by rw [hRl]; decide⟩) (mx_preV w rfl hM.c19 rfl) rfl rfl hl.1 rfl (lv_room (Nat.le_of_ble_eq_true rfl)) dJ5_siftDownUsingComparator_66 ⟨Nat.zero_le _, Nat.zero_le _⟩) (fun r M9 H locs hp w => ?_)
          obtain ⟨rfl, eM⟩ := hp; subst M9
          refine lv_if_gt (tgt := 77) hx hb dJ5_siftDownUsingComparator_71 (by decide) (fun c_71 => ?_) (fun c_71 => ?_)
          · rw [if_pos c_71] at E
            refine lv_aload_n hx hb dJ5_siftDownUsingComparator_77 rfl (lv_at hl 2 rfl) ?_
            refine lv_iload_n hx hb dJ5_siftDownUsingComparator_78 rfl (lv_at hl 5 rfl) ?_
            refine lv_aload hx hb dJ5_siftDownUsingComparator_79 (lv_at hl 7 rfl) ?_
            refine st_qast X w hM (n := n0_5) (k := u7_61) (show n0_5 < 6 from by omega) (by first | omega | assumption) dJ5_siftDownUsingComparator_81 (fun M H locs w hM => ?_)
            refine lv_iload hx hb dJ5_siftDownUsingComparator_82 (lv_at hl 6 rfl) ?_
            refine lv_istore_n (lv' := [(0, .int (nI n6_61)), (5, .int (nI (nq / 2))), (1, .ref (ad (20 + kx))), (2, .ref (ad 18)), (3, .int (nI nq)), (4, .ref (ad 19)), (6, .int (nI n6_61)), (7, .ref (ad (20 + u7_61)))]) hx hb dJ5_siftDownUsingComparator_84 rfl hl (by decide) rfl (fun ls hl => ?_)
            refine lv_goto (tgt := 5) hx hb dJ5_siftDownUsingComparator_85 (by decide) ?_
            exact ih_5 n6_61 (upd f_5 (180 + n0_5) (nI u7_61)) M H locs ls (by first | omega | assumption | exact q_up hq (by assumption)) (by first | omega | assumption) (by first | omega | assumption) E (lv_sub hl [1, 2, 3, 4, 5, 0] rfl) w hM
          · rw [if_neg c_71] at E
            refine lv_goto (tgt := 88) hx hb dJ5_siftDownUsingComparator_74 (by decide) ?_
            exact J88  M H locs ls (trivial) E (lv_sub hl [1, 2, 5] rfl) w hM
        refine mx_nge (u := (n0_5 * 2 + 1 + 1)) (v := nq) (tgt := 61) hx hb rfl rfl (by omega) (by omega) dJ5_siftDownUsingComparator_33 (by decide) (fun c_33 => ?_) (fun c_33 => ?_)
        · rw [if_pos c_33] at E
          exact J61 (n0_5 * 2 + 1) (tN (f_5 (180 + (n0_5 * 2 + 1)))) M H locs ls (by omega) (by omega) (by assumption) E (lv_sub hl [3, 4, 5, 6, 7, 8, 2, 1] rfl) w hM
        · rw [if_neg c_33] at E
          refine lv_aload hx hb dJ5_siftDownUsingComparator_36 (lv_at hl 7 rfl) ?_
          refine lv_aload hx hb dJ5_siftDownUsingComparator_38 (lv_at hl 1 rfl) ?_
          refine lv_aload_n hx hb dJ5_siftDownUsingComparator_40 rfl (lv_at hl 5 rfl) ?_
          refine lv_iload hx hb dJ5_siftDownUsingComparator_41 (lv_at hl 0 rfl) ?_
          have hq_43 : ∃ j, j < np ∧ f_5 (180 + (n0_5 * 2 + 1 + 1)) = nI j := hq _ (by omega)
          have hp_43 : (tN (f_5 (180 + (n0_5 * 2 + 1 + 1)))) < np := q_lt hq_43 hM.n6
          refine st_qald X w hM (n := n0_5 * 2 + 1 + 1) (show n0_5 * 2 + 1 + 1 < 6 from by omega) hq_43 dJ5_siftDownUsingComparator_43 ?_
          refine mx_biF w (va_runF (As := [.ref (ad (20 + (tN (f_5 (180 + (n0_5 * 2 + 1)))))), .ref (ad (20 + (tN (f_5 (180 + (n0_5 * 2 + 1 + 1))))))]) (rest := []) (w.cls0 (ci := 2) rfl).choose_spec X (ct_cmpO l G A ad np ng M0 M f_5 (tN (f_5 (180 + (n0_5 * 2 + 1)))) (tN (f_5 (180 + (n0_5 * 2 + 1 + 1)))) hM (by first | omega | assumption) (by first | omega | assumption)) (va_cwF 2 X.2.2.2.2 (lw_F q1491 q966 q968 q105 q970) rfl rfl rfl (va_Fw.of (w.tblB (args := av) q964 rfl rfl) (w.tblB (args := av) q963 rfl rfl) (w.tblB (args := av) q969 rfl rfl) (w.tblB (args := av) q967 rfl rfl) (w.tblB (args := av) q965 rfl rfl)) (by decide +kernel) ⟨by rw [hRf]; decide, by rw [hRl]; decide⟩) (mx_preV w rfl hM.c19 rfl) rfl rfl hl.1 rfl (lv_room (Nat.le_of_ble_eq_true rfl)) dJ5_siftDownUsingComparator_44 ⟨Nat.zero_le _, Nat.zero_le _⟩) (fun r M9 H locs hp w => ?_)
          obtain ⟨rfl, eM⟩ := hp; subst M9
          refine lv_if_le (tgt := 61) hx hb dJ5_siftDownUsingComparator_49 (by decide) (fun c_49 => ?_) (fun c_49 => ?_)
          · rw [if_pos c_49] at E
            exact J61 (n0_5 * 2 + 1) (tN (f_5 (180 + (n0_5 * 2 + 1)))) M H locs ls (by omega) (by omega) (by assumption) E (lv_sub hl [3, 4, 5, 6, 7, 8, 2, 1] rfl) w hM
          · rw [if_neg c_49] at E
            refine lv_aload_n hx hb dJ5_siftDownUsingComparator_52 rfl (lv_at hl 5 rfl) ?_
            refine lv_iload hx hb dJ5_siftDownUsingComparator_53 (lv_at hl 0 rfl) ?_
            refine lv_dup hx hb dJ5_siftDownUsingComparator_55 rfl ?_
            refine lv_istore (lv' := [(6, .int (nI (n0_5 * 2 + 1 + 1))), (8, .int (nI (n0_5 * 2 + 1 + 1))), (7, .ref (ad (20 + (tN (f_5 (180 + (n0_5 * 2 + 1))))))), (5, .int (nI (nq / 2))), (1, .ref (ad (20 + kx))), (2, .ref (ad 18)), (3, .int (nI nq)), (4, .ref (ad 19)), (0, .int (nI n0_5))]) hx hb dJ5_siftDownUsingComparator_56 hl (by decide) rfl (fun ls hl => ?_)
            have hq_58 : ∃ j, j < np ∧ f_5 (180 + (n0_5 * 2 + 1 + 1)) = nI j := hq _ (by omega)
            have hp_58 : (tN (f_5 (180 + (n0_5 * 2 + 1 + 1)))) < np := q_lt hq_58 hM.n6
            refine st_qald X w hM (n := n0_5 * 2 + 1 + 1) (show n0_5 * 2 + 1 + 1 < 6 from by omega) hq_58 dJ5_siftDownUsingComparator_58 ?_
            refine lv_astore (lv' := [(7, .ref (ad (20 + (tN (f_5 (180 + (n0_5 * 2 + 1 + 1))))))), (6, .int (nI (n0_5 * 2 + 1 + 1))), (8, .int (nI (n0_5 * 2 + 1 + 1))), (5, .int (nI (nq / 2))), (1, .ref (ad (20 + kx))), (2, .ref (ad 18)), (3, .int (nI nq)), (4, .ref (ad 19)), (0, .int (nI n0_5))]) hx hb dJ5_siftDownUsingComparator_59 hl (by decide) rfl (fun ls hl => ?_)
            exact J61 (n0_5 * 2 + 1 + 1) (tN (f_5 (180 + (n0_5 * 2 + 1 + 1)))) M H locs ls (by omega) (by omega) (by assumption) E (lv_sub hl [3, 4, 5, 6, 7, 8, 1, 0] rfl) w hM
  exact L5 7 k0 f M H locs ls (by first | omega | assumption | exact hq0) (by first | omega | assumption) (by first | omega | assumption) E (lv_sub hl [0, 2, 3, 4, 5, 1] rfl) w hM
def cf_poll_79 (f : (Nat → Int32)) (f_79 : (Nat → Int32)) : (Option Nat × (Nat → Int32)) := (some (tN (f (180 + 0))), f_79)
def cf_poll_c76 (f : (Nat → Int32)) (f_76 : (Nat → Int32)) : (Option Nat × (Nat → Int32)) := (cf_poll_79 f f_76)
def cf_poll (f : (Nat → Int32)) : Option Nat × (Nat → Int32) := (if ((nC f 176) - 1) = 0 then (cf_poll_79 f (upd (upd (upd f 175 ((f 175) + (1 : Int32))) 176 (nI ((nC f 176) - 1))) (180 + ((nC f 176) - 1)) (-1 : Int32))) else (cf_poll_c76 f (cf_siftDnC (upd (upd (upd f 175 ((f 175) + (1 : Int32))) 176 (nI ((nC f 176) - 1))) (180 + ((nC f 176) - 1)) (-1 : Int32)) 0 (tN ((upd (upd f 175 ((f 175) + (1 : Int32))) 176 (nI ((nC f 176) - 1))) (180 + ((nC f 176) - 1)))) ((nC f 176) - 1))))
set_option maxHeartbeats 4000000 in
set_option maxRecDepth 100000 in
theorem ct_poll (l : Launch) (G : mg) (A : Nat → Prop) (ad : Nat → Nat) (np ng : Nat) (M0 : mh) (f : Nat → Int32)  (nq : Nat) (enq : f 176 = nI nq) (hn : nq ≤ 6) (hn0 : 0 < nq) (hq0 : ∀ i, i < nq → ∃ j, j < np ∧ f (180 + i) = nI j) : Met l yJ5_poll (ws_ yJ5_poll cJ5_poll 6 (some (.object "java/lang/Object"))) ({ frames := 4, cells := 0, slots := 0, locals := 95 }) (va_Pc [.ref (ad 17)] (mU G A (fun M => Sta G ad np ng M0 M f))) (mQq G A (fun r M => r = (((cf_poll f).1).map fun k => ad (20 + k)) ∧ Sta G ad np ng M0 M (cf_poll f).2)) 0 0 A := by
  refine mx_ofq (Or.inl ⟨_, rfl⟩) (by decide) (Nat.le_of_ble_eq_true rfl) ?_
  intro p e R s m av below meth c M H Q ls X hRf hRl hRc hRs hin hM w fin hl
  have X : CallFix p m c cJ5_poll 6 s av lw_all "java/util/PriorityQueue" := X
  have hx := X.1
  have hb := X.2.1
  have hl : lv_has ls 6 [(0, .ref (ad 17))] := hl
  have hRf : R.frames = 4 := hRf
  have hRl : R.locals = 95 := hRl
  have hRc : R.cells = 0 := hRc
  have hRs : R.slots = 0 := hRs
  have hcp := hM.cnp
  have hn6 := hM.n6
  have hg8 := hM.g8
  generalize ([] : List Loc) = locs at w ⊢
  generalize E : cf_poll f = z at fin
  rw [cf_poll] at E
  have hcq := nC_of enq (by omega)
  refine lv_aload_n hx hb dJ5_poll_0 rfl (lv_at hl 0 rfl) ?_
  refine mx_get (v := .ref (ad 18)) X w in_J5 (ci := 10) rfl 0 (by decide) q224 (fun _ h => h) hM.q17 rfl dJ5_poll_1 ?_
  refine lv_dup hx hb dJ5_poll_4 rfl ?_
  refine lv_astore_n (lv' := [(1, .ref (ad 18)), (0, .ref (ad 17))]) hx hb dJ5_poll_5 rfl hl (by decide) rfl (fun ls hl => ?_)
  refine lv_iconst (v := (0 : Int32)) hx hb dJ5_poll_6 (by decide) ?_
  have hq_7 : ∃ j, j < np ∧ f (180 + 0) = nI j := hq0 0 hn0
  have hp_7 : (tN (f (180 + 0))) < np := q_lt hq_7 hM.n6
  refine st_qald X w hM (n := 0) (show 0 < 6 from by decide) hq_7 dJ5_poll_7 ?_
  refine lv_dup hx hb dJ5_poll_8 rfl ?_
  refine lv_astore_n (lv' := [(2, .ref (ad (20 + (tN (f (180 + 0)))))), (1, .ref (ad 18)), (0, .ref (ad 17))]) hx hb dJ5_poll_9 rfl hl (by decide) rfl (fun ls hl => ?_)
  have J79 : ∀ (f_79 : (Nat → Int32)) (M : mh) (H : Heap) (locs : List Loc) (ls : Array Slot), cf_poll_79 f f_79 = z → lv_has ls 6 [(2, .ref (ad (20 + (tN (f (180 + 0))))))] → mW G A s M H locs → Sta G ad np ng M0 M f_79 → W p l e R s m av below meth c H locs 0 0 Q (F0 m 79 ls []) := by
    intro f_79 M H locs ls  E hl w hM
    have hcp := hM.cnp
    rw [cf_poll_79] at E
    refine lv_aload_n hx hb dJ5_poll_79 rfl (lv_at hl 0 rfl) ?_
    exact fin ((some (tN (f (180 + 0)))).map fun k => ad (20 + k)) M H locs ls 80 dJ5_poll_80 ⟨by rw [← E], by rw [← E]; exact hM⟩ w
  refine lv_ifnull hx hb dJ5_poll_10 ?_
  refine lv_aload_n hx hb dJ5_poll_13 rfl (lv_at hl 2 rfl) ?_
  refine lv_dup hx hb dJ5_poll_14 rfl ?_
  refine mx_get (v := .int (f 175)) X w in_J5 (ci := 10) rfl 3 (by decide) q227 (fun _ h => h) hM.q17 rfl dJ5_poll_15 ?_
  refine lv_iconst (v := (1 : Int32)) hx hb dJ5_poll_18 (by decide) ?_
  refine lv_iadd hx hb dJ5_poll_19 ?_
  refine st_putq (x := ((f 175) + (1 : Int32))) X w hM 3 175 q227 rfl rfl rfl rfl (stOk_lit rfl) dJ5_poll_20 (fun M H locs w hM => ?_)
  refine lv_aload_n hx hb dJ5_poll_23 rfl (lv_at hl 1 rfl) ?_
  refine lv_aload_n hx hb dJ5_poll_24 rfl (lv_at hl 2 rfl) ?_
  refine lv_dup hx hb dJ5_poll_25 rfl ?_
  refine mx_get (v := .int ((upd f 175 ((f 175) + (1 : Int32))) 176)) X w in_J5 (ci := 10) rfl 1 (by decide) q225 (fun _ h => h) hM.q17 rfl dJ5_poll_26 ?_
  refine mx_cast (z := nI (nC f 176)) (by rw [pk_un (by decide), hcq]; exact enq) ?_
  refine lv_iconst (v := (1 : Int32)) hx hb dJ5_poll_29 (by decide) ?_
  refine mx_nsub (u := nC f 176) (v := 1) hx hb rfl rfl (by omega) dJ5_poll_30 ?_
  refine lv_dup_x1 hx hb dJ5_poll_31 rfl rfl ?_
  refine st_putq (x := (nI ((nC f 176) - 1))) X w hM 1 176 q225 rfl rfl rfl rfl (stOk_lit rfl) dJ5_poll_32 (fun M H locs w hM => ?_)
  refine lv_dup hx hb dJ5_poll_35 rfl ?_
  refine lv_istore_n (lv' := [(3, .int (nI ((nC f 176) - 1))), (2, .ref (ad (20 + (tN (f (180 + 0)))))), (1, .ref (ad 18)), (0, .ref (ad 17))]) hx hb dJ5_poll_36 rfl hl (by decide) rfl (fun ls hl => ?_)
  have hq_37 : ∃ j, j < np ∧ (upd (upd f 175 ((f 175) + (1 : Int32))) 176 (nI ((nC f 176) - 1))) (180 + ((nC f 176) - 1)) = nI j := q_oth (q_oth hq0 (by decide)) (by decide) _ (by omega)
  have hp_37 : (tN ((upd (upd f 175 ((f 175) + (1 : Int32))) 176 (nI ((nC f 176) - 1))) (180 + ((nC f 176) - 1)))) < np := q_lt hq_37 hM.n6
  refine st_qald X w hM (n := (nC f 176) - 1) (show (nC f 176) - 1 < 6 from by omega) hq_37 dJ5_poll_37 ?_
  refine lv_astore (lv' := [(4, .ref (ad (20 + (tN ((upd (upd f 175 ((f 175) + (1 : Int32))) 176 (nI ((nC f 176) - 1))) (180 + ((nC f 176) - 1))))))), (3, .int (nI ((nC f 176) - 1))), (2, .ref (ad (20 + (tN (f (180 + 0)))))), (1, .ref (ad 18)), (0, .ref (ad 17))]) hx hb dJ5_poll_38 hl (by decide) rfl (fun ls hl => ?_)
  refine lv_aload_n hx hb dJ5_poll_40 rfl (lv_at hl 3 rfl) ?_
  refine lv_iload_n hx hb dJ5_poll_41 rfl (lv_at hl 1 rfl) ?_
  refine lv_null hx hb dJ5_poll_42 ?_
  refine st_qastN X w hM (n := (nC f 176) - 1) (show (nC f 176) - 1 < 6 from by omega) dJ5_poll_43 (fun M H locs w hM => ?_)
  refine lv_iload_n hx hb dJ5_poll_44 rfl (lv_at hl 1 rfl) ?_
  refine mx_0le (u := ((nC f 176) - 1)) (tgt := 79) hx hb rfl (by omega) dJ5_poll_45 (by decide) (fun c_45 => ?_) (fun c_45 => ?_)
  · rw [if_pos c_45] at E
    exact J79 (upd (upd (upd f 175 ((f 175) + (1 : Int32))) 176 (nI ((nC f 176) - 1))) (180 + ((nC f 176) - 1)) (-1 : Int32)) M H locs ls E (lv_sub hl [2] rfl) w hM
  · rw [if_neg c_45] at E
    refine lv_aload_n hx hb dJ5_poll_48 rfl (lv_at hl 4 rfl) ?_
    refine mx_get (v := .ref (ad 19)) X w in_J5 (ci := 10) rfl 2 (by decide) q226 (fun _ h => h) hM.q17 rfl dJ5_poll_49 ?_
    refine lv_dup hx hb dJ5_poll_52 rfl ?_
    refine lv_astore (lv' := [(5, .ref (ad 19)), (4, .ref (ad (20 + (tN ((upd (upd f 175 ((f 175) + (1 : Int32))) 176 (nI ((nC f 176) - 1))) (180 + ((nC f 176) - 1))))))), (3, .int (nI ((nC f 176) - 1))), (2, .ref (ad (20 + (tN (f (180 + 0)))))), (1, .ref (ad 18)), (0, .ref (ad 17))]) hx hb dJ5_poll_53 hl (by decide) rfl (fun ls hl => ?_)
    refine lv_ifnonnull (tgt := 69) hx hb dJ5_poll_55 (by decide) ?_
    refine lv_iconst (v := (0 : Int32)) hx hb dJ5_poll_69 (by decide) ?_
    refine lv_aload hx hb dJ5_poll_70 (lv_at hl 1 rfl) ?_
    refine lv_aload_n hx hb dJ5_poll_72 rfl (lv_at hl 4 rfl) ?_
    refine lv_iload_n hx hb dJ5_poll_73 rfl (lv_at hl 2 rfl) ?_
    refine lv_aload hx hb dJ5_poll_74 (lv_at hl 0 rfl) ?_
    refine mx_bv w (va_runS (As := [.int (nI 0), .ref (ad (20 + (tN ((upd (upd f 175 ((f 175) + (1 : Int32))) 176 (nI ((nC f 176) - 1))) (180 + ((nC f 176) - 1)))))), .ref (ad 18), .int (nI ((nC f 176) - 1)), .ref (ad 19)]) (rest := []) X (ct_siftDnC l G A ad np ng M0 (upd (upd (upd f 175 ((f 175) + (1 : Int32))) 176 (nI ((nC f 176) - 1))) (180 + ((nC f 176) - 1)) (-1 : Int32)) 0 (tN ((upd (upd f 175 ((f 175) + (1 : Int32))) 176 (nI ((nC f 176) - 1))) (180 + ((nC f 176) - 1)))) ((nC f 176) - 1)  (by omega) (by omega) (by assumption) (q_null (q_oth (q_oth hq0 (by decide)) (by decide)) (by omega) (by omega))) (va_cwS 5 X.2.2.2.2 (lw_S q1590 q1591 q104 q1592) rfl rfl rfl (by decide +kernel) ⟨by rw [hRf]; decide, by rw [hRl]; decide⟩) (mx_preS w hM) rfl rfl hl.1 rfl (lv_room (Nat.le_of_ble_eq_true rfl)) dJ5_poll_76 ⟨Nat.zero_le _, Nat.zero_le _⟩) (fun M H locs hM w => ?_)
    rw [cf_poll_c76] at E
    obtain ⟨f_76, ef_76⟩ : ∃ y, y = (cf_siftDnC (upd (upd (upd f 175 ((f 175) + (1 : Int32))) 176 (nI ((nC f 176) - 1))) (180 + ((nC f 176) - 1)) (-1 : Int32)) 0 (tN ((upd (upd f 175 ((f 175) + (1 : Int32))) 176 (nI ((nC f 176) - 1))) (180 + ((nC f 176) - 1)))) ((nC f 176) - 1)) := ⟨_, rfl⟩
    rw [← ef_76] at E hM
    exact J79 f_76 M H locs ls E (lv_sub hl [3] rfl) w hM
