set_option maxRecDepth 100000
/-! C4 -/
def cf_flowOf_33 (f : (Nat → Int32)) (k : Nat) (is0_33 : Int32) : Int32 := is0_33
def cf_flowOf (f : (Nat → Int32)) (k : Nat) : Int32 := (if (cf_runs f k) = true then (cf_flowOf_33 f k (cf_curve (f (39 + (8 * k) + 1)) (f (39 + (8 * k) + 2)) (f (39 + (8 * k) + 4)) (f 1))) else (cf_flowOf_33 f k (0 : Int32)))
set_option maxHeartbeats 4000000 in
set_option maxRecDepth 100000 in
theorem ct_flowOf (l : Launch) (G : mg) (A : Nat → Prop) (ad : Nat → Nat) (np ng : Nat) (M0 M1 : mh) (f : Nat → Int32) (k : Nat)  (hM : Sta G ad np ng M0 M1 f) (hk : k < np) (hF : CvOk (f (39 + (8 * k) + 1)) (f (39 + (8 * k) + 2)) (f (39 + (8 * k) + 4)) (f 1)) : Met l yX1_flowOf (ws_ yX1_flowOf cX1_flowOf 2 (some .int)) ({ frames := 3, cells := 0, slots := 0, locals := 69 }) (va_Pc [.ref (ad 0), .ref (ad (20 + k))] (mU G A (fun M => M = M1))) (mQi G A (fun r M => r = cf_flowOf f k ∧ M = M1)) 0 0 A := by
  refine mx_ofi (by decide) (Nat.le_of_ble_eq_true rfl) ?_
  intro p e R s m av below meth c M H Q ls X hRf hRl hRc hRs hin eM w fin hl
  subst M
  have X : CallFix p m c cX1_flowOf 2 s av lw_all "FieldPumps$Station" := X
  have hx := X.1
  have hb := X.2.1
  have hl : lv_has ls 2 [(0, .ref (ad 0)), (1, .ref (ad (20 + k)))] := hl
  have hRf : R.frames = 3 := hRf
  have hRl : R.locals = 69 := hRl
  have hRc : R.cells = 0 := hRc
  have hRs : R.slots = 0 := hRs
  have hcp := hM.cnp
  have hn6 := hM.n6
  have hg8 := hM.g8
  generalize ([] : List Loc) = locs at w ⊢
  generalize E : cf_flowOf f k = z at fin
  rw [cf_flowOf] at E
  refine lv_aload_n hx hb dX1_flowOf_0 rfl (lv_at hl 1 rfl) ?_
  refine mx_bi w (st_callP (As := []) (rest := []) X w hM (by first | omega | assumption) (ct_runs l G A ad np ng M0 M1 f k hM (by first | omega | assumption)) (va_cwU 0 X.2.2.2.2 (lw_U q278 q280 q281 q279 q115 q284) rfl rfl rfl rfl (by decide +kernel) ⟨by rw [hRf]; decide, by rw [hRl]; decide⟩) (va_cwU 0 X.2.2.2.2 (lw_U q278 q280 q283 q279 q115 q284) rfl rfl rfl rfl (by decide +kernel) ⟨by rw [hRf]; decide, by rw [hRl]; decide⟩) (va_cwU 0 X.2.2.2.2 (lw_U q278 q280 q282 q279 q115 q284) rfl rfl rfl rfl (by decide +kernel) ⟨by rw [hRf]; decide, by rw [hRl]; decide⟩) rfl rfl rfl hl.1 rfl (lv_room (Nat.le_of_ble_eq_true rfl)) dX1_flowOf_1 ⟨Nat.zero_le _, Nat.zero_le _⟩) (fun r M9 H locs hp w => ?_)
  obtain ⟨rfl, eM⟩ := hp; subst M9
  have J33 : ∀ (is0_33 : Int32) (M : mh) (H : Heap) (locs : List Loc) (ls : Array Slot), cf_flowOf_33 f k is0_33 = z → lv_has ls 2 [] → mW G A s M H locs → M = M1 → W p l e R s m av below meth c H locs 0 0 Q (F0 m 33 ls [.int is0_33]) := by
    intro is0_33 M H locs ls  E hl w eM
    subst M
    rw [cf_flowOf_33] at E
    exact fin is0_33 M1 H locs ls 33 dX1_flowOf_33 ⟨E, rfl⟩ w
  refine mx_beq (tgt := 32) hx hb dX1_flowOf_4 (by decide) (fun c_4 => ?_) (fun c_4 => ?_)
  · rw [if_neg c_4] at E
    refine lv_iconst (v := (0 : Int32)) hx hb dX1_flowOf_32 (by decide) ?_
    exact J33 (0 : Int32) M1 H locs ls E (lv_sub hl [] rfl) w rfl
  · rw [if_pos c_4] at E
    refine lv_aload_n hx hb dX1_flowOf_7 rfl (lv_at hl 0 rfl) ?_
    refine mx_get (v := .ref (ad 10)) X w in_X1 (ci := 1) rfl 7 (by decide) q301 (fun _ h => h) hM.st rfl dX1_flowOf_8 ?_
    refine lv_aload_n hx hb dX1_flowOf_11 rfl (lv_at hl 1 rfl) ?_
    refine st_getPN (v := .int (nI k)) X w hM (k := k) (by first | omega | assumption) 0 (by decide) q584 rfl dX1_flowOf_12 ?_
    refine mx_aald X w 4 (r := some (ad (26 + k))) hM.a10 rfl k (Nat.lt_of_lt_of_le (by first | omega | assumption) hn6) (by decide) (if_pos (by first | omega | assumption)) dX1_flowOf_15 ?_
    refine lv_aload_n hx hb dX1_flowOf_16 rfl (lv_at hl 1 rfl) ?_
    refine st_getPN (v := .int (f (39 + (8 * k) + 4))) X w hM (k := k) (by first | omega | assumption) 4 (by decide) q596 rfl dX1_flowOf_17 ?_
    refine lv_aload_n hx hb dX1_flowOf_20 rfl (lv_at hl 0 rfl) ?_
    refine mx_get (v := .int (f 1)) X w in_X1 (ci := 1) rfl 19 (by decide) q329 (fun _ h => h) hM.st rfl dX1_flowOf_21 ?_
    refine st_flow X w hM (k := k) (by first | omega | assumption) q886 (by assumption) (by rw [hRf]; decide) (by rw [hRl]; exact Nat.le_of_ble_eq_true rfl) hl.1 (Nat.le_of_ble_eq_true rfl) (Nat.zero_le _) (Nat.zero_le _) dX1_flowOf_24 (fun H locs w => ?_)
    refine lv_goto (tgt := 33) hx hb dX1_flowOf_29 (by decide) ?_
    exact J33 (cf_curve (f (39 + (8 * k) + 1)) (f (39 + (8 * k) + 2)) (f (39 + (8 * k) + 4)) (f 1)) M1 H locs ls E (lv_sub hl [] rfl) w rfl
def cf_flow_4 (f : (Nat → Int32)) : Nat → Int32 → Nat → Int32
  | 0, _, _ => (-1)
  | n_4 + 1, i1_4, n2_4 => (if (nC f 14) ≤ n2_4 then i1_4 else ( (cf_flow_4 f n_4) (i1_4 + (cf_flowOf f n2_4)) (n2_4 + 1)))
def cf_flow (f : (Nat → Int32)) : Int32 := (cf_flow_4 f 7 (0 : Int32) 0)
set_option maxHeartbeats 4000000 in
set_option maxRecDepth 100000 in
theorem ct_flow (l : Launch) (G : mg) (A : Nat → Prop) (ad : Nat → Nat) (np ng : Nat) (M0 M1 : mh) (f : Nat → Int32)   (hM : Sta G ad np ng M0 M1 f) (hF : ∀ k, k < np → CvOk (f (39 + (8 * k) + 1)) (f (39 + (8 * k) + 2)) (f (39 + (8 * k) + 4)) (f 1)) : Met l yX1_flow (ws_ yX1_flow cX1_flow 3 (some .int)) ({ frames := 4, cells := 0, slots := 0, locals := 90 }) (va_Pc [.ref (ad 0)] (mU G A (fun M => M = M1))) (mQi G A (fun r M => r = cf_flow f ∧ M = M1)) 0 0 A := by
  refine mx_ofi (by decide) (Nat.le_of_ble_eq_true rfl) ?_
  intro p e R s m av below meth c M H Q ls X hRf hRl hRc hRs hin eM w fin hl
  subst M
  have X : CallFix p m c cX1_flow 3 s av lw_all "FieldPumps$Station" := X
  have hx := X.1
  have hb := X.2.1
  have hl : lv_has ls 3 [(0, .ref (ad 0))] := hl
  have hRf : R.frames = 4 := hRf
  have hRl : R.locals = 90 := hRl
  have hRc : R.cells = 0 := hRc
  have hRs : R.slots = 0 := hRs
  have hcp := hM.cnp
  have hn6 := hM.n6
  have hg8 := hM.g8
  generalize ([] : List Loc) = locs at w ⊢
  generalize E : cf_flow f = z at fin
  rw [cf_flow] at E
  refine lv_iconst (v := (0 : Int32)) hx hb dX1_flow_0 (by decide) ?_
  refine lv_istore_n (lv' := [(1, .int (0 : Int32)), (0, .ref (ad 0))]) hx hb dX1_flow_1 rfl hl (by decide) rfl (fun ls hl => ?_)
  refine lv_iconst (v := (0 : Int32)) hx hb dX1_flow_2 (by decide) ?_
  refine lv_istore_n (lv' := [(2, .int (0 : Int32)), (1, .int (0 : Int32)), (0, .ref (ad 0))]) hx hb dX1_flow_3 rfl hl (by decide) rfl (fun ls hl => ?_)
  have L4 : ∀ (n_4 : Nat) (i1_4 : Int32) (n2_4 : Nat) (M : mh) (H : Heap) (locs : List Loc) (ls : Array Slot), (hi : n2_4 ≤ np) → (hm : np < n2_4 + n_4) → cf_flow_4 f n_4 i1_4 n2_4 = z → lv_has ls 3 [(0, .ref (ad 0)), (1, .int i1_4), (2, .int (nI n2_4))] → mW G A s M H locs → M = M1 → W p l e R s m av below meth c H locs 0 0 Q (F0 m 4 ls []) := by
    intro n_4
    induction n_4 with
    | zero =>
      intro i1_4 n2_4 M H locs ls hi hm E hl w eM
      subst M
      exfalso; omega
    | succ n_4 ih_4 =>
      intro i1_4 n2_4 M H locs ls hi hm E hl w eM
      subst M
      rw [cf_flow_4] at E
      refine lv_iload_n hx hb dX1_flow_4 rfl (lv_at hl 2 rfl) ?_
      refine lv_aload_n hx hb dX1_flow_5 rfl (lv_at hl 0 rfl) ?_
      refine mx_get (v := .ref (ad 1)) X w in_X1 (ci := 1) rfl 0 (by decide) q286 (fun _ h => h) hM.st rfl dX1_flow_6 ?_
      refine mx_bi w (va_runV (As := []) (rest := [.int (nI n2_4)]) X (ct_psize l G A ad np ng M0 M1 f  hM ) (cwV 0 X.2.2.2.2 (lw_V q274 q275 q276 q100 q277) rfl rfl rfl (by decide +kernel) ⟨by rw [hRf]; decide, by rw [hRl]; decide⟩) (mx_preV w rfl hM.pl rfl) rfl rfl hl.1 rfl (lv_room (Nat.le_of_ble_eq_true rfl)) dX1_flow_9 ⟨Nat.zero_le _, Nat.zero_le _⟩) (fun r M9 H locs hp w => ?_)
      obtain ⟨rfl, eM⟩ := hp; subst M9
      refine mx_nge (u := n2_4) (v := (nC f 14)) (tgt := 39) hx hb rfl rfl (by omega) (by omega) dX1_flow_12 (by decide) (fun c_12 => ?_) (fun c_12 => ?_)
      · rw [if_pos c_12] at E
        refine lv_iload_n hx hb dX1_flow_39 rfl (lv_at hl 1 rfl) ?_
        exact fin i1_4 M1 H locs ls 40 dX1_flow_40 ⟨E, rfl⟩ w
      · rw [if_neg c_12] at E
        refine lv_iload_n hx hb dX1_flow_15 rfl (lv_at hl 1 rfl) ?_
        refine lv_aload_n hx hb dX1_flow_16 rfl (lv_at hl 0 rfl) ?_
        refine lv_aload_n hx hb dX1_flow_17 rfl (lv_at hl 0 rfl) ?_
        refine mx_get (v := .ref (ad 1)) X w in_X1 (ci := 1) rfl 0 (by decide) q286 (fun _ h => h) hM.st rfl dX1_flow_18 ?_
        refine lv_iload_n hx hb dX1_flow_21 rfl (lv_at hl 2 rfl) ?_
        refine mx_bq w (va_runV (As := [.int (nI n2_4)]) (rest := [.ref (ad 0), .int i1_4]) X (ct_pget l G A ad np ng M0 M1 f n2_4 hM (by first | omega | assumption)) (cwV 1 X.2.2.2.2 (lw_V q247 q248 q249 q100 q250) rfl rfl rfl (by decide +kernel) ⟨by rw [hRf]; decide, by rw [hRl]; decide⟩) (mx_preV w rfl hM.pl rfl) rfl rfl hl.1 rfl (lv_room (Nat.le_of_ble_eq_true rfl)) dX1_flow_22 ⟨Nat.zero_le _, Nat.zero_le _⟩) (fun r M9 H locs hp w => ?_)
        obtain ⟨rfl, eM⟩ := hp; subst M9
        refine st_castP X w hM (by first | omega | assumption) q261 dX1_flow_25 ?_
        refine mx_bi w (va_runV (As := [.ref (ad (20 + n2_4))]) (rest := [.int i1_4]) X (ct_flowOf l G A ad np ng M0 M1 f n2_4 hM (by omega) (hF _ (by omega))) (cwV 1 X.2.2.2.2 (lw_V q881 q882 q883 q97 q884) rfl rfl rfl (by decide +kernel) ⟨by rw [hRf]; decide, by rw [hRl]; decide⟩) (mx_preV w rfl hM.st rfl) rfl rfl hl.1 rfl (lv_room (Nat.le_of_ble_eq_true rfl)) dX1_flow_28 ⟨Nat.zero_le _, Nat.zero_le _⟩) (fun r M9 H locs hp w => ?_)
        obtain ⟨rfl, eM⟩ := hp; subst M9
        refine lv_iadd hx hb dX1_flow_31 ?_
        refine lv_istore_n (lv' := [(1, .int (i1_4 + (cf_flowOf f n2_4))), (0, .ref (ad 0)), (2, .int (nI n2_4))]) hx hb dX1_flow_32 rfl hl (by decide) rfl (fun ls hl => ?_)
        refine lv_iinc (v := (nI (n2_4 + 1))) (lv' := [(2, .int (nI (n2_4 + 1))), (1, .int (i1_4 + (cf_flowOf f n2_4))), (0, .ref (ad 0))]) hx hb dX1_flow_33 hl (k := 2) rfl (nI_incr _ 1) (by decide) rfl (fun ls hl => ?_)
        refine lv_goto (tgt := 4) hx hb dX1_flow_36 (by decide) ?_
        exact ih_4 (i1_4 + (cf_flowOf f n2_4)) (n2_4 + 1) M1 H locs ls (by first | omega | assumption) (by first | omega | assumption) E (lv_sub hl [2, 1, 0] rfl) w rfl
  exact L4 7 (0 : Int32) 0 M1 H locs ls (by first | omega | assumption) (by first | omega | assumption) E (lv_sub hl [2, 1, 0] rfl) w rfl
def cf_watch_43c (f : (Nat → Int32)) (is0_43 : Int32) (is0_43u2 : Int32) (is0_43u3 : Int32) : (Nat → Int32) := (upd (upd (upd f 10 is0_43) 11 is0_43u2) 12 is0_43u3)
def cf_watch_43b (f : (Nat → Int32)) (is0_43 : Int32) (is0_43u2 : Int32) : (Nat → Int32) := (if (cf_watch2 (upd (upd f 10 is0_43) 11 is0_43u2)) = true then (cf_watch_43c f is0_43 is0_43u2 (((upd (upd f 10 is0_43) 11 is0_43u2) 12) + (1 : Int32))) else (cf_watch_43c f is0_43 is0_43u2 (0 : Int32)))
def cf_watch_43 (f : (Nat → Int32)) (is0_43 : Int32) : (Nat → Int32) := (if (cf_watch1 (upd f 10 is0_43)) = true then (cf_watch_43b f is0_43 (((upd f 10 is0_43) 11) + (1 : Int32))) else (cf_watch_43b f is0_43 (0 : Int32)))
def cf_watch (f : (Nat → Int32)) : (Nat → Int32) := (if (cf_watch0 f) = true then (cf_watch_43 f ((f 10) + (1 : Int32))) else (cf_watch_43 f (0 : Int32)))
set_option maxHeartbeats 4000000 in
set_option maxRecDepth 100000 in
theorem ct_watch (l : Launch) (G : mg) (A : Nat → Prop) (ad : Nat → Nat) (np ng : Nat) (M0 : mh) (f : Nat → Int32)   (hv : isP np (f 4)) : Met l yX1_watch (ws_ yX1_watch cX1_watch 2 (none)) ({ frames := 7, cells := 0, slots := 0, locals := 147 }) (va_Pc [.ref (ad 0)] (mU G A (fun M => Sta G ad np ng M0 M f))) (mQv G A (fun M => Sta G ad np ng M0 M (cf_watch f))) 0 0 A := by
  refine mx_ofv (by decide) (Nat.le_of_ble_eq_true rfl) ?_
  intro p e R s m av below meth c M H Q ls X hRf hRl hRc hRs hin hM w fin hl
  have X : CallFix p m c cX1_watch 2 s av lw_all "FieldPumps$Station" := X
  have hx := X.1
  have hb := X.2.1
  have hl : lv_has ls 2 [(0, .ref (ad 0))] := hl
  have hRf : R.frames = 7 := hRf
  have hRl : R.locals = 147 := hRl
  have hRc : R.cells = 0 := hRc
  have hRs : R.slots = 0 := hRs
  have hcp := hM.cnp
  have hn6 := hM.n6
  have hg8 := hM.g8
  generalize ([] : List Loc) = locs at w ⊢
  generalize E : cf_watch f = z at fin
  rw [cf_watch] at E
  refine lv_iconst (v := (0 : Int32)) hx hb dX1_watch_0 (by decide) ?_
  refine lv_istore_n (lv' := [(1, .int (0 : Int32)), (0, .ref (ad 0))]) hx hb dX1_watch_1 rfl hl (by decide) rfl (fun ls hl => ?_)
  refine lv_iload_n hx hb dX1_watch_2 rfl (lv_at hl 0 rfl) ?_
  refine lv_aload_n hx hb dX1_watch_3 rfl (lv_at hl 1 rfl) ?_
  refine mx_get (v := .ref (ad 14)) X w in_X1 (ci := 1) rfl 11 (by decide) q313 (fun _ h => h) hM.st rfl dX1_watch_4 ?_
  refine mx_alen X w 0 hM.a14 rfl dX1_watch_7 ?_
  refine mx_cast (z := (3 : Int32)) rfl ?_
  refine lv_icmp_ge (tgt := 50) hx hb dX1_watch_8 (by decide) (fun c_8 => absurd c_8 (by decide)) (fun c_8 => ?_)
  refine lv_aload_n hx hb dX1_watch_11 rfl (lv_at hl 1 rfl) ?_
  refine mx_get (v := .ref (ad 14)) X w in_X1 (ci := 1) rfl 11 (by decide) q313 (fun _ h => h) hM.st rfl dX1_watch_12 ?_
  refine lv_iload_n hx hb dX1_watch_15 rfl (lv_at hl 0 rfl) ?_
  refine lv_aload_n hx hb dX1_watch_16 rfl (lv_at hl 1 rfl) ?_
  refine mx_get (v := .ref (ad 15)) X w in_X1 (ci := 1) rfl 12 (by decide) q315 (fun _ h => h) hM.st rfl dX1_watch_17 ?_
  refine lv_iload_n hx hb dX1_watch_20 rfl (lv_at hl 0 rfl) ?_
  refine mx_aald X w 5 (r := some (G.2 (6 + 0))) hM.a15 rfl 0 (by decide) (by decide) (if_pos (by decide)) dX1_watch_21 ?_
  refine lv_aload_n hx hb dX1_watch_22 rfl (lv_at hl 1 rfl) ?_
  refine mx_watchG X w 0 (by decide) q1519 q238 q237 q97 ⟨lamW0_a, lamW0_b, lamW0_c, lamW0_d, lamW0_e, lamW0_f⟩ (ct_watch0 l G A ad np ng M0 M f hM (by first | exact hv | (rw [pk_un (by decide)]; exact hv) | (rw [pk_un (by decide), pk_un (by decide)]; exact hv))) rfl (fun _ _ h => bI_zz h) rfl rfl (by rw [hRf]; decide) (by rw [hRl]; exact Nat.le_of_ble_eq_true rfl) hl.1 (Nat.le_of_ble_eq_true rfl) (Nat.zero_le _) (Nat.zero_le _) dX1_watch_23 (fun r M9 H locs hp w => ?_)
  obtain ⟨rfl, eM⟩ := hp; subst M9
  have J43 : ∀ (is0_43 : Int32) (M : mh) (H : Heap) (locs : List Loc) (ls : Array Slot), cf_watch_43 f is0_43 = z → lv_has ls 2 [(1, .int (0 : Int32)), (0, .ref (ad 0))] → mW G A s M H locs → Sta G ad np ng M0 M f → W p l e R s m av below meth c H locs 0 0 Q (F0 m 43 ls [.int is0_43, .int (0 : Int32), .ref (ad 14)]) := by
    intro is0_43 M H locs ls  E hl w hM
    have hcp := hM.cnp
    rw [cf_watch_43] at E
    refine mx_iast (x := is0_43) X w hM.a14 0 (show 0 < 3 from by decide) (by decide) dX1_watch_43 (fun H locs w => ?_)
    have hM : Sta G ad np ng M0 _ (upd f 10 is0_43) := hM.set14 (show 0 < 3 from by decide) is0_43
    refine st_gen w hM (fun M w hM => ?_)
    refine lv_iinc (v := (1 : Int32)) (lv' := [(1, .int (1 : Int32)), (0, .ref (ad 0))]) hx hb dX1_watch_44 hl (k := 0) rfl (by decide) (by decide) rfl (fun ls hl => ?_)
    refine lv_goto (tgt := 2) hx hb dX1_watch_47 (by decide) ?_
    refine lv_iload_n hx hb dX1_watch_2 rfl (lv_at hl 0 rfl) ?_
    refine lv_aload_n hx hb dX1_watch_3 rfl (lv_at hl 1 rfl) ?_
    refine mx_get (v := .ref (ad 14)) X w in_X1 (ci := 1) rfl 11 (by decide) q313 (fun _ h => h) hM.st rfl dX1_watch_4 ?_
    refine mx_alen X w 0 hM.a14 rfl dX1_watch_7 ?_
    refine mx_cast (z := (3 : Int32)) rfl ?_
    refine lv_icmp_ge (tgt := 50) hx hb dX1_watch_8 (by decide) (fun c_8 => absurd c_8 (by decide)) (fun c_8 => ?_)
    refine lv_aload_n hx hb dX1_watch_11 rfl (lv_at hl 1 rfl) ?_
    refine mx_get (v := .ref (ad 14)) X w in_X1 (ci := 1) rfl 11 (by decide) q313 (fun _ h => h) hM.st rfl dX1_watch_12 ?_
    refine lv_iload_n hx hb dX1_watch_15 rfl (lv_at hl 0 rfl) ?_
    refine lv_aload_n hx hb dX1_watch_16 rfl (lv_at hl 1 rfl) ?_
    refine mx_get (v := .ref (ad 15)) X w in_X1 (ci := 1) rfl 12 (by decide) q315 (fun _ h => h) hM.st rfl dX1_watch_17 ?_
    refine lv_iload_n hx hb dX1_watch_20 rfl (lv_at hl 0 rfl) ?_
    refine mx_aald X w 5 (r := some (G.2 (6 + 1))) hM.a15 rfl 1 (by decide) (by decide) (if_pos (by decide)) dX1_watch_21 ?_
    refine lv_aload_n hx hb dX1_watch_22 rfl (lv_at hl 1 rfl) ?_
    refine mx_watchG X w 1 (by decide) q1519 q263 q262 q97 ⟨lamW1_a, lamW1_b, lamW1_c, lamW1_d, lamW1_e, lamW1_f⟩ (ct_watch1 l G A ad np ng M0 M (upd f 10 is0_43) hM (by first | exact hv | (rw [pk_un (by decide)]; exact hv) | (rw [pk_un (by decide), pk_un (by decide)]; exact hv))) rfl (fun _ _ h => bI_zz h) rfl rfl (by rw [hRf]; decide) (by rw [hRl]; exact Nat.le_of_ble_eq_true rfl) hl.1 (Nat.le_of_ble_eq_true rfl) (Nat.zero_le _) (Nat.zero_le _) dX1_watch_23 (fun r M9 H locs hp w => ?_)
    obtain ⟨rfl, eM⟩ := hp; subst M9
    have J43 : ∀ (is0_43u2 : Int32) (M : mh) (H : Heap) (locs : List Loc) (ls : Array Slot), cf_watch_43b f is0_43 is0_43u2 = z → lv_has ls 2 [(1, .int (1 : Int32)), (0, .ref (ad 0))] → mW G A s M H locs → Sta G ad np ng M0 M (upd f 10 is0_43) → W p l e R s m av below meth c H locs 0 0 Q (F0 m 43 ls [.int is0_43u2, .int (1 : Int32), .ref (ad 14)]) := by
      intro is0_43u2 M H locs ls  E hl w hM
      have hcp := hM.cnp
      rw [cf_watch_43b] at E
      refine mx_iast (x := is0_43u2) X w hM.a14 1 (show 1 < 3 from by decide) (by decide) dX1_watch_43 (fun H locs w => ?_)
      have hM : Sta G ad np ng M0 _ (upd (upd f 10 is0_43) 11 is0_43u2) := hM.set14 (show 1 < 3 from by decide) is0_43u2
      refine st_gen w hM (fun M w hM => ?_)
      refine lv_iinc (v := (2 : Int32)) (lv' := [(1, .int (2 : Int32)), (0, .ref (ad 0))]) hx hb dX1_watch_44 hl (k := 0) rfl (by decide) (by decide) rfl (fun ls hl => ?_)
      refine lv_goto (tgt := 2) hx hb dX1_watch_47 (by decide) ?_
      refine lv_iload_n hx hb dX1_watch_2 rfl (lv_at hl 0 rfl) ?_
      refine lv_aload_n hx hb dX1_watch_3 rfl (lv_at hl 1 rfl) ?_
      refine mx_get (v := .ref (ad 14)) X w in_X1 (ci := 1) rfl 11 (by decide) q313 (fun _ h => h) hM.st rfl dX1_watch_4 ?_
      refine mx_alen X w 0 hM.a14 rfl dX1_watch_7 ?_
      refine mx_cast (z := (3 : Int32)) rfl ?_
      refine lv_icmp_ge (tgt := 50) hx hb dX1_watch_8 (by decide) (fun c_8 => absurd c_8 (by decide)) (fun c_8 => ?_)
      refine lv_aload_n hx hb dX1_watch_11 rfl (lv_at hl 1 rfl) ?_
      refine mx_get (v := .ref (ad 14)) X w in_X1 (ci := 1) rfl 11 (by decide) q313 (fun _ h => h) hM.st rfl dX1_watch_12 ?_
      refine lv_iload_n hx hb dX1_watch_15 rfl (lv_at hl 0 rfl) ?_
      refine lv_aload_n hx hb dX1_watch_16 rfl (lv_at hl 1 rfl) ?_
      refine mx_get (v := .ref (ad 15)) X w in_X1 (ci := 1) rfl 12 (by decide) q315 (fun _ h => h) hM.st rfl dX1_watch_17 ?_
      refine lv_iload_n hx hb dX1_watch_20 rfl (lv_at hl 0 rfl) ?_
      refine mx_aald X w 5 (r := some (G.2 (6 + 2))) hM.a15 rfl 2 (by decide) (by decide) (if_pos (by decide)) dX1_watch_21 ?_
      refine lv_aload_n hx hb dX1_watch_22 rfl (lv_at hl 1 rfl) ?_
      refine mx_watchG X w 2 (by decide) q1519 q265 q264 q97 ⟨lamW2_a, lamW2_b, lamW2_c, lamW2_d, lamW2_e, lamW2_f⟩ (ct_watch2 l G A ad np ng M0 M (upd (upd f 10 is0_43) 11 is0_43u2) hM (by first | exact hv | (rw [pk_un (by decide)]; exact hv) | (rw [pk_un (by decide), pk_un (by decide)]; exact hv))) rfl (fun _ _ h => bI_zz h) rfl rfl (by rw [hRf]; decide) (by rw [hRl]; exact Nat.le_of_ble_eq_true rfl) hl.1 (Nat.le_of_ble_eq_true rfl) (Nat.zero_le _) (Nat.zero_le _) dX1_watch_23 (fun r M9 H locs hp w => ?_)
      obtain ⟨rfl, eM⟩ := hp; subst M9
      have J43 : ∀ (is0_43u3 : Int32) (M : mh) (H : Heap) (locs : List Loc) (ls : Array Slot), cf_watch_43c f is0_43 is0_43u2 is0_43u3 = z → lv_has ls 2 [(1, .int (2 : Int32)), (0, .ref (ad 0))] → mW G A s M H locs → Sta G ad np ng M0 M (upd (upd f 10 is0_43) 11 is0_43u2) → W p l e R s m av below meth c H locs 0 0 Q (F0 m 43 ls [.int is0_43u3, .int (2 : Int32), .ref (ad 14)]) := by
        intro is0_43u3 M H locs ls  E hl w hM
        have hcp := hM.cnp
        rw [cf_watch_43c] at E
        refine mx_iast (x := is0_43u3) X w hM.a14 2 (show 2 < 3 from by decide) (by decide) dX1_watch_43 (fun H locs w => ?_)
        have hM : Sta G ad np ng M0 _ (upd (upd (upd f 10 is0_43) 11 is0_43u2) 12 is0_43u3) := hM.set14 (show 2 < 3 from by decide) is0_43u3
        refine st_gen w hM (fun M w hM => ?_)
        refine lv_iinc (v := (3 : Int32)) (lv' := [(1, .int (3 : Int32)), (0, .ref (ad 0))]) hx hb dX1_watch_44 hl (k := 0) rfl (by decide) (by decide) rfl (fun ls hl => ?_)
        refine lv_goto (tgt := 2) hx hb dX1_watch_47 (by decide) ?_
        refine lv_iload_n hx hb dX1_watch_2 rfl (lv_at hl 0 rfl) ?_
        refine lv_aload_n hx hb dX1_watch_3 rfl (lv_at hl 1 rfl) ?_
        refine mx_get (v := .ref (ad 14)) X w in_X1 (ci := 1) rfl 11 (by decide) q313 (fun _ h => h) hM.st rfl dX1_watch_4 ?_
        refine mx_alen X w 0 hM.a14 rfl dX1_watch_7 ?_
        refine mx_cast (z := (3 : Int32)) rfl ?_
        refine lv_icmp_ge (tgt := 50) hx hb dX1_watch_8 (by decide) (fun c_8 => ?_) (fun c_8 => absurd (by decide) c_8)
        exact fin M H locs ls 50 dX1_watch_50 (by rw [← E]; exact hM) w
      refine mx_beq (tgt := 42) hx hb dX1_watch_28 (by decide) (fun c_28 => ?_) (fun c_28 => ?_)
      · rw [if_neg c_28] at E
        refine lv_iconst (v := (0 : Int32)) hx hb dX1_watch_42 (by decide) ?_
        exact J43 (0 : Int32) M H locs ls E (lv_sub hl [0, 1] rfl) w hM
      · rw [if_pos c_28] at E
        refine lv_aload_n hx hb dX1_watch_31 rfl (lv_at hl 1 rfl) ?_
        refine mx_get (v := .ref (ad 14)) X w in_X1 (ci := 1) rfl 11 (by decide) q313 (fun _ h => h) hM.st rfl dX1_watch_32 ?_
        refine lv_iload_n hx hb dX1_watch_35 rfl (lv_at hl 0 rfl) ?_
        refine mx_iald2 X w hM.a14 2 (show 2 < 3 from by decide) (by decide) (if_pos (show 2 < 3 from by decide)) dX1_watch_36 ?_
        refine lv_iconst (v := (1 : Int32)) hx hb dX1_watch_37 (by decide) ?_
        refine lv_iadd hx hb dX1_watch_38 ?_
        refine lv_goto (tgt := 43) hx hb dX1_watch_39 (by decide) ?_
        exact J43 (((upd (upd f 10 is0_43) 11 is0_43u2) 12) + (1 : Int32)) M H locs ls E (lv_sub hl [0, 1] rfl) w hM
    refine mx_beq (tgt := 42) hx hb dX1_watch_28 (by decide) (fun c_28 => ?_) (fun c_28 => ?_)
    · rw [if_neg c_28] at E
      refine lv_iconst (v := (0 : Int32)) hx hb dX1_watch_42 (by decide) ?_
      exact J43 (0 : Int32) M H locs ls E (lv_sub hl [0, 1] rfl) w hM
    · rw [if_pos c_28] at E
      refine lv_aload_n hx hb dX1_watch_31 rfl (lv_at hl 1 rfl) ?_
      refine mx_get (v := .ref (ad 14)) X w in_X1 (ci := 1) rfl 11 (by decide) q313 (fun _ h => h) hM.st rfl dX1_watch_32 ?_
      refine lv_iload_n hx hb dX1_watch_35 rfl (lv_at hl 0 rfl) ?_
      refine mx_iald2 X w hM.a14 1 (show 1 < 3 from by decide) (by decide) (if_pos (show 1 < 3 from by decide)) dX1_watch_36 ?_
      refine lv_iconst (v := (1 : Int32)) hx hb dX1_watch_37 (by decide) ?_
      refine lv_iadd hx hb dX1_watch_38 ?_
      refine lv_goto (tgt := 43) hx hb dX1_watch_39 (by decide) ?_
      exact J43 (((upd f 10 is0_43) 11) + (1 : Int32)) M H locs ls E (lv_sub hl [0, 1] rfl) w hM
  refine mx_beq (tgt := 42) hx hb dX1_watch_28 (by decide) (fun c_28 => ?_) (fun c_28 => ?_)
  · rw [if_neg c_28] at E
    refine lv_iconst (v := (0 : Int32)) hx hb dX1_watch_42 (by decide) ?_
    exact J43 (0 : Int32) M H locs ls E (lv_sub hl [0, 1] rfl) w hM
  · rw [if_pos c_28] at E
    refine lv_aload_n hx hb dX1_watch_31 rfl (lv_at hl 1 rfl) ?_
    refine mx_get (v := .ref (ad 14)) X w in_X1 (ci := 1) rfl 11 (by decide) q313 (fun _ h => h) hM.st rfl dX1_watch_32 ?_
    refine lv_iload_n hx hb dX1_watch_35 rfl (lv_at hl 0 rfl) ?_
    refine mx_iald2 X w hM.a14 0 (show 0 < 3 from by decide) (by decide) (if_pos (show 0 < 3 from by decide)) dX1_watch_36 ?_
    refine lv_iconst (v := (1 : Int32)) hx hb dX1_watch_37 (by decide) ?_
    refine lv_iadd hx hb dX1_watch_38 ?_
    refine lv_goto (tgt := 43) hx hb dX1_watch_39 (by decide) ?_
    exact J43 ((f 10) + (1 : Int32)) M H locs ls E (lv_sub hl [0, 1] rfl) w hM
