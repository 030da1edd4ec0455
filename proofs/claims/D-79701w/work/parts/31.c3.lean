set_option maxRecDepth 100000
/-! C3: root, the lambdas' bodies -/
theorem root_b {m : Nat} (h : m ≤ 46340) : m * m < 2 ^ 31 := Nat.lt_of_le_of_lt (Nat.mul_le_mul h h) (by decide)
def CvOk (sh st sp at_ : Int32) : Prop := ∃ a b c d : Nat, sh = nI a ∧ a ≤ 2000 ∧ st = nI b ∧ 1 ≤ b ∧ b ≤ 1000 ∧ sp = nI c ∧ c ≤ 1000 ∧ at_ = nI d ∧ d ≤ 2000
theorem cv_nz {sh st sp at_ : Int32} (h : CvOk sh st sp at_) : ¬ st = 0 := by
  obtain ⟨a, b, c, d, -, -, rfl, h1, h2, -⟩ := h
  exact nI_ne0 (by omega) (by omega)
theorem cv_mul {a c : Nat} (h1 : a ≤ 2000) (h2 : c ≤ 1000) : a * c * c ≤ 2000000000 := Nat.le_trans (Nat.mul_le_mul (Nat.mul_le_mul h1 h2) h2) (by decide)
theorem cv_lift {a c : Nat} (h1 : a ≤ 2000) (h2 : c ≤ 1000) : nI a * nI c * nI c / 1000000 = nI (a * c * c / 1000000) := by
  have := cv_mul h1 h2
  rw [nI_mul, nI_mul, show (1000000 : Int32) = nI 1000000 from rfl, pk_div (by omega) (by decide) (by decide)]
theorem cv_root {sh st sp at_ : Int32} (h : CvOk sh st sp at_) (c14 : at_ < ((((sh * sp) * sp) / (1000000 : Int32)))) : (((((((sh * sp) * sp) / (1000000 : Int32)) - at_) * (1000 : Int32)) / st)) = nI (tN (((((((sh * sp) * sp) / (1000000 : Int32)) - at_) * (1000 : Int32)) / st))) ∧ tN (((((((sh * sp) * sp) / (1000000 : Int32)) - at_) * (1000 : Int32)) / st)) ≤ 2000000 := by
  obtain ⟨a, b, c, d, rfl, ha, rfl, h1, h2, rfl, hc, rfl, hd⟩ := h
  have hm := cv_mul ha hc
  rw [cv_lift ha hc] at c14 ⊢
  have hl : a * c * c / 1000000 ≤ 2000 := by omega
  have hlt := (nI_ltI (a := d) (b := a * c * c / 1000000) (by omega) (by omega)).mp c14
  rw [nI_sub (by omega), show (1000 : Int32) = nI 1000 from rfl, nI_mul, pk_div (by omega) (by omega) (by omega)]
  have hq : (a * c * c / 1000000 - d) * 1000 / b ≤ 2000000 := Nat.le_trans (Nat.div_le_self _ _) (by omega)
  rw [tN_nI (by omega)]
  exact ⟨rfl, hq⟩
def cf_root_5 (q : Nat) : Nat → Nat → Nat → Int32
  | 0, _, _ => (-1)
  | n_5 + 1, n1_5, n2_5 => (if n2_5 ≤ n1_5 then (nI n1_5) else (if q < (((n1_5 + n2_5 + 1) / 2) * ((n1_5 + n2_5 + 1) / 2)) then ( (cf_root_5 q n_5) n1_5 (((n1_5 + n2_5 + 1) / 2) - 1)) else ( (cf_root_5 q n_5) ((n1_5 + n2_5 + 1) / 2) n2_5)))
def cf_root (q : Nat) : Int32 := (cf_root_5 q 46341 0 46340)
set_option maxHeartbeats 4000000 in
set_option maxRecDepth 100000 in
theorem ct_root (l : Launch) (G : mg) (A : Nat → Prop) (M1 : mh) (q : Nat)  (hq : q ≤ 2000000) : Met l yX0_root (ws_ yX0_root cX0_root 4 (some .int)) ({ frames := 0, cells := 0, slots := 0, locals := 0 }) (va_Pc [.int (nI q)] (mU G A (fun M => M = M1))) (mQi G A (fun r M => r = cf_root q ∧ M = M1)) 0 0 A := by
  refine mx_ofi (by decide) (Nat.le_of_ble_eq_true rfl) ?_
  intro p e R s m av below meth c M H Q ls X hRf hRl hRc hRs hin eM w fin hl
  subst M
  have X : CallFix p m c cX0_root 4 s av lw_all "FieldPumps" := X
  have hx := X.1
  have hb := X.2.1
  have hl : lv_has ls 4 [(0, .int (nI q))] := hl
  have hRf : R.frames = 0 := hRf
  have hRl : R.locals = 0 := hRl
  have hRc : R.cells = 0 := hRc
  have hRs : R.slots = 0 := hRs
  generalize ([] : List Loc) = locs at w ⊢
  generalize E : cf_root q = z at fin
  rw [cf_root] at E
  refine lv_iconst (v := (0 : Int32)) hx hb dX0_root_0 (by decide) ?_
  refine lv_istore_n (lv' := [(1, .int (0 : Int32)), (0, .int (nI q))]) hx hb dX0_root_1 rfl hl (by decide) rfl (fun ls hl => ?_)
  refine lv_ldc (v := (46340 : Int32)) hx hb X.2.2.2.1 (X.2.2.2.2 _ q663) dX0_root_2 ?_
  refine lv_istore_n (lv' := [(2, .int (46340 : Int32)), (1, .int (0 : Int32)), (0, .int (nI q))]) hx hb dX0_root_4 rfl hl (by decide) rfl (fun ls hl => ?_)
  have L5 : ∀ (n_5 : Nat) (n1_5 : Nat) (n2_5 : Nat) (M : mh) (H : Heap) (locs : List Loc) (ls : Array Slot), (h1 : n1_5 ≤ n2_5) → (h2 : n2_5 ≤ 46340) → (hm : n2_5 < n1_5 + n_5) → cf_root_5 q n_5 n1_5 n2_5 = z → lv_has ls 4 [(0, .int (nI q)), (1, .int (nI n1_5)), (2, .int (nI n2_5))] → mW G A s M H locs → M = M1 → W p l e R s m av below meth c H locs 0 0 Q (F0 m 5 ls []) := by
    intro n_5
    induction n_5 with
    | zero =>
      intro n1_5 n2_5 M H locs ls h1 h2 hm E hl w eM
      subst M
      exfalso; omega
    | succ n_5 ih_5 =>
      intro n1_5 n2_5 M H locs ls h1 h2 hm E hl w eM
      subst M
      rw [cf_root_5] at E
      refine lv_iload_n hx hb dX0_root_5 rfl (lv_at hl 1 rfl) ?_
      refine lv_iload_n hx hb dX0_root_6 rfl (lv_at hl 2 rfl) ?_
      refine mx_nge (u := n1_5) (v := n2_5) (tgt := 37) hx hb rfl rfl (by omega) (by omega) dX0_root_7 (by decide) (fun c_7 => ?_) (fun c_7 => ?_)
      · rw [if_pos c_7] at E
        refine lv_iload_n hx hb dX0_root_37 rfl (lv_at hl 1 rfl) ?_
        exact fin (nI n1_5) M1 H locs ls 38 dX0_root_38 ⟨E, rfl⟩ w
      · rw [if_neg c_7] at E
        refine lv_iload_n hx hb dX0_root_10 rfl (lv_at hl 1 rfl) ?_
        refine lv_iload_n hx hb dX0_root_11 rfl (lv_at hl 2 rfl) ?_
        refine mx_nadd (u := n1_5) (v := n2_5) hx hb rfl rfl dX0_root_12 ?_
        refine lv_iconst (v := (1 : Int32)) hx hb dX0_root_13 (by decide) ?_
        refine mx_nadd (u := n1_5 + n2_5) (v := 1) hx hb rfl rfl dX0_root_14 ?_
        refine lv_iconst (v := (2 : Int32)) hx hb dX0_root_15 (by decide) ?_
        refine mx_ndiv (u := n1_5 + n2_5 + 1) (v := 2) hx hb rfl rfl (by omega) (by omega) (by omega) dX0_root_16 ?_
        refine lv_istore_n (lv' := [(3, .int (nI ((n1_5 + n2_5 + 1) / 2))), (0, .int (nI q)), (1, .int (nI n1_5)), (2, .int (nI n2_5))]) hx hb dX0_root_17 rfl hl (by decide) rfl (fun ls hl => ?_)
        refine lv_iload_n hx hb dX0_root_18 rfl (lv_at hl 0 rfl) ?_
        refine lv_iload_n hx hb dX0_root_19 rfl (lv_at hl 0 rfl) ?_
        refine mx_nmul (u := (n1_5 + n2_5 + 1) / 2) (v := (n1_5 + n2_5 + 1) / 2) hx hb rfl rfl dX0_root_20 ?_
        refine lv_iload_n hx hb dX0_root_21 rfl (lv_at hl 1 rfl) ?_
        refine mx_ngt (u := (((n1_5 + n2_5 + 1) / 2) * ((n1_5 + n2_5 + 1) / 2))) (v := q) (tgt := 30) hx hb rfl rfl (root_b (by omega)) (by omega) dX0_root_22 (by decide) (fun c_22 => ?_) (fun c_22 => ?_)
        · rw [if_pos c_22] at E
          refine lv_iload_n hx hb dX0_root_30 rfl (lv_at hl 0 rfl) ?_
          refine lv_iconst (v := (1 : Int32)) hx hb dX0_root_31 (by decide) ?_
          refine mx_nsub (u := (n1_5 + n2_5 + 1) / 2) (v := 1) hx hb rfl rfl (by omega) dX0_root_32 ?_
          refine lv_istore_n (lv' := [(2, .int (nI (((n1_5 + n2_5 + 1) / 2) - 1))), (3, .int (nI ((n1_5 + n2_5 + 1) / 2))), (0, .int (nI q)), (1, .int (nI n1_5))]) hx hb dX0_root_33 rfl hl (by decide) rfl (fun ls hl => ?_)
          refine lv_goto (tgt := 5) hx hb dX0_root_34 (by decide) ?_
          exact ih_5 n1_5 (((n1_5 + n2_5 + 1) / 2) - 1) M1 H locs ls (by first | omega | assumption) (by first | omega | assumption) (by first | omega | assumption) E (lv_sub hl [2, 3, 0] rfl) w rfl
        · rw [if_neg c_22] at E
          refine lv_iload_n hx hb dX0_root_25 rfl (lv_at hl 0 rfl) ?_
          refine lv_istore_n (lv' := [(1, .int (nI ((n1_5 + n2_5 + 1) / 2))), (3, .int (nI ((n1_5 + n2_5 + 1) / 2))), (0, .int (nI q)), (2, .int (nI n2_5))]) hx hb dX0_root_26 rfl hl (by decide) rfl (fun ls hl => ?_)
          refine lv_goto (tgt := 34) hx hb dX0_root_27 (by decide) ?_
          refine lv_goto (tgt := 5) hx hb dX0_root_34 (by decide) ?_
          exact ih_5 ((n1_5 + n2_5 + 1) / 2) n2_5 M1 H locs ls (by first | omega | assumption) (by first | omega | assumption) (by first | omega | assumption) E (lv_sub hl [2, 0, 3] rfl) w rfl
  exact L5 46341 0 46340 M1 H locs ls (by first | omega | assumption) (by first | omega | assumption) (by first | omega | assumption) E (lv_sub hl [2, 1, 0] rfl) w rfl
def cf_curve_34 (sh : Int32) (st : Int32) (sp : Int32) (at_ : Int32) (is0_34 : Int32) : Int32 := is0_34
def cf_curve (sh : Int32) (st : Int32) (sp : Int32) (at_ : Int32) : Int32 := (if at_ < (((sh * sp) * sp) / (1000000 : Int32)) then (cf_curve_34 sh st sp at_ (cf_root (tN ((((((sh * sp) * sp) / (1000000 : Int32)) - at_) * (1000 : Int32)) / st)))) else (cf_curve_34 sh st sp at_ (0 : Int32)))
set_option maxHeartbeats 4000000 in
set_option maxRecDepth 100000 in
theorem ct_curve (l : Launch) (G : mg) (A : Nat → Prop) (M1 : mh) (sh : Int32) (st : Int32) (sp : Int32) (at_ : Int32)  (hF : CvOk sh st sp at_) : Met l yX1_lambda_add_3 (ws_ yX1_lambda_add_3 cX1_lambda_add_3 5 (some .int)) ({ frames := 1, cells := 0, slots := 0, locals := 23 }) (va_Pc [.int sh, .int st, .int sp, .int at_] (mU G A (fun M => M = M1))) (mQi G A (fun r M => r = cf_curve sh st sp at_ ∧ M = M1)) 0 0 A := by
  refine mx_ofi (by decide) (Nat.le_of_ble_eq_true rfl) ?_
  intro p e R s m av below meth c M H Q ls X hRf hRl hRc hRs hin eM w fin hl
  subst M
  have X : CallFix p m c cX1_lambda_add_3 5 s av lw_all "FieldPumps$Station" := X
  have hx := X.1
  have hb := X.2.1
  have hl : lv_has ls 5 [(0, .int sh), (1, .int st), (2, .int sp), (3, .int at_)] := hl
  have hRf : R.frames = 1 := hRf
  have hRl : R.locals = 23 := hRl
  have hRc : R.cells = 0 := hRc
  have hRs : R.slots = 0 := hRs
  generalize ([] : List Loc) = locs at w ⊢
  generalize E : cf_curve sh st sp at_ = z at fin
  rw [cf_curve] at E
  refine lv_iload_n hx hb dX1_lambda_add_3_0 rfl (lv_at hl 0 rfl) ?_
  refine lv_iload_n hx hb dX1_lambda_add_3_1 rfl (lv_at hl 2 rfl) ?_
  refine lv_imul hx hb dX1_lambda_add_3_2 ?_
  refine lv_iload_n hx hb dX1_lambda_add_3_3 rfl (lv_at hl 2 rfl) ?_
  refine lv_imul hx hb dX1_lambda_add_3_4 ?_
  refine lv_ldcw (v := (1000000 : Int32)) hx hb X.2.2.2.1 (X.2.2.2.2 _ q659) dX1_lambda_add_3_5 ?_
  refine lv_idiv hx hb dX1_lambda_add_3_8 (by decide) ?_
  refine lv_istore (lv' := [(4, .int (((sh * sp) * sp) / (1000000 : Int32))), (0, .int sh), (1, .int st), (2, .int sp), (3, .int at_)]) hx hb dX1_lambda_add_3_9 hl (by decide) rfl (fun ls hl => ?_)
  refine lv_iload hx hb dX1_lambda_add_3_11 (lv_at hl 0 rfl) ?_
  refine lv_iload_n hx hb dX1_lambda_add_3_13 rfl (lv_at hl 4 rfl) ?_
  have J34 : ∀ (is0_34 : Int32) (M : mh) (H : Heap) (locs : List Loc) (ls : Array Slot), cf_curve_34 sh st sp at_ is0_34 = z → lv_has ls 5 [] → mW G A s M H locs → M = M1 → W p l e R s m av below meth c H locs 0 0 Q (F0 m 34 ls [.int is0_34]) := by
    intro is0_34 M H locs ls  E hl w eM
    subst M
    rw [cf_curve_34] at E
    exact fin is0_34 M1 H locs ls 34 dX1_lambda_add_3_34 ⟨E, rfl⟩ w
  refine lv_icmp_gt (tgt := 21) hx hb dX1_lambda_add_3_14 (by decide) (fun c_14 => ?_) (fun c_14 => ?_)
  · rw [if_pos c_14] at E
    refine lv_iload hx hb dX1_lambda_add_3_21 (lv_at hl 0 rfl) ?_
    refine lv_iload_n hx hb dX1_lambda_add_3_23 rfl (lv_at hl 4 rfl) ?_
    refine lv_isub hx hb dX1_lambda_add_3_24 ?_
    refine lv_sipush (v := (1000 : Int32)) hx hb dX1_lambda_add_3_25 (by decide) ?_
    refine lv_imul hx hb dX1_lambda_add_3_28 ?_
    refine lv_iload_n hx hb dX1_lambda_add_3_29 rfl (lv_at hl 2 rfl) ?_
    refine lv_idiv hx hb dX1_lambda_add_3_30 (cv_nz hF) ?_
    refine mx_cast (z := nI (tN ((((((sh * sp) * sp) / (1000000 : Int32)) - at_) * (1000 : Int32)) / st))) ((cv_root hF c_14).1) ?_
    refine mx_bi w (va_runSN (As := [.int (nI (tN ((((((sh * sp) * sp) / (1000000 : Int32)) - at_) * (1000 : Int32)) / st)))]) (rest := []) X (ct_root l G A M1 (tN ((((((sh * sp) * sp) / (1000000 : Int32)) - at_) * (1000 : Int32)) / st))  ((cv_root hF c_14).2)) ⟨va_cnB 1 X.2.2.2.2 (lw_meth q662) rfl rfl rfl (w.tbl q660 rfl) (X.2.2.2.2 _ q96) (by decide +kernel) ⟨by rw [hRf]; decide, by rw [hRl]; decide⟩, X.2.2.2.2 _ q661, trivial⟩ (mx_preS w rfl) rfl rfl hl.1 rfl (lv_room (Nat.le_of_ble_eq_true rfl)) dX1_lambda_add_3_31 ⟨Nat.zero_le _, Nat.zero_le _⟩) (fun r M9 H locs hp w => ?_)
    obtain ⟨rfl, eM⟩ := hp; subst M9
    exact J34 (cf_root (tN ((((((sh * sp) * sp) / (1000000 : Int32)) - at_) * (1000 : Int32)) / st))) M1 H locs ls E (lv_sub hl [] rfl) w rfl
  · rw [if_neg c_14] at E
    refine lv_iconst (v := (0 : Int32)) hx hb dX1_lambda_add_3_17 (by decide) ?_
    refine lv_goto (tgt := 34) hx hb dX1_lambda_add_3_18 (by decide) ?_
    exact J34 (0 : Int32) M1 H locs ls E (lv_sub hl [] rfl) w rfl
def cf_watch0_29 (f : (Nat → Int32)) (bs0_29 : Bool) : Bool := bs0_29
def cf_watch0_28 (f : (Nat → Int32))  : Bool := (cf_watch0_29 f false)
def cf_watch0 (f : (Nat → Int32)) : Bool := (if (-(f 21)) ≤ (cf_off f ) then (cf_watch0_28 f ) else (if (cf_isAtSpeed f (1000 : Int32)) = true then (cf_watch0_29 f true) else (cf_watch0_28 f )))
set_option maxHeartbeats 4000000 in
set_option maxRecDepth 100000 in
theorem ct_watch0 (l : Launch) (G : mg) (A : Nat → Prop) (ad : Nat → Nat) (np ng : Nat) (M0 M1 : mh) (f : Nat → Int32)   (hM : Sta G ad np ng M0 M1 f) (hv : isP np (f 4)) : Met l yX1_lambda_new_0 (ws_ yX1_lambda_new_0 cX1_lambda_new_0 1 (some .boolean)) ({ frames := 4, cells := 0, slots := 0, locals := 85 }) (va_Pc [.ref (ad 0)] (mU G A (fun M => M = M1))) (mQi G A (fun r M => r = bI (cf_watch0 f) ∧ M = M1)) 0 0 A := by
  refine mx_ofz (by decide) (Nat.le_of_ble_eq_true rfl) ?_
  intro p e R s m av below meth c M H Q ls X hRf hRl hRc hRs hin eM w fin hl
  subst M
  have X : CallFix p m c cX1_lambda_new_0 1 s av lw_all "FieldPumps$Station" := X
  have hx := X.1
  have hb := X.2.1
  have hl : lv_has ls 1 [(0, .ref (ad 0))] := hl
  have hRf : R.frames = 4 := hRf
  have hRl : R.locals = 85 := hRl
  have hRc : R.cells = 0 := hRc
  have hRs : R.slots = 0 := hRs
  have hcp := hM.cnp
  have hn6 := hM.n6
  have hg8 := hM.g8
  generalize ([] : List Loc) = locs at w ⊢
  generalize E : cf_watch0 f = z at fin
  rw [cf_watch0] at E
  refine lv_aload_n hx hb dX1_lambda_new_0_0 rfl (lv_at hl 0 rfl) ?_
  refine mx_bi w (va_runV (As := []) (rest := []) X (ct_off l G A ad np ng M0 M1 f  hM ) (cwV 0 X.2.2.2.2 (lw_V q239 q241 qs0 q97 q242) rfl rfl rfl (by decide +kernel) ⟨by rw [hRf]; decide, by rw [hRl]; decide⟩) (mx_preV w rfl hM.st rfl) rfl rfl hl.1 rfl (lv_room (Nat.le_of_ble_eq_true rfl)) dX1_lambda_new_0_1 ⟨Nat.zero_le _, Nat.zero_le _⟩) (fun r M9 H locs hp w => ?_)
  obtain ⟨rfl, eM⟩ := hp; subst M9
  refine lv_aload_n hx hb dX1_lambda_new_0_4 rfl (lv_at hl 0 rfl) ?_
  refine mx_get (v := .ref (ad 13)) X w in_X1 (ci := 1) rfl 10 (by decide) q311 (fun _ h => h) hM.st rfl dX1_lambda_new_0_5 ?_
  refine lv_iconst (v := (1 : Int32)) hx hb dX1_lambda_new_0_8 (by decide) ?_
  refine mx_iald2 X w hM.a13 1 (show 1 < 19 from by decide) (by decide) (if_pos (show 1 < 19 from by decide)) dX1_lambda_new_0_9 ?_
  refine lv_ineg hx hb dX1_lambda_new_0_10 ?_
  have J29 : ∀ (bs0_29 : Bool) (M : mh) (H : Heap) (locs : List Loc) (ls : Array Slot), cf_watch0_29 f bs0_29 = z → lv_has ls 1 [] → mW G A s M H locs → M = M1 → W p l e R s m av below meth c H locs 0 0 Q (F0 m 29 ls [.int (bI bs0_29)]) := by
    intro bs0_29 M H locs ls  E hl w eM
    subst M
    rw [cf_watch0_29] at E
    exact fin bs0_29 M1 H locs ls 29 dX1_lambda_new_0_29 ⟨congrArg bI E, rfl⟩ w
  have J28 : ∀  (M : mh) (H : Heap) (locs : List Loc) (ls : Array Slot), cf_watch0_28 f  = z → lv_has ls 1 [] → mW G A s M H locs → M = M1 → W p l e R s m av below meth c H locs 0 0 Q (F0 m 28 ls []) := by
    intro  M H locs ls  E hl w eM
    subst M
    rw [cf_watch0_28] at E
    refine lv_iconst (v := (0 : Int32)) hx hb dX1_lambda_new_0_28 (by decide) ?_
    exact J29 false M1 H locs ls E (lv_sub hl [] rfl) w rfl
  refine lv_icmp_ge (tgt := 28) hx hb dX1_lambda_new_0_11 (by decide) (fun c_11 => ?_) (fun c_11 => ?_)
  · rw [if_pos c_11] at E
    exact J28  M1 H locs ls E (lv_sub hl [] rfl) w rfl
  · rw [if_neg c_11] at E
    refine lv_aload_n hx hb dX1_lambda_new_0_14 rfl (lv_at hl 0 rfl) ?_
    refine lv_sipush (v := (1000 : Int32)) hx hb dX1_lambda_new_0_15 (by decide) ?_
    refine mx_bi w (va_runV (As := [.int (1000 : Int32)]) (rest := []) X (ct_isAtSpeed l G A ad np ng M0 M1 f (1000 : Int32) hM (by first | omega | assumption)) (cwV 1 X.2.2.2.2 (lw_V q243 q245 qs1 q97 q246) rfl rfl rfl (by decide +kernel) ⟨by rw [hRf]; decide, by rw [hRl]; decide⟩) (mx_preV w rfl hM.st rfl) rfl rfl hl.1 rfl (lv_room (Nat.le_of_ble_eq_true rfl)) dX1_lambda_new_0_18 ⟨Nat.zero_le _, Nat.zero_le _⟩) (fun r M9 H locs hp w => ?_)
    obtain ⟨rfl, eM⟩ := hp; subst M9
    refine mx_beq (tgt := 28) hx hb dX1_lambda_new_0_21 (by decide) (fun c_21 => ?_) (fun c_21 => ?_)
    · rw [if_neg c_21] at E
      exact J28  M1 H locs ls E (lv_sub hl [] rfl) w rfl
    · rw [if_pos c_21] at E
      refine lv_iconst (v := (1 : Int32)) hx hb dX1_lambda_new_0_24 (by decide) ?_
      refine lv_goto (tgt := 29) hx hb dX1_lambda_new_0_25 (by decide) ?_
      exact J29 true M1 H locs ls E (lv_sub hl [] rfl) w rfl
def cf_watch1_31 (f : (Nat → Int32)) (bs0_31 : Bool) : Bool := bs0_31
def cf_watch1_30 (f : (Nat → Int32))  : Bool := (cf_watch1_31 f false)
def cf_watch1 (f : (Nat → Int32)) : Bool := (if (cf_off f ) ≤ (f 21) then (cf_watch1_30 f ) else (if (cf_isAtSpeed f (f 24)) = true then (cf_watch1_31 f true) else (cf_watch1_30 f )))
set_option maxHeartbeats 4000000 in
set_option maxRecDepth 100000 in
theorem ct_watch1 (l : Launch) (G : mg) (A : Nat → Prop) (ad : Nat → Nat) (np ng : Nat) (M0 M1 : mh) (f : Nat → Int32)   (hM : Sta G ad np ng M0 M1 f) (hv : isP np (f 4)) : Met l yX1_lambda_new_1 (ws_ yX1_lambda_new_1 cX1_lambda_new_1 1 (some .boolean)) ({ frames := 4, cells := 0, slots := 0, locals := 85 }) (va_Pc [.ref (ad 0)] (mU G A (fun M => M = M1))) (mQi G A (fun r M => r = bI (cf_watch1 f) ∧ M = M1)) 0 0 A := by
  refine mx_ofz (by decide) (Nat.le_of_ble_eq_true rfl) ?_
  intro p e R s m av below meth c M H Q ls X hRf hRl hRc hRs hin eM w fin hl
  subst M
  have X : CallFix p m c cX1_lambda_new_1 1 s av lw_all "FieldPumps$Station" := X
  have hx := X.1
  have hb := X.2.1
  have hl : lv_has ls 1 [(0, .ref (ad 0))] := hl
  have hRf : R.frames = 4 := hRf
  have hRl : R.locals = 85 := hRl
  have hRc : R.cells = 0 := hRc
  have hRs : R.slots = 0 := hRs
  have hcp := hM.cnp
  have hn6 := hM.n6
  have hg8 := hM.g8
  generalize ([] : List Loc) = locs at w ⊢
  generalize E : cf_watch1 f = z at fin
  rw [cf_watch1] at E
  refine lv_aload_n hx hb dX1_lambda_new_1_0 rfl (lv_at hl 0 rfl) ?_
  refine mx_bi w (va_runV (As := []) (rest := []) X (ct_off l G A ad np ng M0 M1 f  hM ) (cwV 0 X.2.2.2.2 (lw_V q239 q241 qs0 q97 q242) rfl rfl rfl (by decide +kernel) ⟨by rw [hRf]; decide, by rw [hRl]; decide⟩) (mx_preV w rfl hM.st rfl) rfl rfl hl.1 rfl (lv_room (Nat.le_of_ble_eq_true rfl)) dX1_lambda_new_1_1 ⟨Nat.zero_le _, Nat.zero_le _⟩) (fun r M9 H locs hp w => ?_)
  obtain ⟨rfl, eM⟩ := hp; subst M9
  refine lv_aload_n hx hb dX1_lambda_new_1_4 rfl (lv_at hl 0 rfl) ?_
  refine mx_get (v := .ref (ad 13)) X w in_X1 (ci := 1) rfl 10 (by decide) q311 (fun _ h => h) hM.st rfl dX1_lambda_new_1_5 ?_
  refine lv_iconst (v := (1 : Int32)) hx hb dX1_lambda_new_1_8 (by decide) ?_
  refine mx_iald2 X w hM.a13 1 (show 1 < 19 from by decide) (by decide) (if_pos (show 1 < 19 from by decide)) dX1_lambda_new_1_9 ?_
  have J31 : ∀ (bs0_31 : Bool) (M : mh) (H : Heap) (locs : List Loc) (ls : Array Slot), cf_watch1_31 f bs0_31 = z → lv_has ls 1 [] → mW G A s M H locs → M = M1 → W p l e R s m av below meth c H locs 0 0 Q (F0 m 31 ls [.int (bI bs0_31)]) := by
    intro bs0_31 M H locs ls  E hl w eM
    subst M
    rw [cf_watch1_31] at E
    exact fin bs0_31 M1 H locs ls 31 dX1_lambda_new_1_31 ⟨congrArg bI E, rfl⟩ w
  have J30 : ∀  (M : mh) (H : Heap) (locs : List Loc) (ls : Array Slot), cf_watch1_30 f  = z → lv_has ls 1 [] → mW G A s M H locs → M = M1 → W p l e R s m av below meth c H locs 0 0 Q (F0 m 30 ls []) := by
    intro  M H locs ls  E hl w eM
    subst M
    rw [cf_watch1_30] at E
    refine lv_iconst (v := (0 : Int32)) hx hb dX1_lambda_new_1_30 (by decide) ?_
    exact J31 false M1 H locs ls E (lv_sub hl [] rfl) w rfl
  refine lv_icmp_le (tgt := 30) hx hb dX1_lambda_new_1_10 (by decide) (fun c_10 => ?_) (fun c_10 => ?_)
  · rw [if_pos c_10] at E
    exact J30  M1 H locs ls E (lv_sub hl [] rfl) w rfl
  · rw [if_neg c_10] at E
    refine lv_aload_n hx hb dX1_lambda_new_1_13 rfl (lv_at hl 0 rfl) ?_
    refine lv_aload_n hx hb dX1_lambda_new_1_14 rfl (lv_at hl 0 rfl) ?_
    refine mx_get (v := .ref (ad 13)) X w in_X1 (ci := 1) rfl 10 (by decide) q311 (fun _ h => h) hM.st rfl dX1_lambda_new_1_15 ?_
    refine lv_iconst (v := (4 : Int32)) hx hb dX1_lambda_new_1_18 (by decide) ?_
    refine mx_iald2 X w hM.a13 4 (show 4 < 19 from by decide) (by decide) (if_pos (show 4 < 19 from by decide)) dX1_lambda_new_1_19 ?_
    refine mx_bi w (va_runV (As := [.int (f 24)]) (rest := []) X (ct_isAtSpeed l G A ad np ng M0 M1 f (f 24) hM (by first | omega | assumption)) (cwV 1 X.2.2.2.2 (lw_V q243 q245 qs1 q97 q246) rfl rfl rfl (by decide +kernel) ⟨by rw [hRf]; decide, by rw [hRl]; decide⟩) (mx_preV w rfl hM.st rfl) rfl rfl hl.1 rfl (lv_room (Nat.le_of_ble_eq_true rfl)) dX1_lambda_new_1_20 ⟨Nat.zero_le _, Nat.zero_le _⟩) (fun r M9 H locs hp w => ?_)
    obtain ⟨rfl, eM⟩ := hp; subst M9
    refine mx_beq (tgt := 30) hx hb dX1_lambda_new_1_23 (by decide) (fun c_23 => ?_) (fun c_23 => ?_)
    · rw [if_neg c_23] at E
      exact J30  M1 H locs ls E (lv_sub hl [] rfl) w rfl
    · rw [if_pos c_23] at E
      refine lv_iconst (v := (1 : Int32)) hx hb dX1_lambda_new_1_26 (by decide) ?_
      refine lv_goto (tgt := 31) hx hb dX1_lambda_new_1_27 (by decide) ?_
      exact J31 true M1 H locs ls E (lv_sub hl [] rfl) w rfl
def cf_watch2_26 (f : (Nat → Int32)) (bs0_26 : Bool) : Bool := bs0_26
def cf_watch2_25 (f : (Nat → Int32))  : Bool := (cf_watch2_26 f false)
def cf_watch2 (f : (Nat → Int32)) : Bool := (if (cf_isAlone f ) = true then (if (f 27) ≤ (f 3) then (cf_watch2_25 f ) else (cf_watch2_26 f true)) else (cf_watch2_25 f ))
set_option maxHeartbeats 4000000 in
set_option maxRecDepth 100000 in
theorem ct_watch2 (l : Launch) (G : mg) (A : Nat → Prop) (ad : Nat → Nat) (np ng : Nat) (M0 M1 : mh) (f : Nat → Int32)   (hM : Sta G ad np ng M0 M1 f) (hv : isP np (f 4)) : Met l yX1_lambda_new_2 (ws_ yX1_lambda_new_2 cX1_lambda_new_2 1 (some .boolean)) ({ frames := 5, cells := 0, slots := 0, locals := 106 }) (va_Pc [.ref (ad 0)] (mU G A (fun M => M = M1))) (mQi G A (fun r M => r = bI (cf_watch2 f) ∧ M = M1)) 0 0 A := by
  refine mx_ofz (by decide) (Nat.le_of_ble_eq_true rfl) ?_
  intro p e R s m av below meth c M H Q ls X hRf hRl hRc hRs hin eM w fin hl
  subst M
  have X : CallFix p m c cX1_lambda_new_2 1 s av lw_all "FieldPumps$Station" := X
  have hx := X.1
  have hb := X.2.1
  have hl : lv_has ls 1 [(0, .ref (ad 0))] := hl
  have hRf : R.frames = 5 := hRf
  have hRl : R.locals = 106 := hRl
  have hRc : R.cells = 0 := hRc
  have hRs : R.slots = 0 := hRs
  have hcp := hM.cnp
  have hn6 := hM.n6
  have hg8 := hM.g8
  generalize ([] : List Loc) = locs at w ⊢
  generalize E : cf_watch2 f = z at fin
  rw [cf_watch2] at E
  refine lv_aload_n hx hb dX1_lambda_new_2_0 rfl (lv_at hl 0 rfl) ?_
  refine mx_bi w (va_runV (As := []) (rest := []) X (ct_isAlone l G A ad np ng M0 M1 f  hM (by first | omega | assumption)) (cwV 0 X.2.2.2.2 (lw_V q266 q268 qs2 q97 q269) rfl rfl rfl (by decide +kernel) ⟨by rw [hRf]; decide, by rw [hRl]; decide⟩) (mx_preV w rfl hM.st rfl) rfl rfl hl.1 rfl (lv_room (Nat.le_of_ble_eq_true rfl)) dX1_lambda_new_2_1 ⟨Nat.zero_le _, Nat.zero_le _⟩) (fun r M9 H locs hp w => ?_)
  obtain ⟨rfl, eM⟩ := hp; subst M9
  have J26 : ∀ (bs0_26 : Bool) (M : mh) (H : Heap) (locs : List Loc) (ls : Array Slot), cf_watch2_26 f bs0_26 = z → lv_has ls 1 [] → mW G A s M H locs → M = M1 → W p l e R s m av below meth c H locs 0 0 Q (F0 m 26 ls [.int (bI bs0_26)]) := by
    intro bs0_26 M H locs ls  E hl w eM
    subst M
    rw [cf_watch2_26] at E
    exact fin bs0_26 M1 H locs ls 26 dX1_lambda_new_2_26 ⟨congrArg bI E, rfl⟩ w
  have J25 : ∀  (M : mh) (H : Heap) (locs : List Loc) (ls : Array Slot), cf_watch2_25 f  = z → lv_has ls 1 [] → mW G A s M H locs → M = M1 → W p l e R s m av below meth c H locs 0 0 Q (F0 m 25 ls []) := by
    intro  M H locs ls  E hl w eM
    subst M
    rw [cf_watch2_25] at E
    refine lv_iconst (v := (0 : Int32)) hx hb dX1_lambda_new_2_25 (by decide) ?_
    exact J26 false M1 H locs ls E (lv_sub hl [] rfl) w rfl
  refine mx_beq (tgt := 25) hx hb dX1_lambda_new_2_4 (by decide) (fun c_4 => ?_) (fun c_4 => ?_)
  · rw [if_neg c_4] at E
    exact J25  M1 H locs ls E (lv_sub hl [] rfl) w rfl
  · rw [if_pos c_4] at E
    refine lv_aload_n hx hb dX1_lambda_new_2_7 rfl (lv_at hl 0 rfl) ?_
    refine mx_get (v := .int (f 3)) X w in_X1 (ci := 1) rfl 23 (by decide) q341 (fun _ h => h) hM.st rfl dX1_lambda_new_2_8 ?_
    refine lv_aload_n hx hb dX1_lambda_new_2_11 rfl (lv_at hl 0 rfl) ?_
    refine mx_get (v := .ref (ad 13)) X w in_X1 (ci := 1) rfl 10 (by decide) q311 (fun _ h => h) hM.st rfl dX1_lambda_new_2_12 ?_
    refine lv_bipush (v := (7 : Int32)) hx hb dX1_lambda_new_2_15 (by decide) ?_
    refine mx_iald2 X w hM.a13 7 (show 7 < 19 from by decide) (by decide) (if_pos (show 7 < 19 from by decide)) dX1_lambda_new_2_17 ?_
    refine lv_icmp_ge (tgt := 25) hx hb dX1_lambda_new_2_18 (by decide) (fun c_18 => ?_) (fun c_18 => ?_)
    · rw [if_pos c_18] at E
      exact J25  M1 H locs ls E (lv_sub hl [] rfl) w rfl
    · rw [if_neg c_18] at E
      refine lv_iconst (v := (1 : Int32)) hx hb dX1_lambda_new_2_21 (by decide) ?_
      refine lv_goto (tgt := 26) hx hb dX1_lambda_new_2_22 (by decide) ?_
      exact J26 true M1 H locs ls E (lv_sub hl [] rfl) w rfl
