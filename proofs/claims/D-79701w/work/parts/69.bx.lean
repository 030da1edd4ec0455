set_option maxRecDepth 100000
/-! BX: Integers -/
theorem mx_preVB {s : State} {G : mg} {A : Nat → Prop} {M : mh} {H : Heap} {locs : List Loc} {b : Nat} {v : Int32} {As : List Value} {P : mh → Prop} (w : mW G A s M H locs) (hP : P M) (hy : boxAt G M b v) : PreV s H "java/lang/Integer" b (va_Pc (.ref b :: As) (mU G A P)) As :=
  ⟨mU.blind, w.box hy, fun U hU hW => ⟨rfl, w.call hP hU hW⟩⟩
def cf_icmp (x : Int32) (y : Int32) : Int32 := (if y ≤ x then (if x = y then (0 : Int32) else (1 : Int32)) else (-1 : Int32))
set_option maxHeartbeats 4000000 in
set_option maxRecDepth 100000 in
theorem ct_icmp (l : Launch) (G : mg) (A : Nat → Prop) (M1 : mh) (x : Int32) (y : Int32)  : Met l yJ18_compare (ws_ yJ18_compare cJ18_compare 2 (some .int)) ({ frames := 0, cells := 0, slots := 0, locals := 0 }) (va_Pc [.int x, .int y] (mU G A (fun M => M = M1))) (mQi G A (fun r M => r = cf_icmp x y ∧ M = M1)) 0 0 A := by
  refine mx_ofi (by decide) (Nat.le_of_ble_eq_true rfl) ?_
  intro p e R s m av below meth c M H Q ls X hRf hRl hRc hRs hin eM w fin hl
  subst M
  have X : CallFix p m c cJ18_compare 2 s av lw_all "java/lang/Integer" := X
  have hx := X.1
  have hb := X.2.1
  have hl : lv_has ls 2 [(0, .int x), (1, .int y)] := hl
  have hRf : R.frames = 0 := hRf
  have hRl : R.locals = 0 := hRl
  generalize ([] : List Loc) = locs at w ⊢
  generalize E : cf_icmp x y = z at fin
  rw [cf_icmp] at E
  refine lv_iload_n hx hb dJ18_compare_0 rfl (lv_at hl 0 rfl) ?_
  refine lv_iload_n hx hb dJ18_compare_1 rfl (lv_at hl 1 rfl) ?_
  refine lv_icmp_ge (tgt := 9) hx hb dJ18_compare_2 (by decide) (fun c_2 => ?_) (fun c_2 => ?_)
  · rw [if_pos c_2] at E
    refine lv_iload_n hx hb dJ18_compare_9 rfl (lv_at hl 0 rfl) ?_
    refine lv_iload_n hx hb dJ18_compare_10 rfl (lv_at hl 1 rfl) ?_
    refine lv_icmp_ne (tgt := 18) hx hb dJ18_compare_11 (by decide) (fun c_11 => ?_) (fun c_11 => ?_)
    · rw [if_neg c_11] at E
      refine lv_iconst (v := (1 : Int32)) hx hb dJ18_compare_18 (by decide) ?_
      exact fin (1 : Int32) M1 H locs ls 19 dJ18_compare_19 ⟨E, rfl⟩ w
    · rw [if_pos c_11] at E
      refine lv_iconst (v := (0 : Int32)) hx hb dJ18_compare_14 (by decide) ?_
      refine lv_goto (tgt := 19) hx hb dJ18_compare_15 (by decide) ?_
      exact fin (0 : Int32) M1 H locs ls 19 dJ18_compare_19 ⟨E, rfl⟩ w
  · rw [if_neg c_2] at E
    refine lv_iconst (v := (-1 : Int32)) hx hb dJ18_compare_5 (by decide) ?_
    refine lv_goto (tgt := 19) hx hb dJ18_compare_6 (by decide) ?_
    exact fin (-1 : Int32) M1 H locs ls 19 dJ18_compare_19 ⟨E, rfl⟩ w
def cf_icmpB (x : Int32) (y : Int32) : Int32 := (cf_icmp x y)
set_option maxHeartbeats 4000000 in
set_option maxRecDepth 100000 in
theorem ct_icmpB (l : Launch) (G : mg) (A : Nat → Prop) (M1 : mh) (a : Nat) (x : Int32) (b : Nat) (y : Int32) (h_a : boxAt G M1 a x) (h_b : boxAt G M1 b y) : Met l yJ18_compareTo_2 (ws_ yJ18_compareTo_2 cJ18_compareTo_2 2 (some .int)) ({ frames := 1, cells := 0, slots := 0, locals := 21 }) (va_Pc [.ref a, .ref b] (mU G A (fun M => M = M1))) (mQi G A (fun r M => r = cf_icmpB x y ∧ M = M1)) 0 0 A := by
  refine mx_ofi (by decide) (Nat.le_of_ble_eq_true rfl) ?_
  intro p e R s m av below meth c M H Q ls X hRf hRl hRc hRs hin eM w fin hl
  subst M
  have X : CallFix p m c cJ18_compareTo_2 2 s av lw_all "java/lang/Integer" := X
  have hx := X.1
  have hb := X.2.1
  have hl : lv_has ls 2 [(0, .ref a), (1, .ref b)] := hl
  have hRf : R.frames = 1 := hRf
  have hRl : R.locals = 21 := hRl
  generalize ([] : List Loc) = locs at w ⊢
  generalize E : cf_icmpB x y = z at fin
  rw [cf_icmpB] at E
  refine lv_aload_n hx hb dJ18_compareTo_2_0 rfl (lv_at hl 0 rfl) ?_
  refine mx_boxget X w q759 in_J18 h_a dJ18_compareTo_2_1 ?_
  refine lv_aload_n hx hb dJ18_compareTo_2_4 rfl (lv_at hl 1 rfl) ?_
  refine mx_boxget X w q759 in_J18 h_b dJ18_compareTo_2_5 ?_
  refine mx_bi w (va_runS (As := [.int x, .int y]) (rest := []) X (ct_icmp l G A M1 x y ) (va_cwS 2 X.2.2.2.2 (lw_S q1042 q1043 q124 q1044) rfl rfl rfl (by decide +kernel) ⟨by rw [hRf]; decide, by rw [hRl]; decide⟩) (mx_preS w rfl) rfl rfl hl.1 rfl (lv_room (Nat.le_of_ble_eq_true rfl)) dJ18_compareTo_2_8 ⟨Nat.zero_le _, Nat.zero_le _⟩) (fun r M9 H locs hp w => ?_)
  obtain ⟨rfl, eM⟩ := hp; subst M9
  exact fin (cf_icmp x y) M1 H locs ls 11 dJ18_compareTo_2_11 ⟨E, rfl⟩ w
def cf_icmpO (x : Int32) (y : Int32) : Int32 := (cf_icmpB x y)
set_option maxHeartbeats 4000000 in
set_option maxRecDepth 100000 in
theorem ct_icmpO (l : Launch) (G : mg) (A : Nat → Prop) (M1 : mh) (a : Nat) (x : Int32) (b : Nat) (y : Int32) (h_a : boxAt G M1 a x) (h_b : boxAt G M1 b y) : Met l yJ18_compareTo (ws_ yJ18_compareTo cJ18_compareTo 2 (some .int)) ({ frames := 2, cells := 0, slots := 0, locals := 42 }) (va_Pc [.ref a, .ref b] (mU G A (fun M => M = M1))) (mQi G A (fun r M => r = cf_icmpO x y ∧ M = M1)) 0 0 A := by
  refine mx_ofi (by decide) (Nat.le_of_ble_eq_true rfl) ?_
  intro p e R s m av below meth c M H Q ls X hRf hRl hRc hRs hin eM w fin hl
  subst M
  have X : CallFix p m c cJ18_compareTo 2 s av lw_all "java/lang/Integer" := X
  have hx := X.1
  have hb := X.2.1
  have hl : lv_has ls 2 [(0, .ref a), (1, .ref b)] := hl
  have hRf : R.frames = 2 := hRf
  have hRl : R.locals = 42 := hRl
  generalize ([] : List Loc) = locs at w ⊢
  generalize E : cf_icmpO x y = z at fin
  rw [cf_icmpO] at E
  refine lv_aload_n hx hb dJ18_compareTo_0 rfl (lv_at hl 0 rfl) ?_
  refine lv_aload_n hx hb dJ18_compareTo_1 rfl (lv_at hl 1 rfl) ?_
  refine mx_boxcast X w q750 h_b dJ18_compareTo_2 ?_
  refine mx_bi w (va_runV (As := [.ref b]) (rest := []) X (ct_icmpB l G A M1 a x b y h_a h_b) (cwV 1 X.2.2.2.2 (lw_V q1038 q1039 q1040 q124 q1041) rfl rfl rfl (by decide +kernel) ⟨by rw [hRf]; decide, by rw [hRl]; decide⟩) (mx_preVB w rfl h_a) rfl rfl hl.1 rfl (lv_room (Nat.le_of_ble_eq_true rfl)) dJ18_compareTo_5 ⟨Nat.zero_le _, Nat.zero_le _⟩) (fun r M9 H locs hp w => ?_)
  obtain ⟨rfl, eM⟩ := hp; subst M9
  exact fin (cf_icmpB x y) M1 H locs ls 8 dJ18_compareTo_8 ⟨E, rfl⟩ w
def cf_intV (x : Int32) : Int32 := x
set_option maxHeartbeats 4000000 in
set_option maxRecDepth 100000 in
theorem ct_intV (l : Launch) (G : mg) (A : Nat → Prop) (M1 : mh) (a : Nat) (x : Int32) (h_a : boxAt G M1 a x) : Met l yJ18_intValue (ws_ yJ18_intValue cJ18_intValue 1 (some .int)) ({ frames := 0, cells := 0, slots := 0, locals := 0 }) (va_Pc [.ref a] (mU G A (fun M => M = M1))) (mQi G A (fun r M => r = cf_intV x ∧ M = M1)) 0 0 A := by
  refine mx_ofi (by decide) (Nat.le_of_ble_eq_true rfl) ?_
  intro p e R s m av below meth c M H Q ls X hRf hRl hRc hRs hin eM w fin hl
  subst M
  have X : CallFix p m c cJ18_intValue 1 s av lw_all "java/lang/Integer" := X
  have hx := X.1
  have hb := X.2.1
  have hl : lv_has ls 1 [(0, .ref a)] := hl
  have hRf : R.frames = 0 := hRf
  have hRl : R.locals = 0 := hRl
  generalize ([] : List Loc) = locs at w ⊢
  generalize E : cf_intV x = z at fin
  rw [cf_intV] at E
  refine lv_aload_n hx hb dJ18_intValue_0 rfl (lv_at hl 0 rfl) ?_
  refine mx_boxget X w q759 in_J18 h_a dJ18_intValue_1 ?_
  exact fin x M1 H locs ls 4 dJ18_intValue_4 ⟨E, rfl⟩ w
