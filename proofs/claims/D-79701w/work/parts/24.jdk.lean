set_option maxRecDepth 100000
def jmax (x y : Int32) : Int32 := if x < y then y else x
def jmin (x y : Int32) : Int32 := if y < x then y else x
set_option maxHeartbeats 4000000 in
set_option maxRecDepth 100000 in
theorem jt_ac_init (l : Launch) (G : mg) (A : Nat → Prop) (M1 : mh) (a : Nat)     : Met l yJ0_init (ws_ yJ0_init cJ0_init 1 (none)) ({ frames := 1, cells := 0, slots := 0, locals := 12 }) (va_Pc [.ref a] (mU G A (fun M => M = M1))) (mQv G A (fun M => M = M1)) 0 0 A := by
  refine mx_ofv (by decide) (Nat.le_of_ble_eq_true rfl) ?_
  intro p e R s m av below meth c M H Q ls X hRf hRl hRc hRs hin eM w fin hl
  subst M
  have X : CallFix p m c cJ0_init 1 s av lw_all "java/util/AbstractCollection" := X
  have hx := X.1
  have hb := X.2.1
  have hl : lv_has ls 1 [(0, .ref a)] := hl
  have hRf : R.frames = 1 := hRf
  have hRl : R.locals = 12 := hRl
  have hRc : R.cells = 0 := hRc
  have hRs : R.slots = 0 := hRs
  have hin : meth.name = "<init>" := hin
  generalize ([] : List Loc) = locs at w ⊢
  refine lv_aload_n hx hb dJ0_init_0 rfl (lv_at hl 0 rfl) ?_
  refine W.objInit hx hb X.2.2.2.1 (X.2.2.2.2 _ q166) (X.2.2.2.2 _ q144) (X.2.2.2.2 _ q145) rfl (by rw [X.2.2.1]; exact hl.1) rfl dJ0_init_1 (by rw [hRf]; decide) (by rw [hRl]; exact Nat.le_of_ble_eq_true rfl) ?_
  refine W.eq (g2 := F0 m 4 ls []) rfl ?_
  exact fin _ H locs ls 4 dJ0_init_4 rfl w
set_option maxHeartbeats 4000000 in
set_option maxRecDepth 100000 in
theorem jt_abl_init (l : Launch) (G : mg) (A : Nat → Prop) (M1 : mh) (a : Nat)  (h_a : M1 a = some (.inr (9, [.int (0 : Int32), .null, .int (0 : Int32)])))   : Met l yJ1_init (ws_ yJ1_init cJ1_init 1 (none)) ({ frames := 2, cells := 0, slots := 0, locals := 32 }) (va_Pc [.ref a] (mU G A (fun M => M = M1))) (mQv G A (fun M => M = (va_up M1 a (some (.inr (9, [.int (0 : Int32), .null, .int (0 : Int32)])))))) 0 0 A := by
  refine mx_ofv (by decide) (Nat.le_of_ble_eq_true rfl) ?_
  intro p e R s m av below meth c M H Q ls X hRf hRl hRc hRs hin eM w fin hl
  subst M
  have X : CallFix p m c cJ1_init 1 s av lw_all "java/util/AbstractList" := X
  have hx := X.1
  have hb := X.2.1
  have hl : lv_has ls 1 [(0, .ref a)] := hl
  have hRf : R.frames = 2 := hRf
  have hRl : R.locals = 32 := hRl
  have hRc : R.cells = 0 := hRc
  have hRs : R.slots = 0 := hRs
  have hin : meth.name = "<init>" := hin
  generalize ([] : List Loc) = locs at w ⊢
  refine lv_aload_n hx hb dJ1_init_0 rfl (lv_at hl 0 rfl) ?_
  refine mx_bv w (va_runI (As := []) (rest := []) X (jt_ac_init l G A M1 a  ) (cwI 0 X.2.2.2.2 (lw_meth q165) rfl rfl rfl (X.2.2.2.2 _ q98) (X.2.2.2.2 _ q163) (X.2.2.2.2 _ q164) rfl (by decide +kernel) ⟨by rw [hRf]; decide, by rw [hRl]; decide⟩) (mx_preS w rfl) rfl rfl hl.1 rfl (lv_room (Nat.le_of_ble_eq_true rfl)) dJ1_init_1 ⟨Nat.zero_le _, Nat.zero_le _⟩) (fun M9 H locs hp w => ?_)
  have eM := hp; subst M9
  refine lv_aload_n hx hb dJ1_init_4 rfl (lv_at hl 0 rfl) ?_
  refine lv_iconst (v := (0 : Int32)) hx hb dJ1_init_5 (by decide) ?_
  refine mx_put (T := TJ2) X w in_J2 tyJ2 tyJ2_ok nmJ2 (ci := 9) rfl 0 (by decide) q173 (fun _ h => h) rfl (v := .int (0 : Int32)) rfl rfl h_a (show 0 < 3 by decide) dJ1_init_6 (fun H locs w => ?_)
  have w : mW G A s (va_up M1 a (some (.inr (9, [.int (0 : Int32), .null, .int (0 : Int32)])))) H locs := w
  have h_a : (va_up M1 a (some (.inr (9, [.int (0 : Int32), .null, .int (0 : Int32)])))) a = some (.inr (9, [.int (0 : Int32), .null, .int (0 : Int32)])) := va_up_s
  exact fin _ H locs ls 9 dJ1_init_9 rfl w
set_option maxHeartbeats 4000000 in
set_option maxRecDepth 100000 in
theorem jt_al_init (l : Launch) (G : mg) (A : Nat → Prop) (M1 : mh) (a : Nat)  (h_a : M1 a = some (.inr (9, [.int (0 : Int32), .null, .int (0 : Int32)])))   : Met l yJ2_init (ws_ yJ2_init cJ2_init 1 (none)) ({ frames := 3, cells := 0, slots := 0, locals := 52 }) (va_Pc [.ref a] (mU G A (fun M => M = M1))) (mQv G A (fun M => M = (va_up (va_up M1 a (some (.inr (9, [.int (0 : Int32), .null, .int (0 : Int32)])))) a (some (.inr (9, [.int (0 : Int32), .ref (G.2 0), .int (0 : Int32)])))))) 0 0 A := by
  refine mx_ofv (by decide) (Nat.le_of_ble_eq_true rfl) ?_
  intro p e R s m av below meth c M H Q ls X hRf hRl hRc hRs hin eM w fin hl
  subst M
  have X : CallFix p m c cJ2_init 1 s av lw_all "java/util/ArrayList" := X
  have hx := X.1
  have hb := X.2.1
  have hl : lv_has ls 1 [(0, .ref a)] := hl
  have hRf : R.frames = 3 := hRf
  have hRl : R.locals = 52 := hRl
  have hRc : R.cells = 0 := hRc
  have hRs : R.slots = 0 := hRs
  have hin : meth.name = "<init>" := hin
  generalize ([] : List Loc) = locs at w ⊢
  refine lv_aload_n hx hb dJ2_init_0 rfl (lv_at hl 0 rfl) ?_
  refine mx_bv w (va_runI (As := []) (rest := []) X (jt_abl_init l G A M1 a h_a ) (cwI 0 X.2.2.2.2 (lw_meth q162) rfl rfl rfl (X.2.2.2.2 _ q99) (X.2.2.2.2 _ q160) (X.2.2.2.2 _ q161) rfl (by decide +kernel) ⟨by rw [hRf]; decide, by rw [hRl]; decide⟩) (mx_preS w rfl) rfl rfl hl.1 rfl (lv_room (Nat.le_of_ble_eq_true rfl)) dJ2_init_1 ⟨Nat.zero_le _, Nat.zero_le _⟩) (fun M9 H locs hp w => ?_)
  have eM := hp; subst M9
  have h_a : (va_up M1 a (some (.inr (9, [.int (0 : Int32), .null, .int (0 : Int32)])))) a = some (.inr (9, [.int (0 : Int32), .null, .int (0 : Int32)])) := va_up_s
  have w : mW G A s (va_up M1 a (some (.inr (9, [.int (0 : Int32), .null, .int (0 : Int32)])))) H locs := w
  refine lv_aload_n hx hb dJ2_init_4 rfl (lv_at hl 0 rfl) ?_
  refine mx_gets (v := .ref (G.2 0)) X w (C := "java/util/ArrayList") (by simp [kcZ]) q167 (fun _ h => h) dJ2_init_5 ?_
  refine mx_put (T := TJ2) X w in_J2 tyJ2 tyJ2_ok nmJ2 (ci := 9) rfl 1 (by decide) q169 (fun _ h => h) rfl (v := .ref (G.2 0)) rfl rfl h_a (show 1 < 3 by decide) dJ2_init_8 (fun H locs w => ?_)
  have w : mW G A s (va_up (va_up M1 a (some (.inr (9, [.int (0 : Int32), .null, .int (0 : Int32)])))) a (some (.inr (9, [.int (0 : Int32), .ref (G.2 0), .int (0 : Int32)])))) H locs := w
  have h_a : (va_up (va_up M1 a (some (.inr (9, [.int (0 : Int32), .null, .int (0 : Int32)])))) a (some (.inr (9, [.int (0 : Int32), .ref (G.2 0), .int (0 : Int32)])))) a = some (.inr (9, [.int (0 : Int32), .ref (G.2 0), .int (0 : Int32)])) := va_up_s
  exact fin _ H locs ls 11 dJ2_init_11 rfl w
set_option maxHeartbeats 4000000 in
set_option maxRecDepth 100000 in
theorem jt_aq_init (l : Launch) (G : mg) (A : Nat → Prop) (M1 : mh) (a : Nat)     : Met l yJ4_init (ws_ yJ4_init cJ4_init 1 (none)) ({ frames := 2, cells := 0, slots := 0, locals := 32 }) (va_Pc [.ref a] (mU G A (fun M => M = M1))) (mQv G A (fun M => M = M1)) 0 0 A := by
  refine mx_ofv (by decide) (Nat.le_of_ble_eq_true rfl) ?_
  intro p e R s m av below meth c M H Q ls X hRf hRl hRc hRs hin eM w fin hl
  subst M
  have X : CallFix p m c cJ4_init 1 s av lw_all "java/util/AbstractQueue" := X
  have hx := X.1
  have hb := X.2.1
  have hl : lv_has ls 1 [(0, .ref a)] := hl
  have hRf : R.frames = 2 := hRf
  have hRl : R.locals = 32 := hRl
  have hRc : R.cells = 0 := hRc
  have hRs : R.slots = 0 := hRs
  have hin : meth.name = "<init>" := hin
  generalize ([] : List Loc) = locs at w ⊢
  refine lv_aload_n hx hb dJ4_init_0 rfl (lv_at hl 0 rfl) ?_
  refine mx_bv w (va_runI (As := []) (rest := []) X (jt_ac_init l G A M1 a  ) (cwI 0 X.2.2.2.2 (lw_meth q165) rfl rfl rfl (X.2.2.2.2 _ q98) (X.2.2.2.2 _ q221) (X.2.2.2.2 _ q164) rfl (by decide +kernel) ⟨by rw [hRf]; decide, by rw [hRl]; decide⟩) (mx_preS w rfl) rfl rfl hl.1 rfl (lv_room (Nat.le_of_ble_eq_true rfl)) dJ4_init_1 ⟨Nat.zero_le _, Nat.zero_le _⟩) (fun M9 H locs hp w => ?_)
  have eM := hp; subst M9
  exact fin _ H locs ls 4 dJ4_init_4 rfl w
set_option maxHeartbeats 4000000 in
set_option maxRecDepth 100000 in
theorem jt_am_init (l : Launch) (G : mg) (A : Nat → Prop) (M1 : mh) (a : Nat)     : Met l yJ19_init (ws_ yJ19_init cJ19_init 1 (none)) ({ frames := 1, cells := 0, slots := 0, locals := 12 }) (va_Pc [.ref a] (mU G A (fun M => M = M1))) (mQv G A (fun M => M = M1)) 0 0 A := by
  refine mx_ofv (by decide) (Nat.le_of_ble_eq_true rfl) ?_
  intro p e R s m av below meth c M H Q ls X hRf hRl hRc hRs hin eM w fin hl
  subst M
  have X : CallFix p m c cJ19_init 1 s av lw_all "java/util/AbstractMap" := X
  have hx := X.1
  have hb := X.2.1
  have hl : lv_has ls 1 [(0, .ref a)] := hl
  have hRf : R.frames = 1 := hRf
  have hRl : R.locals = 12 := hRl
  have hRc : R.cells = 0 := hRc
  have hRs : R.slots = 0 := hRs
  have hin : meth.name = "<init>" := hin
  generalize ([] : List Loc) = locs at w ⊢
  refine lv_aload_n hx hb dJ19_init_0 rfl (lv_at hl 0 rfl) ?_
  refine W.objInit hx hb X.2.2.2.1 (X.2.2.2.2 _ q925) (X.2.2.2.2 _ q144) (X.2.2.2.2 _ q145) rfl (by rw [X.2.2.1]; exact hl.1) rfl dJ19_init_1 (by rw [hRf]; decide) (by rw [hRl]; exact Nat.le_of_ble_eq_true rfl) ?_
  refine W.eq (g2 := F0 m 4 ls []) rfl ?_
  exact fin _ H locs ls 4 dJ19_init_4 rfl w
set_option maxHeartbeats 4000000 in
set_option maxRecDepth 100000 in
theorem jt_num_init (l : Launch) (G : mg) (A : Nat → Prop) (M1 : mh) (a : Nat)     : Met l yJ17_init (ws_ yJ17_init cJ17_init 1 (none)) ({ frames := 1, cells := 0, slots := 0, locals := 12 }) (va_Pc [.ref a] (mU G A (fun M => M = M1))) (mQv G A (fun M => M = M1)) 0 0 A := by
  refine mx_ofv (by decide) (Nat.le_of_ble_eq_true rfl) ?_
  intro p e R s m av below meth c M H Q ls X hRf hRl hRc hRs hin eM w fin hl
  subst M
  have X : CallFix p m c cJ17_init 1 s av lw_all "java/lang/Number" := X
  have hx := X.1
  have hb := X.2.1
  have hl : lv_has ls 1 [(0, .ref a)] := hl
  have hRf : R.frames = 1 := hRf
  have hRl : R.locals = 12 := hRl
  have hRc : R.cells = 0 := hRc
  have hRs : R.slots = 0 := hRs
  have hin : meth.name = "<init>" := hin
  generalize ([] : List Loc) = locs at w ⊢
  refine lv_aload_n hx hb dJ17_init_0 rfl (lv_at hl 0 rfl) ?_
  refine W.objInit hx hb X.2.2.2.1 (X.2.2.2.2 _ q758) (X.2.2.2.2 _ q144) (X.2.2.2.2 _ q145) rfl (by rw [X.2.2.1]; exact hl.1) rfl dJ17_init_1 (by rw [hRf]; decide) (by rw [hRl]; exact Nat.le_of_ble_eq_true rfl) ?_
  refine W.eq (g2 := F0 m 4 ls []) rfl ?_
  exact fin _ H locs ls 4 dJ17_init_4 rfl w
set_option maxHeartbeats 4000000 in
set_option maxRecDepth 100000 in
theorem jt_pre_ckS0 (l : Launch) (G : mg) (A : Nat → Prop) (M1 : mh) (fa : Nat) (k : Nat) (n : Nat)    (hk : k < n) (hn : n < 2 ^ 31) : Met l yJ7_checkIndex (ws_ yJ7_checkIndex cJ7_checkIndex 3 (some .int)) ({ frames := 0, cells := 0, slots := 0, locals := 0 }) (va_Pc [.int (nI k), .int (nI n), .ref fa] (mU G A (fun M => M = M1))) (mQi G A (fun r M => r = (nI k) ∧ M = M1)) 0 0 A := by
  refine mx_ofi (by decide) (Nat.le_of_ble_eq_true rfl) ?_
  intro p e R s m av below meth c M H Q ls X hRf hRl hRc hRs hin eM w fin hl
  subst M
  have X : CallFix p m c cJ7_checkIndex 3 s av lw_all "jdk/internal/util/Preconditions" := X
  have hx := X.1
  have hb := X.2.1
  have hl : lv_has ls 3 [(0, .int (nI k)), (1, .int (nI n)), (2, .ref fa)] := hl
  have hRf : R.frames = 0 := hRf
  have hRl : R.locals = 0 := hRl
  have hRc : R.cells = 0 := hRc
  have hRs : R.slots = 0 := hRs
  generalize ([] : List Loc) = locs at w ⊢
  refine lv_iload_n hx hb dJ7_checkIndex_0 rfl (lv_at hl 0 rfl) ?_
  refine lv_if_lt (tgt := 9) hx hb dJ7_checkIndex_1 (by decide) (fun c_1 => absurd c_1 (nI_pos (by omega))) (fun c_1 => ?_)
  refine lv_iload_n hx hb dJ7_checkIndex_4 rfl (lv_at hl 0 rfl) ?_
  refine lv_iload_n hx hb dJ7_checkIndex_5 rfl (lv_at hl 1 rfl) ?_
  refine mx_nlt (u := k) (v := n) (tgt := 16) hx hb rfl rfl (by omega) (by omega) dJ7_checkIndex_6 (by decide) (fun c_6 => ?_) (fun c_6 => absurd (by omega) c_6)
  refine lv_iload_n hx hb dJ7_checkIndex_16 rfl (lv_at hl 0 rfl) ?_
  exact fin (nI k) _ H locs ls 17 dJ7_checkIndex_17 ⟨rfl, rfl⟩ w
set_option maxHeartbeats 4000000 in
set_option maxRecDepth 100000 in
theorem jt_pre_ck (l : Launch) (G : mg) (A : Nat → Prop) (M1 : mh) (k : Nat) (n : Nat)    (hk : k < n) (hn : n < 2 ^ 31) : Met l yJ7_checkIndex (ws_ yJ7_checkIndex cJ7_checkIndex 3 (some .int)) ({ frames := 0, cells := 0, slots := 0, locals := 0 }) (va_Pc [.int (nI k), .int (nI n), .null] (mU G A (fun M => M = M1))) (mQi G A (fun r M => r = (nI k) ∧ M = M1)) 0 0 A := by
  refine mx_ofi (by decide) (Nat.le_of_ble_eq_true rfl) ?_
  intro p e R s m av below meth c M H Q ls X hRf hRl hRc hRs hin eM w fin hl
  subst M
  have X : CallFix p m c cJ7_checkIndex 3 s av lw_all "jdk/internal/util/Preconditions" := X
  have hx := X.1
  have hb := X.2.1
  have hl : lv_has ls 3 [(0, .int (nI k)), (1, .int (nI n)), (2, .null)] := hl
  have hRf : R.frames = 0 := hRf
  have hRl : R.locals = 0 := hRl
  have hRc : R.cells = 0 := hRc
  have hRs : R.slots = 0 := hRs
  generalize ([] : List Loc) = locs at w ⊢
  refine lv_iload_n hx hb dJ7_checkIndex_0 rfl (lv_at hl 0 rfl) ?_
  refine lv_if_lt (tgt := 9) hx hb dJ7_checkIndex_1 (by decide) (fun c_1 => absurd c_1 (nI_pos (by omega))) (fun c_1 => ?_)
  refine lv_iload_n hx hb dJ7_checkIndex_4 rfl (lv_at hl 0 rfl) ?_
  refine lv_iload_n hx hb dJ7_checkIndex_5 rfl (lv_at hl 1 rfl) ?_
  refine mx_nlt (u := k) (v := n) (tgt := 16) hx hb rfl rfl (by omega) (by omega) dJ7_checkIndex_6 (by decide) (fun c_6 => ?_) (fun c_6 => absurd (by omega) c_6)
  refine lv_iload_n hx hb dJ7_checkIndex_16 rfl (lv_at hl 0 rfl) ?_
  exact fin (nI k) _ H locs ls 17 dJ7_checkIndex_17 ⟨rfl, rfl⟩ w
set_option maxHeartbeats 4000000 in
set_option maxRecDepth 100000 in
theorem jt_obj_ck (l : Launch) (G : mg) (A : Nat → Prop) (M1 : mh) (k : Nat) (n : Nat)    (hk : k < n) (hn : n < 2 ^ 31) : Met l yJ6_checkIndex (ws_ yJ6_checkIndex cJ6_checkIndex 2 (some .int)) ({ frames := 1, cells := 0, slots := 0, locals := 22 }) (va_Pc [.int (nI k), .int (nI n)] (mU G A (fun M => M = M1))) (mQi G A (fun r M => r = (nI k) ∧ M = M1)) 0 0 A := by
  refine mx_ofi (by decide) (Nat.le_of_ble_eq_true rfl) ?_
  intro p e R s m av below meth c M H Q ls X hRf hRl hRc hRs hin eM w fin hl
  subst M
  have X : CallFix p m c cJ6_checkIndex 2 s av lw_all "java/util/Objects" := X
  have hx := X.1
  have hb := X.2.1
  have hl : lv_has ls 2 [(0, .int (nI k)), (1, .int (nI n))] := hl
  have hRf : R.frames = 1 := hRf
  have hRl : R.locals = 22 := hRl
  have hRc : R.cells = 0 := hRc
  have hRs : R.slots = 0 := hRs
  generalize ([] : List Loc) = locs at w ⊢
  refine lv_iload_n hx hb dJ6_checkIndex_0 rfl (lv_at hl 0 rfl) ?_
  refine lv_iload_n hx hb dJ6_checkIndex_1 rfl (lv_at hl 1 rfl) ?_
  refine lv_null hx hb dJ6_checkIndex_2 ?_
  refine mx_bi w (va_runS (As := [.int (nI k), .int (nI n), .null]) (rest := []) X (jt_pre_ck l G A M1 k n  (by first | omega | assumption) (by first | omega | assumption)) (va_cwS 3 X.2.2.2.2 (lw_S q254 q255 q107 q256) rfl rfl rfl (by decide +kernel) ⟨by rw [hRf]; decide, by rw [hRl]; decide⟩) (mx_preS w rfl) rfl rfl hl.1 rfl (lv_room (Nat.le_of_ble_eq_true rfl)) dJ6_checkIndex_3 ⟨Nat.zero_le _, Nat.zero_le _⟩) (fun r M9 H locs hp w => ?_)
  obtain ⟨eR, eM⟩ := hp; subst M9; subst eR
  exact fin (nI k) _ H locs ls 6 dJ6_checkIndex_6 ⟨rfl, rfl⟩ w
set_option maxHeartbeats 4000000 in
set_option maxRecDepth 100000 in
theorem jt_al_size (l : Launch) (G : mg) (A : Nat → Prop) (M1 : mh) (a : Nat) (md : Int32) (ea : Nat) (n : Nat) (h_a : M1 a = some (.inr (9, [.int md, .ref ea, .int (nI n)])))   : Met l yJ2_size (ws_ yJ2_size cJ2_size 1 (some .int)) ({ frames := 0, cells := 0, slots := 0, locals := 0 }) (va_Pc [.ref a] (mU G A (fun M => M = M1))) (mQi G A (fun r M => r = (nI n) ∧ M = M1)) 0 0 A := by
  refine mx_ofi (by decide) (Nat.le_of_ble_eq_true rfl) ?_
  intro p e R s m av below meth c M H Q ls X hRf hRl hRc hRs hin eM w fin hl
  subst M
  have X : CallFix p m c cJ2_size 1 s av lw_all "java/util/ArrayList" := X
  have hx := X.1
  have hb := X.2.1
  have hl : lv_has ls 1 [(0, .ref a)] := hl
  have hRf : R.frames = 0 := hRf
  have hRl : R.locals = 0 := hRl
  have hRc : R.cells = 0 := hRc
  have hRs : R.slots = 0 := hRs
  generalize ([] : List Loc) = locs at w ⊢
  refine lv_aload_n hx hb dJ2_size_0 rfl (lv_at hl 0 rfl) ?_
  refine mx_get (T := TJ2) (v := .int (nI n)) X w in_J2 (ci := 9) rfl 2 (by decide) q172 (fun _ h => h) h_a rfl dJ2_size_1 ?_
  exact fin (nI n) _ H locs ls 4 dJ2_size_4 ⟨rfl, rfl⟩ w
set_option maxHeartbeats 4000000 in
set_option maxRecDepth 100000 in
theorem jt_al_emp0 (l : Launch) (G : mg) (A : Nat → Prop) (M1 : mh) (a : Nat) (md : Int32) (ea : Nat) (n : Nat) (h_a : M1 a = some (.inr (9, [.int md, .ref ea, .int (nI n)])))  (h0 : n = 0) : Met l yJ2_isEmpty (ws_ yJ2_isEmpty cJ2_isEmpty 1 (some .boolean)) ({ frames := 0, cells := 0, slots := 0, locals := 0 }) (va_Pc [.ref a] (mU G A (fun M => M = M1))) (mQi G A (fun r M => r = bI true ∧ M = M1)) 0 0 A := by
  refine mx_ofz (by decide) (Nat.le_of_ble_eq_true rfl) ?_
  intro p e R s m av below meth c M H Q ls X hRf hRl hRc hRs hin eM w fin hl
  subst M
  have X : CallFix p m c cJ2_isEmpty 1 s av lw_all "java/util/ArrayList" := X
  have hx := X.1
  have hb := X.2.1
  have hl : lv_has ls 1 [(0, .ref a)] := hl
  have hRf : R.frames = 0 := hRf
  have hRl : R.locals = 0 := hRl
  have hRc : R.cells = 0 := hRc
  have hRs : R.slots = 0 := hRs
  generalize ([] : List Loc) = locs at w ⊢
  refine lv_aload_n hx hb dJ2_isEmpty_0 rfl (lv_at hl 0 rfl) ?_
  refine mx_get (T := TJ2) (v := .int (nI n)) X w in_J2 (ci := 9) rfl 2 (by decide) q172 (fun _ h => h) h_a rfl dJ2_isEmpty_1 ?_
  refine mx_0ne (u := n) (tgt := 11) hx hb rfl (by omega) dJ2_isEmpty_4 (by decide) (fun c_4 => absurd (h0) c_4) (fun c_4 => ?_)
  refine lv_iconst (v := (1 : Int32)) hx hb dJ2_isEmpty_7 (by decide) ?_
  refine lv_goto (tgt := 12) hx hb dJ2_isEmpty_8 (by decide) ?_
  exact fin true _ H locs ls 12 dJ2_isEmpty_12 ⟨rfl, rfl⟩ w
set_option maxHeartbeats 4000000 in
set_option maxRecDepth 100000 in
theorem jt_al_emp1 (l : Launch) (G : mg) (A : Nat → Prop) (M1 : mh) (a : Nat) (md : Int32) (ea : Nat) (n : Nat) (h_a : M1 a = some (.inr (9, [.int md, .ref ea, .int (nI n)])))  (h0 : ¬ n = 0) (hn : n < 2 ^ 31) : Met l yJ2_isEmpty (ws_ yJ2_isEmpty cJ2_isEmpty 1 (some .boolean)) ({ frames := 0, cells := 0, slots := 0, locals := 0 }) (va_Pc [.ref a] (mU G A (fun M => M = M1))) (mQi G A (fun r M => r = bI false ∧ M = M1)) 0 0 A := by
  refine mx_ofz (by decide) (Nat.le_of_ble_eq_true rfl) ?_
  intro p e R s m av below meth c M H Q ls X hRf hRl hRc hRs hin eM w fin hl
  subst M
  have X : CallFix p m c cJ2_isEmpty 1 s av lw_all "java/util/ArrayList" := X
  have hx := X.1
  have hb := X.2.1
  have hl : lv_has ls 1 [(0, .ref a)] := hl
  have hRf : R.frames = 0 := hRf
  have hRl : R.locals = 0 := hRl
  have hRc : R.cells = 0 := hRc
  have hRs : R.slots = 0 := hRs
  generalize ([] : List Loc) = locs at w ⊢
  refine lv_aload_n hx hb dJ2_isEmpty_0 rfl (lv_at hl 0 rfl) ?_
  refine mx_get (T := TJ2) (v := .int (nI n)) X w in_J2 (ci := 9) rfl 2 (by decide) q172 (fun _ h => h) h_a rfl dJ2_isEmpty_1 ?_
  refine mx_0ne (u := n) (tgt := 11) hx hb rfl (by omega) dJ2_isEmpty_4 (by decide) (fun c_4 => ?_) (fun c_4 => absurd c_4 (h0))
  refine lv_iconst (v := (0 : Int32)) hx hb dJ2_isEmpty_11 (by decide) ?_
  exact fin false _ H locs ls 12 dJ2_isEmpty_12 ⟨rfl, rfl⟩ w
set_option maxHeartbeats 4000000 in
set_option maxRecDepth 100000 in
theorem jt_al_ed (l : Launch) (G : mg) (A : Nat → Prop) (M1 : mh) (a : Nat) (k : Nat) (md : Int32) (ea : Nat) (n : Nat) (cap : Nat) (g : Nat → Option Nat) (h_a : M1 a = some (.inr (9, [.int md, .ref ea, .int (nI n)]))) (h_ea : M1 ea = some (mRc (G.1.1 103) cap g))  (hk : k < cap) (hc : cap < 2 ^ 31) : Met l yJ2_elementData (ws_ yJ2_elementData cJ2_elementData 2 (some (.object "java/lang/Object"))) ({ frames := 0, cells := 0, slots := 0, locals := 0 }) (va_Pc [.ref a, .int (nI k)] (mU G A (fun M => M = M1))) (mQq G A (fun r M => r = (g k) ∧ M = M1)) 0 0 A := by
  refine mx_ofq (Or.inl ⟨_, rfl⟩) (by decide) (Nat.le_of_ble_eq_true rfl) ?_
  intro p e R s m av below meth c M H Q ls X hRf hRl hRc hRs hin eM w fin hl
  subst M
  have X : CallFix p m c cJ2_elementData 2 s av lw_all "java/util/ArrayList" := X
  have hx := X.1
  have hb := X.2.1
  have hl : lv_has ls 2 [(0, .ref a), (1, .int (nI k))] := hl
  have hRf : R.frames = 0 := hRf
  have hRl : R.locals = 0 := hRl
  have hRc : R.cells = 0 := hRc
  have hRs : R.slots = 0 := hRs
  have n_a_ea : a ≠ ea := fun e => by rw [e, h_ea] at h_a; simp at h_a
  generalize ([] : List Loc) = locs at w ⊢
  refine lv_aload_n hx hb dJ2_elementData_0 rfl (lv_at hl 0 rfl) ?_
  refine mx_get (T := TJ2) (v := .ref ea) X w in_J2 (ci := 9) rfl 1 (by decide) q169 (fun _ h => h) h_a rfl dJ2_elementData_1 ?_
  refine lv_iload_n hx hb dJ2_elementData_4 rfl (lv_at hl 1 rfl) ?_
  refine mx_aald X w 3 (r := (g k)) h_ea rfl k (by first | omega | decide) (by omega) (rfl) dJ2_elementData_5 ?_
  exact fin (g k) _ H locs ls 6 dJ2_elementData_6 ⟨rfl, rfl⟩ w
set_option maxHeartbeats 4000000 in
set_option maxRecDepth 100000 in
theorem jt_al_get (l : Launch) (G : mg) (A : Nat → Prop) (M1 : mh) (a : Nat) (k : Nat) (md : Int32) (ea : Nat) (n : Nat) (cap : Nat) (g : Nat → Option Nat) (h_a : M1 a = some (.inr (9, [.int md, .ref ea, .int (nI n)]))) (h_ea : M1 ea = some (mRc (G.1.1 103) cap g))  (hk : k < n) (hn : n ≤ cap) (hc : cap < 2 ^ 31) : Met l yJ2_get (ws_ yJ2_get cJ2_get 2 (some (.object "java/lang/Object"))) ({ frames := 2, cells := 0, slots := 0, locals := 43 }) (va_Pc [.ref a, .int (nI k)] (mU G A (fun M => M = M1))) (mQq G A (fun r M => r = (g k) ∧ M = M1)) 0 0 A := by
  refine mx_ofq (Or.inl ⟨_, rfl⟩) (by decide) (Nat.le_of_ble_eq_true rfl) ?_
  intro p e R s m av below meth c M H Q ls X hRf hRl hRc hRs hin eM w fin hl
  subst M
  have X : CallFix p m c cJ2_get 2 s av lw_all "java/util/ArrayList" := X
  have hx := X.1
  have hb := X.2.1
  have hl : lv_has ls 2 [(0, .ref a), (1, .int (nI k))] := hl
  have hRf : R.frames = 2 := hRf
  have hRl : R.locals = 43 := hRl
  have hRc : R.cells = 0 := hRc
  have hRs : R.slots = 0 := hRs
  have n_a_ea : a ≠ ea := fun e => by rw [e, h_ea] at h_a; simp at h_a
  generalize ([] : List Loc) = locs at w ⊢
  refine lv_iload_n hx hb dJ2_get_0 rfl (lv_at hl 1 rfl) ?_
  refine lv_aload_n hx hb dJ2_get_1 rfl (lv_at hl 0 rfl) ?_
  refine mx_get (T := TJ2) (v := .int (nI n)) X w in_J2 (ci := 9) rfl 2 (by decide) q172 (fun _ h => h) h_a rfl dJ2_get_2 ?_
  refine mx_bi w (va_runS (As := [.int (nI k), .int (nI n)]) (rest := []) X (jt_obj_ck l G A M1 k n  (by first | omega | assumption) (by first | omega | assumption)) (va_cwS 2 X.2.2.2.2 (lw_S q251 q252 q106 q253) rfl rfl rfl (by decide +kernel) ⟨by rw [hRf]; decide, by rw [hRl]; decide⟩) (mx_preS w rfl) rfl rfl hl.1 rfl (lv_room (Nat.le_of_ble_eq_true rfl)) dJ2_get_5 ⟨Nat.zero_le _, Nat.zero_le _⟩) (fun r M9 H locs hp w => ?_)
  obtain ⟨eR, eM⟩ := hp; subst M9; subst eR
  refine lv_pop hx hb dJ2_get_8 rfl ?_
  refine lv_aload_n hx hb dJ2_get_9 rfl (lv_at hl 0 rfl) ?_
  refine lv_iload_n hx hb dJ2_get_10 rfl (lv_at hl 1 rfl) ?_
  refine mx_bq w (va_runV (As := [.int (nI k)]) (rest := []) X (jt_al_ed l G A M1 a k md ea n cap g h_a h_ea (by first | omega | assumption) (by first | omega | assumption)) (cwV 1 X.2.2.2.2 (lw_V q257 q258 q259 q100 q260) rfl rfl rfl (by decide +kernel) ⟨by rw [hRf]; decide, by rw [hRl]; decide⟩) (mx_preV w rfl h_a rfl) rfl rfl hl.1 rfl (lv_room (Nat.le_of_ble_eq_true rfl)) dJ2_get_11 ⟨Nat.zero_le _, Nat.zero_le _⟩) (fun r M9 H locs hp w => ?_)
  obtain ⟨eR, eM⟩ := hp; subst M9; subst eR
  exact fin (g k) _ H locs ls 14 dJ2_get_14 ⟨rfl, rfl⟩ w
set_option maxHeartbeats 4000000 in
set_option maxRecDepth 100000 in
theorem jt_al_grow (l : Launch) (G : mg) (A : Nat → Prop) (M1 : mh) (a : Nat) (md : Int32) (n : Nat) (h_a : M1 a = some (.inr (9, [.int md, .ref (G.2 0), .int (nI n)])))   : Met l yJ2_grow_2 (ws_ yJ2_grow_2 cJ2_grow_2 4 (some (.array (.object "java/lang/Object")))) ({ frames := 1, cells := 1, slots := 10, locals := 21 }) (va_Pc [.ref a, .int (1 : Int32)] (mU G A (fun M => M = M1))) (mQq G A (fun r M => ∃ q : Nat, M1 q = none ∧ r = some q ∧ M = (va_up (va_up M1 q (some (mRc (G.1.1 103) 10 (fun _ => none)))) a (some (.inr (9, [.int md, .ref q, .int (nI n)])))))) 1 10 A := by
  refine mx_ofq (Or.inr ⟨_, rfl⟩) (by decide) (Nat.le_of_ble_eq_true rfl) ?_
  intro p e R s m av below meth c M H Q ls X hRf hRl hRc hRs hin eM w fin hl
  subst M
  have X : CallFix p m c cJ2_grow_2 4 s av lw_all "java/util/ArrayList" := X
  have hx := X.1
  have hb := X.2.1
  have hl : lv_has ls 4 [(0, .ref a), (1, .int (1 : Int32))] := hl
  have hRf : R.frames = 1 := hRf
  have hRl : R.locals = 21 := hRl
  have hRc : R.cells = 1 := hRc
  have hRs : R.slots = 10 := hRs
  generalize ([] : List Loc) = locs at w ⊢
  refine lv_aload_n hx hb dJ2_grow_2_0 rfl (lv_at hl 0 rfl) ?_
  refine mx_get (T := TJ2) (v := .ref (G.2 0)) X w in_J2 (ci := 9) rfl 1 (by decide) q169 (fun _ h => h) h_a rfl dJ2_grow_2_1 ?_
  refine mx_alen0 X w dJ2_grow_2_4 ?_
  refine lv_istore_n (lv' := [(2, .int (0 : Int32)), (0, .ref a), (1, .int (1 : Int32))]) hx hb dJ2_grow_2_5 rfl hl (by decide) rfl (fun ls hl => ?_)
  refine lv_iload_n hx hb dJ2_grow_2_6 rfl (lv_at hl 0 rfl) ?_
  refine lv_if_gt (tgt := 20) hx hb dJ2_grow_2_7 (by decide) (fun c_7 => absurd c_7 (by decide)) (fun c_7 => ?_)
  refine lv_aload_n hx hb dJ2_grow_2_10 rfl (lv_at hl 1 rfl) ?_
  refine mx_get (T := TJ2) (v := .ref (G.2 0)) X w in_J2 (ci := 9) rfl 1 (by decide) q169 (fun _ h => h) h_a rfl dJ2_grow_2_11 ?_
  refine mx_gets (v := .ref (G.2 0)) X w (C := "java/util/ArrayList") (by simp [kcZ]) q167 (fun _ h => h) dJ2_grow_2_14 ?_
  refine lv_acmp_eq (rx := some (G.2 0)) (ry := some (G.2 0)) (tgt := 45) hx hb dJ2_grow_2_17 (by decide) (fun c_17 => ?_) (fun c_17 => absurd (rfl) c_17)
  refine lv_aload_n hx hb dJ2_grow_2_45 rfl (lv_at hl 1 rfl) ?_
  refine lv_bipush (v := (10 : Int32)) hx hb dJ2_grow_2_46 (by decide) ?_
  refine lv_iload_n hx hb dJ2_grow_2_48 rfl (lv_at hl 2 rfl) ?_
  refine va_mmax hx hb (X.2.2.1.trans hl.1.symm) X.2.2.2.1 (X.2.2.2.2 _ q734) (X.2.2.2.2 _ q684) (X.2.2.2.2 _ q120) (X.2.2.2.2 _ q685) (by rw [hRf]; decide) (by rw [hRl]; exact Nat.le_of_ble_eq_true rfl) (Nat.zero_le _) (Nat.zero_le _) dJ2_grow_2_49 ?_
  refine mx_cast (z := (jmax (10 : Int32) (1 : Int32))) rfl ?_
  refine mx_cast (z := nI (10)) (by decide) ?_
  refine mx_newQ X w 3 q735 (by simp [kcArr]) rfl 10 rfl (by first | decide | omega) (by rw [hRc]; omega) (by rw [hRs]; omega) dJ2_grow_2_52 (fun q H nq_q w => ?_)
  have n_q_a : q ≠ a := fun e => by rw [e, h_a] at nq_q; cases nq_q
  have z_q : M1 q = none := by exact nq_q
  have w : mW G A s (va_up M1 q (some (mRc (G.1.1 103) 10 (fun _ => none)))) H locs := w
  have h_a : (va_up M1 q (some (mRc (G.1.1 103) 10 (fun _ => none)))) a = some (.inr (9, [.int md, .ref (G.2 0), .int (nI n)])) := (va_up_k (by first | assumption | exact Ne.symm (by assumption))).trans h_a
  have h_q : (va_up M1 q (some (mRc (G.1.1 103) 10 (fun _ => none)))) q = some (mRc (G.1.1 103) 10 (fun _ => none)) := va_up_s
  refine lv_dup_x1 hx hb dJ2_grow_2_55 rfl rfl ?_
  refine mx_put (T := TJ2) X w in_J2 tyJ2 tyJ2_ok nmJ2 (ci := 9) rfl 1 (by decide) q169 (fun _ h => h) rfl (v := .ref q) rfl rfl h_a (show 1 < 3 by decide) dJ2_grow_2_56 (fun H locs w => ?_)
  have w : mW G A s (va_up (va_up M1 q (some (mRc (G.1.1 103) 10 (fun _ => none)))) a (some (.inr (9, [.int md, .ref q, .int (nI n)])))) H locs := w
  have h_q : (va_up (va_up M1 q (some (mRc (G.1.1 103) 10 (fun _ => none)))) a (some (.inr (9, [.int md, .ref q, .int (nI n)])))) q = some (mRc (G.1.1 103) 10 (fun _ => none)) := (va_up_k (by first | assumption | exact Ne.symm (by assumption))).trans h_q
  have h_a : (va_up (va_up M1 q (some (mRc (G.1.1 103) 10 (fun _ => none)))) a (some (.inr (9, [.int md, .ref q, .int (nI n)])))) a = some (.inr (9, [.int md, .ref q, .int (nI n)])) := va_up_s
  exact fin (some q) _ H locs ls 59 dJ2_grow_2_59 ⟨q, z_q, rfl, rfl⟩ w
set_option maxHeartbeats 4000000 in
set_option maxRecDepth 100000 in
theorem jt_al_grow0 (l : Launch) (G : mg) (A : Nat → Prop) (M1 : mh) (a : Nat) (md : Int32) (h_a : M1 a = some (.inr (9, [.int md, .ref (G.2 0), .int (0 : Int32)])))   : Met l yJ2_grow (ws_ yJ2_grow cJ2_grow 1 (some (.array (.object "java/lang/Object")))) ({ frames := 2, cells := 1, slots := 10, locals := 44 }) (va_Pc [.ref a] (mU G A (fun M => M = M1))) (mQq G A (fun r M => ∃ q_7 : Nat, M1 q_7 = none ∧ r = some q_7 ∧ M = (va_up (va_up M1 q_7 (some (mRc (G.1.1 103) 10 (fun _ => none)))) a (some (.inr (9, [.int md, .ref q_7, .int (0 : Int32)])))))) 1 10 A := by
  refine mx_ofq (Or.inr ⟨_, rfl⟩) (by decide) (Nat.le_of_ble_eq_true rfl) ?_
  intro p e R s m av below meth c M H Q ls X hRf hRl hRc hRs hin eM w fin hl
  subst M
  have X : CallFix p m c cJ2_grow 1 s av lw_all "java/util/ArrayList" := X
  have hx := X.1
  have hb := X.2.1
  have hl : lv_has ls 1 [(0, .ref a)] := hl
  have hRf : R.frames = 2 := hRf
  have hRl : R.locals = 44 := hRl
  have hRc : R.cells = 1 := hRc
  have hRs : R.slots = 10 := hRs
  generalize ([] : List Loc) = locs at w ⊢
  refine lv_aload_n hx hb dJ2_grow_0 rfl (lv_at hl 0 rfl) ?_
  refine lv_aload_n hx hb dJ2_grow_1 rfl (lv_at hl 0 rfl) ?_
  refine mx_get (T := TJ2) (v := .int (0 : Int32)) X w in_J2 (ci := 9) rfl 2 (by decide) q172 (fun _ h => h) h_a rfl dJ2_grow_2 ?_
  refine lv_iconst (v := (1 : Int32)) hx hb dJ2_grow_5 (by decide) ?_
  refine lv_iadd hx hb dJ2_grow_6 ?_
  refine mx_cast (z := (1 : Int32)) (by decide) ?_
  refine mx_bq w (va_runV (As := [.int (1 : Int32)]) (rest := []) X (jt_al_grow l G A M1 a md 0 h_a ) (cwV 1 X.2.2.2.2 (lw_V q676 q678 qs6 q100 q679) rfl rfl rfl (by decide +kernel) ⟨by rw [hRf]; decide, by rw [hRl]; decide⟩) (mx_preV w rfl h_a rfl) rfl rfl hl.1 rfl (lv_room (Nat.le_of_ble_eq_true rfl)) dJ2_grow_7 ⟨by rw [hRc]; omega, by rw [hRs]; omega⟩) (fun r M9 H locs hp w => ?_)
  obtain ⟨q_7, z_q_7, eR, eM⟩ := hp; subst M9; subst eR
  have nq_q_7 := z_q_7
  have n_q_7_a : q_7 ≠ a := fun e => by rw [e, h_a] at nq_q_7; cases nq_q_7
  have z_q_7 : M1 q_7 = none := by exact nq_q_7
  have h_a : (va_up M1 q_7 (some (mRc (G.1.1 103) 10 (fun _ => none)))) a = some (.inr (9, [.int md, .ref (G.2 0), .int (0 : Int32)])) := (va_up_k (by first | assumption | exact Ne.symm (by assumption))).trans h_a
  have h_q_7 : (va_up M1 q_7 (some (mRc (G.1.1 103) 10 (fun _ => none)))) q_7 = some (mRc (G.1.1 103) 10 (fun _ => none)) := va_up_s
  have h_q_7 : (va_up (va_up M1 q_7 (some (mRc (G.1.1 103) 10 (fun _ => none)))) a (some (.inr (9, [.int md, .ref q_7, .int (0 : Int32)])))) q_7 = some (mRc (G.1.1 103) 10 (fun _ => none)) := (va_up_k (by first | assumption | exact Ne.symm (by assumption))).trans h_q_7
  have h_a : (va_up (va_up M1 q_7 (some (mRc (G.1.1 103) 10 (fun _ => none)))) a (some (.inr (9, [.int md, .ref q_7, .int (0 : Int32)])))) a = some (.inr (9, [.int md, .ref q_7, .int (0 : Int32)])) := va_up_s
  have w : mW G A s (va_up (va_up M1 q_7 (some (mRc (G.1.1 103) 10 (fun _ => none)))) a (some (.inr (9, [.int md, .ref q_7, .int (0 : Int32)])))) H locs := w
  exact fin (some q_7) _ H locs ls 10 dJ2_grow_10 ⟨q_7, z_q_7, rfl, rfl⟩ w
set_option maxHeartbeats 4000000 in
set_option maxRecDepth 100000 in
theorem jt_al_addR (l : Launch) (G : mg) (A : Nat → Prop) (M1 : mh) (a : Nat) (x : Nat) (ea : Nat) (n : Nat) (md : Int32) (cap : Nat) (g : Nat → Option Nat) (h_a : M1 a = some (.inr (9, [.int md, .ref ea, .int (nI n)]))) (h_ea : M1 ea = some (mRc (G.1.1 103) cap g)) (ha_x : anyAt G M1 x) (hn : n < cap) (hc : cap < 2 ^ 31) : Met l yJ2_add_2 (ws_ yJ2_add_2 cJ2_add_2 4 (none)) ({ frames := 0, cells := 0, slots := 0, locals := 0 }) (va_Pc [.ref a, .ref x, .ref ea, .int (nI n)] (mU G A (fun M => M = M1))) (mQv G A (fun M => M = (va_up (va_up M1 ea (some (mRc (G.1.1 103) cap (va_up g n (some x))))) a (some (.inr (9, [.int md, .ref ea, .int (nI (n + 1))])))))) 0 0 A := by
  refine mx_ofv (by decide) (Nat.le_of_ble_eq_true rfl) ?_
  intro p e R s m av below meth c M H Q ls X hRf hRl hRc hRs hin eM w fin hl
  subst M
  have X : CallFix p m c cJ2_add_2 4 s av lw_all "java/util/ArrayList" := X
  have hx := X.1
  have hb := X.2.1
  have hl : lv_has ls 4 [(0, .ref a), (1, .ref x), (2, .ref ea), (3, .int (nI n))] := hl
  have hRf : R.frames = 0 := hRf
  have hRl : R.locals = 0 := hRl
  have hRc : R.cells = 0 := hRc
  have hRs : R.slots = 0 := hRs
  have n_a_ea : a ≠ ea := fun e => by rw [e, h_ea] at h_a; simp at h_a
  generalize ([] : List Loc) = locs at w ⊢
  refine lv_iload_n hx hb dJ2_add_2_0 rfl (lv_at hl 3 rfl) ?_
  refine lv_aload_n hx hb dJ2_add_2_1 rfl (lv_at hl 2 rfl) ?_
  refine mx_alen X w 3 h_ea rfl dJ2_add_2_2 ?_
  refine mx_nne (u := n) (v := cap) (tgt := 11) hx hb rfl rfl (by omega) (by omega) dJ2_add_2_3 (by decide) (fun c_3 => ?_) (fun c_3 => absurd c_3 (by omega))
  refine lv_aload_n hx hb dJ2_add_2_11 rfl (lv_at hl 2 rfl) ?_
  refine lv_iload_n hx hb dJ2_add_2_12 rfl (lv_at hl 3 rfl) ?_
  refine lv_aload_n hx hb dJ2_add_2_13 rfl (lv_at hl 1 rfl) ?_
  refine mx_aastM X w 3 h_ea rfl (w.anyAt ha_x) n (by first | omega | decide) (by omega) dJ2_add_2_14 (fun H locs w => ?_)
  have w : mW G A s (va_up M1 ea (some (mRc (G.1.1 103) cap (va_up g n (some x))))) H locs := w
  have ha_x : anyAt G (va_up M1 ea (some (mRc (G.1.1 103) cap (va_up g n (some x))))) x := ha_x.up_a h_ea
  have h_a : (va_up M1 ea (some (mRc (G.1.1 103) cap (va_up g n (some x))))) a = some (.inr (9, [.int md, .ref ea, .int (nI n)])) := (va_up_k (by first | assumption | exact Ne.symm (by assumption))).trans h_a
  have h_ea : (va_up M1 ea (some (mRc (G.1.1 103) cap (va_up g n (some x))))) ea = some (mRc (G.1.1 103) cap (va_up g n (some x))) := va_up_s
  refine lv_aload_n hx hb dJ2_add_2_15 rfl (lv_at hl 0 rfl) ?_
  refine lv_iload_n hx hb dJ2_add_2_16 rfl (lv_at hl 3 rfl) ?_
  refine lv_iconst (v := (1 : Int32)) hx hb dJ2_add_2_17 (by decide) ?_
  refine mx_nadd (u := n) (v := 1) hx hb rfl rfl dJ2_add_2_18 ?_
  refine mx_put (T := TJ2) X w in_J2 tyJ2 tyJ2_ok nmJ2 (ci := 9) rfl 2 (by decide) q172 (fun _ h => h) rfl (v := .int (nI (n + 1))) rfl rfl h_a (show 2 < 3 by decide) dJ2_add_2_19 (fun H locs w => ?_)
  have w : mW G A s (va_up (va_up M1 ea (some (mRc (G.1.1 103) cap (va_up g n (some x))))) a (some (.inr (9, [.int md, .ref ea, .int (nI (n + 1))])))) H locs := w
  have ha_x : anyAt G (va_up (va_up M1 ea (some (mRc (G.1.1 103) cap (va_up g n (some x))))) a (some (.inr (9, [.int md, .ref ea, .int (nI (n + 1))])))) x := ha_x.up_o h_a
  have h_ea : (va_up (va_up M1 ea (some (mRc (G.1.1 103) cap (va_up g n (some x))))) a (some (.inr (9, [.int md, .ref ea, .int (nI (n + 1))])))) ea = some (mRc (G.1.1 103) cap (va_up g n (some x))) := (va_up_k (by first | assumption | exact Ne.symm (by assumption))).trans h_ea
  have h_a : (va_up (va_up M1 ea (some (mRc (G.1.1 103) cap (va_up g n (some x))))) a (some (.inr (9, [.int md, .ref ea, .int (nI (n + 1))])))) a = some (.inr (9, [.int md, .ref ea, .int (nI (n + 1))])) := va_up_s
  exact fin _ H locs ls 22 dJ2_add_2_22 rfl w
set_option maxHeartbeats 4000000 in
set_option maxRecDepth 100000 in
theorem jt_al_add0 (l : Launch) (G : mg) (A : Nat → Prop) (M1 : mh) (a : Nat) (x : Nat) (md : Int32) (h_a : M1 a = some (.inr (9, [.int md, .ref (G.2 0), .int (0 : Int32)]))) (ha_x : anyAt G M1 x)  : Met l yJ2_add_2 (ws_ yJ2_add_2 cJ2_add_2 4 (none)) ({ frames := 3, cells := 1, slots := 10, locals := 64 }) (va_Pc [.ref a, .ref x, .ref (G.2 0), .int (0 : Int32)] (mU G A (fun M => M = M1))) (mQv G A (fun M => ∃ q_7_7 : Nat, M1 q_7_7 = none ∧ M = (va_up (va_up (va_up (va_up M1 q_7_7 (some (mRc (G.1.1 103) 10 (fun _ => none)))) a (some (.inr (9, [.int md, .ref q_7_7, .int (0 : Int32)])))) q_7_7 (some (mRc (G.1.1 103) 10 (va_up (fun _ => none) 0 (some x))))) a (some (.inr (9, [.int md, .ref q_7_7, .int (1 : Int32)])))))) 1 10 A := by
  refine mx_ofv (by decide) (Nat.le_of_ble_eq_true rfl) ?_
  intro p e R s m av below meth c M H Q ls X hRf hRl hRc hRs hin eM w fin hl
  subst M
  have X : CallFix p m c cJ2_add_2 4 s av lw_all "java/util/ArrayList" := X
  have hx := X.1
  have hb := X.2.1
  have hl : lv_has ls 4 [(0, .ref a), (1, .ref x), (2, .ref (G.2 0)), (3, .int (0 : Int32))] := hl
  have hRf : R.frames = 3 := hRf
  have hRl : R.locals = 64 := hRl
  have hRc : R.cells = 1 := hRc
  have hRs : R.slots = 10 := hRs
  generalize ([] : List Loc) = locs at w ⊢
  refine lv_iload_n hx hb dJ2_add_2_0 rfl (lv_at hl 3 rfl) ?_
  refine lv_aload_n hx hb dJ2_add_2_1 rfl (lv_at hl 2 rfl) ?_
  refine mx_alen0 X w dJ2_add_2_2 ?_
  refine lv_icmp_ne (tgt := 11) hx hb dJ2_add_2_3 (by decide) (fun c_3 => absurd (by decide) c_3) (fun c_3 => ?_)
  refine lv_aload_n hx hb dJ2_add_2_6 rfl (lv_at hl 0 rfl) ?_
  refine mx_bq w (va_runV (As := []) (rest := []) X (jt_al_grow0 l G A M1 a md h_a ) (cwV 0 X.2.2.2.2 (lw_V q672 q674 qs5 q100 q675) rfl rfl rfl (by decide +kernel) ⟨by rw [hRf]; decide, by rw [hRl]; decide⟩) (mx_preV w rfl h_a rfl) rfl rfl hl.1 rfl (lv_room (Nat.le_of_ble_eq_true rfl)) dJ2_add_2_7 ⟨by rw [hRc]; omega, by rw [hRs]; omega⟩) (fun r M9 H locs hp w => ?_)
  obtain ⟨q_7_7, z_q_7_7, eR, eM⟩ := hp; subst M9; subst eR
  have nq_q_7_7 := z_q_7_7
  have n_q_7_7_a : q_7_7 ≠ a := fun e => by rw [e, h_a] at nq_q_7_7; cases nq_q_7_7
  have z_q_7_7 : M1 q_7_7 = none := by exact nq_q_7_7
  have ha_x : anyAt G (va_up M1 q_7_7 (some (mRc (G.1.1 103) 10 (fun _ => none)))) x := ha_x.up_n nq_q_7_7
  have h_a : (va_up M1 q_7_7 (some (mRc (G.1.1 103) 10 (fun _ => none)))) a = some (.inr (9, [.int md, .ref (G.2 0), .int (0 : Int32)])) := (va_up_k (by first | assumption | exact Ne.symm (by assumption))).trans h_a
  have h_q_7_7 : (va_up M1 q_7_7 (some (mRc (G.1.1 103) 10 (fun _ => none)))) q_7_7 = some (mRc (G.1.1 103) 10 (fun _ => none)) := va_up_s
  have ha_x : anyAt G (va_up (va_up M1 q_7_7 (some (mRc (G.1.1 103) 10 (fun _ => none)))) a (some (.inr (9, [.int md, .ref q_7_7, .int (0 : Int32)])))) x := ha_x.up_o h_a
  have h_q_7_7 : (va_up (va_up M1 q_7_7 (some (mRc (G.1.1 103) 10 (fun _ => none)))) a (some (.inr (9, [.int md, .ref q_7_7, .int (0 : Int32)])))) q_7_7 = some (mRc (G.1.1 103) 10 (fun _ => none)) := (va_up_k (by first | assumption | exact Ne.symm (by assumption))).trans h_q_7_7
  have h_a : (va_up (va_up M1 q_7_7 (some (mRc (G.1.1 103) 10 (fun _ => none)))) a (some (.inr (9, [.int md, .ref q_7_7, .int (0 : Int32)])))) a = some (.inr (9, [.int md, .ref q_7_7, .int (0 : Int32)])) := va_up_s
  have w : mW G A s (va_up (va_up M1 q_7_7 (some (mRc (G.1.1 103) 10 (fun _ => none)))) a (some (.inr (9, [.int md, .ref q_7_7, .int (0 : Int32)])))) H locs := w
  refine lv_astore_n (lv' := [(2, .ref q_7_7), (0, .ref a), (1, .ref x), (3, .int (0 : Int32))]) hx hb dJ2_add_2_10 rfl hl (by decide) rfl (fun ls hl => ?_)
  refine lv_aload_n hx hb dJ2_add_2_11 rfl (lv_at hl 0 rfl) ?_
  refine lv_iload_n hx hb dJ2_add_2_12 rfl (lv_at hl 3 rfl) ?_
  refine lv_aload_n hx hb dJ2_add_2_13 rfl (lv_at hl 2 rfl) ?_
  refine mx_aastM X w 3 h_q_7_7 rfl (w.anyAt ha_x) 0 (by first | omega | decide) (by omega) dJ2_add_2_14 (fun H locs w => ?_)
  have w : mW G A s (va_up (va_up (va_up M1 q_7_7 (some (mRc (G.1.1 103) 10 (fun _ => none)))) a (some (.inr (9, [.int md, .ref q_7_7, .int (0 : Int32)])))) q_7_7 (some (mRc (G.1.1 103) 10 (va_up (fun _ => none) 0 (some x))))) H locs := w
  have ha_x : anyAt G (va_up (va_up (va_up M1 q_7_7 (some (mRc (G.1.1 103) 10 (fun _ => none)))) a (some (.inr (9, [.int md, .ref q_7_7, .int (0 : Int32)])))) q_7_7 (some (mRc (G.1.1 103) 10 (va_up (fun _ => none) 0 (some x))))) x := ha_x.up_a h_q_7_7
  have h_a : (va_up (va_up (va_up M1 q_7_7 (some (mRc (G.1.1 103) 10 (fun _ => none)))) a (some (.inr (9, [.int md, .ref q_7_7, .int (0 : Int32)])))) q_7_7 (some (mRc (G.1.1 103) 10 (va_up (fun _ => none) 0 (some x))))) a = some (.inr (9, [.int md, .ref q_7_7, .int (0 : Int32)])) := (va_up_k (by first | assumption | exact Ne.symm (by assumption))).trans h_a
  have h_q_7_7 : (va_up (va_up (va_up M1 q_7_7 (some (mRc (G.1.1 103) 10 (fun _ => none)))) a (some (.inr (9, [.int md, .ref q_7_7, .int (0 : Int32)])))) q_7_7 (some (mRc (G.1.1 103) 10 (va_up (fun _ => none) 0 (some x))))) q_7_7 = some (mRc (G.1.1 103) 10 (va_up (fun _ => none) 0 (some x))) := va_up_s
  refine lv_aload_n hx hb dJ2_add_2_15 rfl (lv_at hl 1 rfl) ?_
  refine lv_iload_n hx hb dJ2_add_2_16 rfl (lv_at hl 3 rfl) ?_
  refine lv_iconst (v := (1 : Int32)) hx hb dJ2_add_2_17 (by decide) ?_
  refine lv_iadd hx hb dJ2_add_2_18 ?_
  refine mx_cast (z := (1 : Int32)) (by decide) ?_
  refine mx_put (T := TJ2) X w in_J2 tyJ2 tyJ2_ok nmJ2 (ci := 9) rfl 2 (by decide) q172 (fun _ h => h) rfl (v := .int (1 : Int32)) rfl rfl h_a (show 2 < 3 by decide) dJ2_add_2_19 (fun H locs w => ?_)
  have w : mW G A s (va_up (va_up (va_up (va_up M1 q_7_7 (some (mRc (G.1.1 103) 10 (fun _ => none)))) a (some (.inr (9, [.int md, .ref q_7_7, .int (0 : Int32)])))) q_7_7 (some (mRc (G.1.1 103) 10 (va_up (fun _ => none) 0 (some x))))) a (some (.inr (9, [.int md, .ref q_7_7, .int (1 : Int32)])))) H locs := w
  have ha_x : anyAt G (va_up (va_up (va_up (va_up M1 q_7_7 (some (mRc (G.1.1 103) 10 (fun _ => none)))) a (some (.inr (9, [.int md, .ref q_7_7, .int (0 : Int32)])))) q_7_7 (some (mRc (G.1.1 103) 10 (va_up (fun _ => none) 0 (some x))))) a (some (.inr (9, [.int md, .ref q_7_7, .int (1 : Int32)])))) x := ha_x.up_o h_a
  have h_q_7_7 : (va_up (va_up (va_up (va_up M1 q_7_7 (some (mRc (G.1.1 103) 10 (fun _ => none)))) a (some (.inr (9, [.int md, .ref q_7_7, .int (0 : Int32)])))) q_7_7 (some (mRc (G.1.1 103) 10 (va_up (fun _ => none) 0 (some x))))) a (some (.inr (9, [.int md, .ref q_7_7, .int (1 : Int32)])))) q_7_7 = some (mRc (G.1.1 103) 10 (va_up (fun _ => none) 0 (some x))) := (va_up_k (by first | assumption | exact Ne.symm (by assumption))).trans h_q_7_7
  have h_a : (va_up (va_up (va_up (va_up M1 q_7_7 (some (mRc (G.1.1 103) 10 (fun _ => none)))) a (some (.inr (9, [.int md, .ref q_7_7, .int (0 : Int32)])))) q_7_7 (some (mRc (G.1.1 103) 10 (va_up (fun _ => none) 0 (some x))))) a (some (.inr (9, [.int md, .ref q_7_7, .int (1 : Int32)])))) a = some (.inr (9, [.int md, .ref q_7_7, .int (1 : Int32)])) := va_up_s
  exact fin _ H locs ls 22 dJ2_add_2_22 ⟨q_7_7, z_q_7_7, rfl⟩ w
set_option maxHeartbeats 4000000 in
set_option maxRecDepth 100000 in
theorem jt_al_add (l : Launch) (G : mg) (A : Nat → Prop) (M1 : mh) (a : Nat) (x : Nat) (md : Int32) (ea : Nat) (n : Nat) (cap : Nat) (g : Nat → Option Nat) (h_a : M1 a = some (.inr (9, [.int md, .ref ea, .int (nI n)]))) (h_ea : M1 ea = some (mRc (G.1.1 103) cap g)) (ha_x : anyAt G M1 x) (hn : n < cap) (hc : cap < 2 ^ 31) : Met l yJ2_add (ws_ yJ2_add cJ2_add 2 (some .boolean)) ({ frames := 1, cells := 0, slots := 0, locals := 23 }) (va_Pc [.ref a, .ref x] (mU G A (fun M => M = M1))) (mQi G A (fun r M => r = bI true ∧ M = (va_up (va_up (va_up M1 a (some (.inr (9, [.int (md + (1 : Int32)), .ref ea, .int (nI n)])))) ea (some (mRc (G.1.1 103) cap (va_up g n (some x))))) a (some (.inr (9, [.int (md + (1 : Int32)), .ref ea, .int (nI (n + 1))])))))) 0 0 A := by
  refine mx_ofz (by decide) (Nat.le_of_ble_eq_true rfl) ?_
  intro p e R s m av below meth c M H Q ls X hRf hRl hRc hRs hin eM w fin hl
  subst M
  have X : CallFix p m c cJ2_add 2 s av lw_all "java/util/ArrayList" := X
  have hx := X.1
  have hb := X.2.1
  have hl : lv_has ls 2 [(0, .ref a), (1, .ref x)] := hl
  have hRf : R.frames = 1 := hRf
  have hRl : R.locals = 23 := hRl
  have hRc : R.cells = 0 := hRc
  have hRs : R.slots = 0 := hRs
  have n_a_ea : a ≠ ea := fun e => by rw [e, h_ea] at h_a; simp at h_a
  generalize ([] : List Loc) = locs at w ⊢
  refine lv_aload_n hx hb dJ2_add_0 rfl (lv_at hl 0 rfl) ?_
  refine lv_dup hx hb dJ2_add_1 rfl ?_
  refine mx_get (T := TJ2) (v := .int md) X w in_J2 (ci := 9) rfl 0 (by decide) q176 (fun x h => u_same (X.2.2.2.2 _ q175) x h) h_a rfl dJ2_add_2 ?_
  refine lv_iconst (v := (1 : Int32)) hx hb dJ2_add_5 (by decide) ?_
  refine lv_iadd hx hb dJ2_add_6 ?_
  refine mx_put (T := TJ2) X w in_J2 tyJ2 tyJ2_ok nmJ2 (ci := 9) rfl 0 (by decide) q176 (fun x h => u_same (X.2.2.2.2 _ q175) x h) rfl (v := .int (md + (1 : Int32))) rfl rfl h_a (show 0 < 3 by decide) dJ2_add_7 (fun H locs w => ?_)
  have w : mW G A s (va_up M1 a (some (.inr (9, [.int (md + (1 : Int32)), .ref ea, .int (nI n)])))) H locs := w
  have ha_x : anyAt G (va_up M1 a (some (.inr (9, [.int (md + (1 : Int32)), .ref ea, .int (nI n)])))) x := ha_x.up_o h_a
  have h_ea : (va_up M1 a (some (.inr (9, [.int (md + (1 : Int32)), .ref ea, .int (nI n)])))) ea = some (mRc (G.1.1 103) cap g) := (va_up_k (by first | assumption | exact Ne.symm (by assumption))).trans h_ea
  have h_a : (va_up M1 a (some (.inr (9, [.int (md + (1 : Int32)), .ref ea, .int (nI n)])))) a = some (.inr (9, [.int (md + (1 : Int32)), .ref ea, .int (nI n)])) := va_up_s
  refine lv_aload_n hx hb dJ2_add_10 rfl (lv_at hl 0 rfl) ?_
  refine lv_aload_n hx hb dJ2_add_11 rfl (lv_at hl 1 rfl) ?_
  refine lv_aload_n hx hb dJ2_add_12 rfl (lv_at hl 0 rfl) ?_
  refine mx_get (T := TJ2) (v := .ref ea) X w in_J2 (ci := 9) rfl 1 (by decide) q169 (fun _ h => h) h_a rfl dJ2_add_13 ?_
  refine lv_aload_n hx hb dJ2_add_16 rfl (lv_at hl 0 rfl) ?_
  refine mx_get (T := TJ2) (v := .int (nI n)) X w in_J2 (ci := 9) rfl 2 (by decide) q172 (fun _ h => h) h_a rfl dJ2_add_17 ?_
  refine mx_bv w (va_runV (As := [.ref x, .ref ea, .int (nI n)]) (rest := []) X (jt_al_addR l G A (va_up M1 a (some (.inr (9, [.int (md + (1 : Int32)), .ref ea, .int (nI n)])))) a x ea n (md + (1 : Int32)) cap g h_a h_ea ha_x (by first | omega | assumption) (by first | omega | assumption)) (cwV 3 X.2.2.2.2 (lw_V q668 q670 qs4 q100 q671) rfl rfl rfl (by decide +kernel) ⟨by rw [hRf]; decide, by rw [hRl]; decide⟩) (mx_preV w rfl h_a rfl) rfl rfl hl.1 rfl (lv_room (Nat.le_of_ble_eq_true rfl)) dJ2_add_20 ⟨Nat.zero_le _, Nat.zero_le _⟩) (fun M9 H locs hp w => ?_)
  have eM := hp; subst M9
  have ha_x : anyAt G (va_up (va_up M1 a (some (.inr (9, [.int (md + (1 : Int32)), .ref ea, .int (nI n)])))) ea (some (mRc (G.1.1 103) cap (va_up g n (some x))))) x := ha_x.up_a h_ea
  have h_a : (va_up (va_up M1 a (some (.inr (9, [.int (md + (1 : Int32)), .ref ea, .int (nI n)])))) ea (some (mRc (G.1.1 103) cap (va_up g n (some x))))) a = some (.inr (9, [.int (md + (1 : Int32)), .ref ea, .int (nI n)])) := (va_up_k (by first | assumption | exact Ne.symm (by assumption))).trans h_a
  have h_ea : (va_up (va_up M1 a (some (.inr (9, [.int (md + (1 : Int32)), .ref ea, .int (nI n)])))) ea (some (mRc (G.1.1 103) cap (va_up g n (some x))))) ea = some (mRc (G.1.1 103) cap (va_up g n (some x))) := va_up_s
  have ha_x : anyAt G (va_up (va_up (va_up M1 a (some (.inr (9, [.int (md + (1 : Int32)), .ref ea, .int (nI n)])))) ea (some (mRc (G.1.1 103) cap (va_up g n (some x))))) a (some (.inr (9, [.int (md + (1 : Int32)), .ref ea, .int (nI (n + 1))])))) x := ha_x.up_o h_a
  have h_ea : (va_up (va_up (va_up M1 a (some (.inr (9, [.int (md + (1 : Int32)), .ref ea, .int (nI n)])))) ea (some (mRc (G.1.1 103) cap (va_up g n (some x))))) a (some (.inr (9, [.int (md + (1 : Int32)), .ref ea, .int (nI (n + 1))])))) ea = some (mRc (G.1.1 103) cap (va_up g n (some x))) := (va_up_k (by first | assumption | exact Ne.symm (by assumption))).trans h_ea
  have h_a : (va_up (va_up (va_up M1 a (some (.inr (9, [.int (md + (1 : Int32)), .ref ea, .int (nI n)])))) ea (some (mRc (G.1.1 103) cap (va_up g n (some x))))) a (some (.inr (9, [.int (md + (1 : Int32)), .ref ea, .int (nI (n + 1))])))) a = some (.inr (9, [.int (md + (1 : Int32)), .ref ea, .int (nI (n + 1))])) := va_up_s
  have w : mW G A s (va_up (va_up (va_up M1 a (some (.inr (9, [.int (md + (1 : Int32)), .ref ea, .int (nI n)])))) ea (some (mRc (G.1.1 103) cap (va_up g n (some x))))) a (some (.inr (9, [.int (md + (1 : Int32)), .ref ea, .int (nI (n + 1))])))) H locs := w
  refine lv_iconst (v := (1 : Int32)) hx hb dJ2_add_23 (by decide) ?_
  exact fin true _ H locs ls 24 dJ2_add_24 ⟨rfl, rfl⟩ w
set_option maxHeartbeats 4000000 in
set_option maxRecDepth 100000 in
theorem jt_al_addE (l : Launch) (G : mg) (A : Nat → Prop) (M1 : mh) (a : Nat) (x : Nat) (md : Int32) (h_a : M1 a = some (.inr (9, [.int md, .ref (G.2 0), .int (0 : Int32)]))) (ha_x : anyAt G M1 x)  : Met l yJ2_add (ws_ yJ2_add cJ2_add 2 (some .boolean)) ({ frames := 4, cells := 1, slots := 10, locals := 87 }) (va_Pc [.ref a, .ref x] (mU G A (fun M => M = M1))) (mQi G A (fun r M => ∃ q_7_7_20 : Nat, M1 q_7_7_20 = none ∧ r = bI true ∧ M = (va_up (va_up (va_up (va_up (va_up M1 a (some (.inr (9, [.int (md + (1 : Int32)), .ref (G.2 0), .int (0 : Int32)])))) q_7_7_20 (some (mRc (G.1.1 103) 10 (fun _ => none)))) a (some (.inr (9, [.int (md + (1 : Int32)), .ref q_7_7_20, .int (0 : Int32)])))) q_7_7_20 (some (mRc (G.1.1 103) 10 (va_up (fun _ => none) 0 (some x))))) a (some (.inr (9, [.int (md + (1 : Int32)), .ref q_7_7_20, .int (1 : Int32)])))))) 1 10 A := by
  refine mx_ofz (by decide) (Nat.le_of_ble_eq_true rfl) ?_
  intro p e R s m av below meth c M H Q ls X hRf hRl hRc hRs hin eM w fin hl
  subst M
  have X : CallFix p m c cJ2_add 2 s av lw_all "java/util/ArrayList" := X
  have hx := X.1
  have hb := X.2.1
  have hl : lv_has ls 2 [(0, .ref a), (1, .ref x)] := hl
  have hRf : R.frames = 4 := hRf
  have hRl : R.locals = 87 := hRl
  have hRc : R.cells = 1 := hRc
  have hRs : R.slots = 10 := hRs
  generalize ([] : List Loc) = locs at w ⊢
  refine lv_aload_n hx hb dJ2_add_0 rfl (lv_at hl 0 rfl) ?_
  refine lv_dup hx hb dJ2_add_1 rfl ?_
  refine mx_get (T := TJ2) (v := .int md) X w in_J2 (ci := 9) rfl 0 (by decide) q176 (fun x h => u_same (X.2.2.2.2 _ q175) x h) h_a rfl dJ2_add_2 ?_
  refine lv_iconst (v := (1 : Int32)) hx hb dJ2_add_5 (by decide) ?_
  refine lv_iadd hx hb dJ2_add_6 ?_
  refine mx_put (T := TJ2) X w in_J2 tyJ2 tyJ2_ok nmJ2 (ci := 9) rfl 0 (by decide) q176 (fun x h => u_same (X.2.2.2.2 _ q175) x h) rfl (v := .int (md + (1 : Int32))) rfl rfl h_a (show 0 < 3 by decide) dJ2_add_7 (fun H locs w => ?_)
  have w : mW G A s (va_up M1 a (some (.inr (9, [.int (md + (1 : Int32)), .ref (G.2 0), .int (0 : Int32)])))) H locs := w
  have ha_x : anyAt G (va_up M1 a (some (.inr (9, [.int (md + (1 : Int32)), .ref (G.2 0), .int (0 : Int32)])))) x := ha_x.up_o h_a
  have h_a : (va_up M1 a (some (.inr (9, [.int (md + (1 : Int32)), .ref (G.2 0), .int (0 : Int32)])))) a = some (.inr (9, [.int (md + (1 : Int32)), .ref (G.2 0), .int (0 : Int32)])) := va_up_s
  refine lv_aload_n hx hb dJ2_add_10 rfl (lv_at hl 0 rfl) ?_
  refine lv_aload_n hx hb dJ2_add_11 rfl (lv_at hl 1 rfl) ?_
  refine lv_aload_n hx hb dJ2_add_12 rfl (lv_at hl 0 rfl) ?_
  refine mx_get (T := TJ2) (v := .ref (G.2 0)) X w in_J2 (ci := 9) rfl 1 (by decide) q169 (fun _ h => h) h_a rfl dJ2_add_13 ?_
  refine lv_aload_n hx hb dJ2_add_16 rfl (lv_at hl 0 rfl) ?_
  refine mx_get (T := TJ2) (v := .int (0 : Int32)) X w in_J2 (ci := 9) rfl 2 (by decide) q172 (fun _ h => h) h_a rfl dJ2_add_17 ?_
  refine mx_bv w (va_runV (As := [.ref x, .ref (G.2 0), .int (0 : Int32)]) (rest := []) X (jt_al_add0 l G A (va_up M1 a (some (.inr (9, [.int (md + (1 : Int32)), .ref (G.2 0), .int (0 : Int32)])))) a x (md + (1 : Int32)) h_a ha_x ) (cwV 3 X.2.2.2.2 (lw_V q668 q670 qs4 q100 q671) rfl rfl rfl (by decide +kernel) ⟨by rw [hRf]; decide, by rw [hRl]; decide⟩) (mx_preV w rfl h_a rfl) rfl rfl hl.1 rfl (lv_room (Nat.le_of_ble_eq_true rfl)) dJ2_add_20 ⟨by rw [hRc]; omega, by rw [hRs]; omega⟩) (fun M9 H locs hp w => ?_)
  obtain ⟨q_7_7_20, z_q_7_7_20, eM⟩ := hp; subst M9
  have nq_q_7_7_20 := z_q_7_7_20
  have n_q_7_7_20_a : q_7_7_20 ≠ a := fun e => by rw [e, h_a] at nq_q_7_7_20; cases nq_q_7_7_20
  have z_q_7_7_20 : M1 q_7_7_20 = none := by simpa only [va_up, n_q_7_7_20_a, if_false] using nq_q_7_7_20
  have ha_x : anyAt G (va_up (va_up M1 a (some (.inr (9, [.int (md + (1 : Int32)), .ref (G.2 0), .int (0 : Int32)])))) q_7_7_20 (some (mRc (G.1.1 103) 10 (fun _ => none)))) x := ha_x.up_n nq_q_7_7_20
  have h_a : (va_up (va_up M1 a (some (.inr (9, [.int (md + (1 : Int32)), .ref (G.2 0), .int (0 : Int32)])))) q_7_7_20 (some (mRc (G.1.1 103) 10 (fun _ => none)))) a = some (.inr (9, [.int (md + (1 : Int32)), .ref (G.2 0), .int (0 : Int32)])) := (va_up_k (by first | assumption | exact Ne.symm (by assumption))).trans h_a
  have h_q_7_7_20 : (va_up (va_up M1 a (some (.inr (9, [.int (md + (1 : Int32)), .ref (G.2 0), .int (0 : Int32)])))) q_7_7_20 (some (mRc (G.1.1 103) 10 (fun _ => none)))) q_7_7_20 = some (mRc (G.1.1 103) 10 (fun _ => none)) := va_up_s
  have ha_x : anyAt G (va_up (va_up (va_up M1 a (some (.inr (9, [.int (md + (1 : Int32)), .ref (G.2 0), .int (0 : Int32)])))) q_7_7_20 (some (mRc (G.1.1 103) 10 (fun _ => none)))) a (some (.inr (9, [.int (md + (1 : Int32)), .ref q_7_7_20, .int (0 : Int32)])))) x := ha_x.up_o h_a
  have h_q_7_7_20 : (va_up (va_up (va_up M1 a (some (.inr (9, [.int (md + (1 : Int32)), .ref (G.2 0), .int (0 : Int32)])))) q_7_7_20 (some (mRc (G.1.1 103) 10 (fun _ => none)))) a (some (.inr (9, [.int (md + (1 : Int32)), .ref q_7_7_20, .int (0 : Int32)])))) q_7_7_20 = some (mRc (G.1.1 103) 10 (fun _ => none)) := (va_up_k (by first | assumption | exact Ne.symm (by assumption))).trans h_q_7_7_20
  have h_a : (va_up (va_up (va_up M1 a (some (.inr (9, [.int (md + (1 : Int32)), .ref (G.2 0), .int (0 : Int32)])))) q_7_7_20 (some (mRc (G.1.1 103) 10 (fun _ => none)))) a (some (.inr (9, [.int (md + (1 : Int32)), .ref q_7_7_20, .int (0 : Int32)])))) a = some (.inr (9, [.int (md + (1 : Int32)), .ref q_7_7_20, .int (0 : Int32)])) := va_up_s
  have ha_x : anyAt G (va_up (va_up (va_up (va_up M1 a (some (.inr (9, [.int (md + (1 : Int32)), .ref (G.2 0), .int (0 : Int32)])))) q_7_7_20 (some (mRc (G.1.1 103) 10 (fun _ => none)))) a (some (.inr (9, [.int (md + (1 : Int32)), .ref q_7_7_20, .int (0 : Int32)])))) q_7_7_20 (some (mRc (G.1.1 103) 10 (va_up (fun _ => none) 0 (some x))))) x := ha_x.up_a h_q_7_7_20
  have h_a : (va_up (va_up (va_up (va_up M1 a (some (.inr (9, [.int (md + (1 : Int32)), .ref (G.2 0), .int (0 : Int32)])))) q_7_7_20 (some (mRc (G.1.1 103) 10 (fun _ => none)))) a (some (.inr (9, [.int (md + (1 : Int32)), .ref q_7_7_20, .int (0 : Int32)])))) q_7_7_20 (some (mRc (G.1.1 103) 10 (va_up (fun _ => none) 0 (some x))))) a = some (.inr (9, [.int (md + (1 : Int32)), .ref q_7_7_20, .int (0 : Int32)])) := (va_up_k (by first | assumption | exact Ne.symm (by assumption))).trans h_a
  have h_q_7_7_20 : (va_up (va_up (va_up (va_up M1 a (some (.inr (9, [.int (md + (1 : Int32)), .ref (G.2 0), .int (0 : Int32)])))) q_7_7_20 (some (mRc (G.1.1 103) 10 (fun _ => none)))) a (some (.inr (9, [.int (md + (1 : Int32)), .ref q_7_7_20, .int (0 : Int32)])))) q_7_7_20 (some (mRc (G.1.1 103) 10 (va_up (fun _ => none) 0 (some x))))) q_7_7_20 = some (mRc (G.1.1 103) 10 (va_up (fun _ => none) 0 (some x))) := va_up_s
  have ha_x : anyAt G (va_up (va_up (va_up (va_up (va_up M1 a (some (.inr (9, [.int (md + (1 : Int32)), .ref (G.2 0), .int (0 : Int32)])))) q_7_7_20 (some (mRc (G.1.1 103) 10 (fun _ => none)))) a (some (.inr (9, [.int (md + (1 : Int32)), .ref q_7_7_20, .int (0 : Int32)])))) q_7_7_20 (some (mRc (G.1.1 103) 10 (va_up (fun _ => none) 0 (some x))))) a (some (.inr (9, [.int (md + (1 : Int32)), .ref q_7_7_20, .int (1 : Int32)])))) x := ha_x.up_o h_a
  have h_q_7_7_20 : (va_up (va_up (va_up (va_up (va_up M1 a (some (.inr (9, [.int (md + (1 : Int32)), .ref (G.2 0), .int (0 : Int32)])))) q_7_7_20 (some (mRc (G.1.1 103) 10 (fun _ => none)))) a (some (.inr (9, [.int (md + (1 : Int32)), .ref q_7_7_20, .int (0 : Int32)])))) q_7_7_20 (some (mRc (G.1.1 103) 10 (va_up (fun _ => none) 0 (some x))))) a (some (.inr (9, [.int (md + (1 : Int32)), .ref q_7_7_20, .int (1 : Int32)])))) q_7_7_20 = some (mRc (G.1.1 103) 10 (va_up (fun _ => none) 0 (some x))) := (va_up_k (by first | assumption | exact Ne.symm (by assumption))).trans h_q_7_7_20
  have h_a : (va_up (va_up (va_up (va_up (va_up M1 a (some (.inr (9, [.int (md + (1 : Int32)), .ref (G.2 0), .int (0 : Int32)])))) q_7_7_20 (some (mRc (G.1.1 103) 10 (fun _ => none)))) a (some (.inr (9, [.int (md + (1 : Int32)), .ref q_7_7_20, .int (0 : Int32)])))) q_7_7_20 (some (mRc (G.1.1 103) 10 (va_up (fun _ => none) 0 (some x))))) a (some (.inr (9, [.int (md + (1 : Int32)), .ref q_7_7_20, .int (1 : Int32)])))) a = some (.inr (9, [.int (md + (1 : Int32)), .ref q_7_7_20, .int (1 : Int32)])) := va_up_s
  have w : mW G A s (va_up (va_up (va_up (va_up (va_up M1 a (some (.inr (9, [.int (md + (1 : Int32)), .ref (G.2 0), .int (0 : Int32)])))) q_7_7_20 (some (mRc (G.1.1 103) 10 (fun _ => none)))) a (some (.inr (9, [.int (md + (1 : Int32)), .ref q_7_7_20, .int (0 : Int32)])))) q_7_7_20 (some (mRc (G.1.1 103) 10 (va_up (fun _ => none) 0 (some x))))) a (some (.inr (9, [.int (md + (1 : Int32)), .ref q_7_7_20, .int (1 : Int32)])))) H locs := w
  refine lv_iconst (v := (1 : Int32)) hx hb dJ2_add_23 (by decide) ?_
  exact fin true _ H locs ls 24 dJ2_add_24 ⟨q_7_7_20, z_q_7_7_20, rfl, rfl⟩ w
theorem jt_pre_ckS (l : Launch) (G : mg) (A : Nat → Prop) (M1 : mh) (k : Nat) (n : Nat) (hk : k < n) (hn : n < 2 ^ 31) : Met l yJ7_checkIndex (ws_ yJ7_checkIndex cJ7_checkIndex 3 (some .int)) ({ frames := 0, cells := 0, slots := 0, locals := 0 }) (va_Pc [.int (nI k), .int (nI n), va_rf (kcO G)] (mU G A (fun M => M = M1))) (mQi G A (fun r M => r = (nI k) ∧ M = M1)) 0 0 A := by
  cases kcO G with
  | none => exact jt_pre_ck l G A M1 k n hk hn
  | some a => exact jt_pre_ckS0 l G A M1 a k n hk hn
