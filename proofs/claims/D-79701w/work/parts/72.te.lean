set_option maxRecDepth 100000
/-! TE: an entry made; keys compared -/
def cf_einit (f : tT) (k : Nat) (q0 : Nat) (v0 : Nat) (o : Option Nat) : tT := (t2 (t2 (t2 (t2 f k 3 (bO true)) k 4 (some q0)) k 5 (some v0)) k 2 o)
set_option maxHeartbeats 4000000 in
set_option maxRecDepth 100000 in
theorem ct_einit (l : Launch) (G : mg) (A : Nat → Prop) (ad : Nat → Nat) (np : Nat) (M0 : mh) (f : tT) (k : Nat) (q0 : Nat) (v0 : Nat) (o : Option Nat)  (hk : k < np) : Met l yJ24_init (ws_ yJ24_init cJ24_init 4 (none)) ({ frames := 1, cells := 0, slots := 0, locals := 12 }) (va_Pc [.ref (ad (20 + k)), .ref q0, .ref v0, va_rf (o.map fun k => ad (20 + k))] (mU G A (fun M => Tm G ad np M0 M f))) (mQv G A (fun M => Tm G ad np M0 M (cf_einit f k q0 v0 o))) 0 0 A := by
  refine mx_ofv (by decide) (by cases o <;> exact Nat.le_of_ble_eq_true rfl) ?_
  intro p e R s m av below meth c M H Q ls X hRf hRl hRc hRs hin hM w fin hl
  have X : CallFix p m c cJ24_init 4 s av lw_all "java/util/TreeMap$Entry" := X
  have hx := X.1
  have hb := X.2.1
  have hl : lv_has ls 4 [(0, .ref (ad (20 + k))), (1, .ref q0), (2, .ref v0), (3, va_rf (o.map fun k => ad (20 + k)))] := by cases o <;> exact hl
  have hRf : R.frames = 1 := hRf
  have hRl : R.locals = 12 := hRl
  have hRc : R.cells = 0 := hRc
  have hRs : R.slots = 0 := hRs
  generalize ([] : List Loc) = locs at w ⊢
  generalize E : cf_einit f k q0 v0 o = z at fin
  rw [cf_einit] at E
  refine lv_aload_n hx hb dJ24_init_0 rfl (lv_at hl 0 rfl) ?_
  refine W.objInit hx hb X.2.2.2.1 (X.2.2.2.2 _ q1272) (X.2.2.2.2 _ q144) (X.2.2.2.2 _ q145) rfl (by rw [X.2.2.1]; exact hl.1) rfl dJ24_init_1 (by rw [hRf]; decide) (by rw [hRl]; exact Nat.le_of_ble_eq_true rfl) ?_
  refine W.eq (g2 := F0 m 4 ls []) rfl ?_
  refine lv_aload_n hx hb dJ24_init_4 rfl (lv_at hl 0 rfl) ?_
  refine lv_iconst (v := (1 : Int32)) hx hb dJ24_init_5 (by decide) ?_
  refine tm_putC (b := true) X w hM (k := k) (by first | omega | assumption) q1281 dJ24_init_6 (fun M H locs w hM => ?_)
  refine lv_aload_n hx hb dJ24_init_9 rfl (lv_at hl 0 rfl) ?_
  refine lv_aload_n hx hb dJ24_init_10 rfl (lv_at hl 1 rfl) ?_
  refine tm_putQ (o := some q0) X w hM (k := k) (by first | omega | assumption) 0 (by decide) q1273 dJ24_init_11 (fun M H locs w hM => ?_)
  refine lv_aload_n hx hb dJ24_init_14 rfl (lv_at hl 0 rfl) ?_
  refine lv_aload_n hx hb dJ24_init_15 rfl (lv_at hl 2 rfl) ?_
  refine tm_putQ (o := some v0) X w hM (k := k) (by first | omega | assumption) 1 (by decide) q1275 dJ24_init_16 (fun M H locs w hM => ?_)
  refine lv_aload_n hx hb dJ24_init_19 rfl (lv_at hl 0 rfl) ?_
  refine mx_aload_nQ hx hb dJ24_init_20 rfl (lv_at hl 3 rfl) ?_
  refine tm_putL (o := o) X w hM (k := k) (by first | omega | assumption) 2 (by decide) q1279 dJ24_init_21 (fun M H locs w hM => ?_)
  exact fin M H locs ls 24 dJ24_init_24 (by rw [← E]; exact hM) w
set_option maxHeartbeats 4000000 in
set_option maxRecDepth 100000 in
theorem ct_tcmp (l : Launch) (G : mg) (A : Nat → Prop) (ad : Nat → Nat) (np : Nat) (M0 M1 : mh) (f : tT)  (q0 q1 : Nat) (K L : Int32) (hM : Tm G ad np M0 M1 f) (h_q0 : bxo G ad np M0 q0 K) (h_q1 : bxo G ad np M0 q1 L) : Met l yJ20_compare (ws_ yJ20_compare cJ20_compare 3 (some .int)) ({ frames := 3, cells := 0, slots := 0, locals := 63 }) (va_Pc [.ref (ad 0), .ref q0, .ref q1] (mU G A (fun M => M = M1))) (mQi G A (fun r M => M = M1)) 0 0 A := by
  refine mx_ofi (by decide) (Nat.le_of_ble_eq_true rfl) ?_
  intro p e R s m av below meth c M H Q ls X hRf hRl hRc hRs hin eM w fin hl
  subst M
  have X : CallFix p m c cJ20_compare 3 s av lw_all "java/util/TreeMap" := X
  have hx := X.1
  have hb := X.2.1
  have hl : lv_has ls 3 [(0, .ref (ad 0)), (1, .ref q0), (2, .ref q1)] := hl
  have hRf : R.frames = 3 := hRf
  have hRl : R.locals = 63 := hRl
  have hRc : R.cells = 0 := hRc
  have hRs : R.slots = 0 := hRs
  generalize ([] : List Loc) = locs at w ⊢
  refine lv_aload_n hx hb dJ20_compare_0 rfl (lv_at hl 0 rfl) ?_
  refine tm_cmp X w hM q926 dJ20_compare_1 ?_
  refine lv_ifnonnullN hx hb dJ20_compare_4 ?_
  refine lv_aload_n hx hb dJ20_compare_7 rfl (lv_at hl 1 rfl) ?_
  refine mx_boxcastU X w q984 (h_q0.at hM) dJ20_compare_8 ?_
  refine lv_aload_n hx hb dJ20_compare_11 rfl (lv_at hl 2 rfl) ?_
  refine mx_cmpTo X w q986 (h_q0.at hM) (h_q1.at hM) (by rw [hRf]; decide) (by rw [hRl]; exact Nat.le_of_ble_eq_true rfl) hl.1 (Nat.le_of_ble_eq_true rfl) (Nat.zero_le _) (Nat.zero_le _) dJ20_compare_12 (fun H locs w => ?_)
  refine lv_goto (tgt := 31) hx hb dJ20_compare_17 (by decide) ?_
  exact fin (cf_icmpO K L) M1 H locs ls 31 dJ20_compare_31 rfl w
