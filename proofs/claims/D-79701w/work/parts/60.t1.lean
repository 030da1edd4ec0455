set_option maxRecDepth 100000
/-! T1: the map's small methods -/
theorem P_some {o : Option Nat} (h : ¬ o = none) : o = some (o.getD 0) := by
  cases o
  · exact absurd rfl h
  · rfl
theorem Tm.st {G : mg} {ad : Nat → Nat} {np : Nat} {M0 M : mh} {f : tT} (h : Tm G ad np M0 M f) : M (ad 0) = some (.inr (15, tmF ad f h.2.1.choose h.2.1.choose_spec.choose)) := h.2.1.choose_spec.choose_spec
def cf_tcol_12 (f : tT) (o : Option Nat) (bs0_12 : Bool) : Bool := bs0_12
def cf_tcol (f : tT) (o : Option Nat) : Bool := (if o = none then (cf_tcol_12 f o true) else (cf_tcol_12 f o ((f (o.getD 0) 3).isSome)))
set_option maxHeartbeats 4000000 in
set_option maxRecDepth 100000 in
theorem ct_tcol (l : Launch) (G : mg) (A : Nat → Prop) (ad : Nat → Nat) (np : Nat) (M0 M1 : mh) (f : tT) (o : Option Nat)  (hM : Tm G ad np M0 M1 f) (hob : ∀ i, o = some i → i < np) : Met l yJ20_colorOf (ws_ yJ20_colorOf cJ20_colorOf 1 (some .boolean)) ({ frames := 0, cells := 0, slots := 0, locals := 0 }) (va_Pc [va_rf (o.map fun k => ad (20 + k))] (mU G A (fun M => M = M1))) (mQi G A (fun r M => r = bI (cf_tcol f o) ∧ M = M1)) 0 0 A := by
  refine mx_ofz (by decide) (by cases o <;> exact Nat.le_of_ble_eq_true rfl) ?_
  intro p e R s m av below meth c M H Q ls X hRf hRl hRc hRs hin eM w fin hl
  subst M
  have X : CallFix p m c cJ20_colorOf 1 s av lw_all "java/util/TreeMap" := X
  have hx := X.1
  have hb := X.2.1
  have hl : lv_has ls 1 [(0, va_rf (o.map fun k => ad (20 + k)))] := by cases o <;> exact hl
  have hRf : R.frames = 0 := hRf
  have hRl : R.locals = 0 := hRl
  have hRc : R.cells = 0 := hRc
  have hRs : R.slots = 0 := hRs
  generalize ([] : List Loc) = locs at w ⊢
  generalize E : cf_tcol f o = z at fin
  rw [cf_tcol] at E
  refine mx_aload_nQ hx hb dJ20_colorOf_0 rfl (lv_at hl 0 rfl) ?_
  have J12 : ∀ (bs0_12 : Bool) (M : mh) (H : Heap) (locs : List Loc) (ls : Array Slot), cf_tcol_12 f o bs0_12 = z → lv_has ls 1 [] → mW G A s M H locs → M = M1 → W p l e R s m av below meth c H locs 0 0 Q (F0 m 12 ls [.int (bI bs0_12)]) := by
    intro bs0_12 M H locs ls  E hl w eM
    subst M
    rw [cf_tcol_12] at E
    exact fin bs0_12 M1 H locs ls 12 dJ20_colorOf_12 ⟨congrArg bI E, rfl⟩ w
  refine mx_ifnonnullP (tgt := 8) hx hb dJ20_colorOf_1 (by decide) (fun c_1 => ?_) (fun c_1 => ?_)
  · rw [if_neg c_1] at E
    have eo_1 : va_rf (o.map fun k => ad (20 + k)) = .ref (ad (20 + (o.getD 0))) := P_ref c_1
    have hl9 := P_lt hob c_1
    refine mx_aload_nQ hx hb dJ20_colorOf_8 rfl (lv_at hl 0 rfl) ?_
    rw [eo_1]
    refine tm_get (v := .int (bI ((f (o.getD 0) 3).isSome))) X w hM (k := (o.getD 0)) (by first | omega | assumption) 5 (by decide) q1282 rfl dJ20_colorOf_9 ?_
    exact J12 ((f (o.getD 0) 3).isSome) M1 H locs ls E (lv_sub hl [] rfl) w rfl
  · rw [if_pos c_1] at E
    refine lv_iconst (v := (1 : Int32)) hx hb dJ20_colorOf_4 (by decide) ?_
    refine lv_goto (tgt := 12) hx hb dJ20_colorOf_5 (by decide) ?_
    exact J12 true M1 H locs ls E (lv_sub hl [] rfl) w rfl
def cf_tpar_12 (f : tT) (o : Option Nat) (Ps0_12 : Option Nat) : Option Nat := Ps0_12
def cf_tpar (f : tT) (o : Option Nat) : Option Nat := (if o = none then (cf_tpar_12 f o none) else (cf_tpar_12 f o (f (o.getD 0) 2)))
set_option maxHeartbeats 4000000 in
set_option maxRecDepth 100000 in
theorem ct_tpar (l : Launch) (G : mg) (A : Nat → Prop) (ad : Nat → Nat) (np : Nat) (M0 M1 : mh) (f : tT) (o : Option Nat)  (hM : Tm G ad np M0 M1 f) (hob : ∀ i, o = some i → i < np) : Met l yJ20_parentOf (ws_ yJ20_parentOf cJ20_parentOf 1 (some (.object "java/util/TreeMap$Entry"))) ({ frames := 0, cells := 0, slots := 0, locals := 0 }) (va_Pc [va_rf (o.map fun k => ad (20 + k))] (mU G A (fun M => M = M1))) (mQq G A (fun r M => r = ((cf_tpar f o).map fun k => ad (20 + k)) ∧ M = M1)) 0 0 A := by
  refine mx_ofq (Or.inl ⟨_, rfl⟩) (by decide) (by cases o <;> exact Nat.le_of_ble_eq_true rfl) ?_
  intro p e R s m av below meth c M H Q ls X hRf hRl hRc hRs hin eM w fin hl
  subst M
  have X : CallFix p m c cJ20_parentOf 1 s av lw_all "java/util/TreeMap" := X
  have hx := X.1
  have hb := X.2.1
  have hl : lv_has ls 1 [(0, va_rf (o.map fun k => ad (20 + k)))] := by cases o <;> exact hl
  have hRf : R.frames = 0 := hRf
  have hRl : R.locals = 0 := hRl
  have hRc : R.cells = 0 := hRc
  have hRs : R.slots = 0 := hRs
  generalize ([] : List Loc) = locs at w ⊢
  generalize E : cf_tpar f o = z at fin
  rw [cf_tpar] at E
  refine mx_aload_nQ hx hb dJ20_parentOf_0 rfl (lv_at hl 0 rfl) ?_
  have J12 : ∀ (Ps0_12 : Option Nat) (M : mh) (H : Heap) (locs : List Loc) (ls : Array Slot), cf_tpar_12 f o Ps0_12 = z → lv_has ls 1 [] → mW G A s M H locs → M = M1 → W p l e R s m av below meth c H locs 0 0 Q (F0 m 12 ls [va_rf (Ps0_12.map fun k => ad (20 + k))]) := by
    intro Ps0_12 M H locs ls  E hl w eM
    subst M
    rw [cf_tpar_12] at E
    exact fin (Ps0_12.map fun k => ad (20 + k)) M1 H locs ls 12 dJ20_parentOf_12 ⟨by rw [E], rfl⟩ w
  refine mx_ifnonnullP (tgt := 8) hx hb dJ20_parentOf_1 (by decide) (fun c_1 => ?_) (fun c_1 => ?_)
  · rw [if_neg c_1] at E
    have eo_1 : va_rf (o.map fun k => ad (20 + k)) = .ref (ad (20 + (o.getD 0))) := P_ref c_1
    have hl9 := P_lt hob c_1
    refine mx_aload_nQ hx hb dJ20_parentOf_8 rfl (lv_at hl 0 rfl) ?_
    rw [eo_1]
    refine tm_get (v := va_rf ((f (o.getD 0) 2).map fun k => ad (20 + k))) X w hM (k := (o.getD 0)) (by first | omega | assumption) 4 (by decide) q1280 rfl dJ20_parentOf_9 ?_
    exact J12 (f (o.getD 0) 2) M1 H locs ls E (lv_sub hl [] rfl) w rfl
  · rw [if_pos c_1] at E
    refine lv_null hx hb dJ20_parentOf_4 ?_
    refine lv_goto (tgt := 12) hx hb dJ20_parentOf_5 (by decide) ?_
    exact J12 none M1 H locs ls E (lv_sub hl [] rfl) w rfl
def cf_tlef_12 (f : tT) (o : Option Nat) (Ps0_12 : Option Nat) : Option Nat := Ps0_12
def cf_tlef (f : tT) (o : Option Nat) : Option Nat := (if o = none then (cf_tlef_12 f o none) else (cf_tlef_12 f o (f (o.getD 0) 0)))
set_option maxHeartbeats 4000000 in
set_option maxRecDepth 100000 in
theorem ct_tlef (l : Launch) (G : mg) (A : Nat → Prop) (ad : Nat → Nat) (np : Nat) (M0 M1 : mh) (f : tT) (o : Option Nat)  (hM : Tm G ad np M0 M1 f) (hob : ∀ i, o = some i → i < np) : Met l yJ20_leftOf (ws_ yJ20_leftOf cJ20_leftOf 1 (some (.object "java/util/TreeMap$Entry"))) ({ frames := 0, cells := 0, slots := 0, locals := 0 }) (va_Pc [va_rf (o.map fun k => ad (20 + k))] (mU G A (fun M => M = M1))) (mQq G A (fun r M => r = ((cf_tlef f o).map fun k => ad (20 + k)) ∧ M = M1)) 0 0 A := by
  refine mx_ofq (Or.inl ⟨_, rfl⟩) (by decide) (by cases o <;> exact Nat.le_of_ble_eq_true rfl) ?_
  intro p e R s m av below meth c M H Q ls X hRf hRl hRc hRs hin eM w fin hl
  subst M
  have X : CallFix p m c cJ20_leftOf 1 s av lw_all "java/util/TreeMap" := X
  have hx := X.1
  have hb := X.2.1
  have hl : lv_has ls 1 [(0, va_rf (o.map fun k => ad (20 + k)))] := by cases o <;> exact hl
  have hRf : R.frames = 0 := hRf
  have hRl : R.locals = 0 := hRl
  have hRc : R.cells = 0 := hRc
  have hRs : R.slots = 0 := hRs
  generalize ([] : List Loc) = locs at w ⊢
  generalize E : cf_tlef f o = z at fin
  rw [cf_tlef] at E
  refine mx_aload_nQ hx hb dJ20_leftOf_0 rfl (lv_at hl 0 rfl) ?_
  have J12 : ∀ (Ps0_12 : Option Nat) (M : mh) (H : Heap) (locs : List Loc) (ls : Array Slot), cf_tlef_12 f o Ps0_12 = z → lv_has ls 1 [] → mW G A s M H locs → M = M1 → W p l e R s m av below meth c H locs 0 0 Q (F0 m 12 ls [va_rf (Ps0_12.map fun k => ad (20 + k))]) := by
    intro Ps0_12 M H locs ls  E hl w eM
    subst M
    rw [cf_tlef_12] at E
    exact fin (Ps0_12.map fun k => ad (20 + k)) M1 H locs ls 12 dJ20_leftOf_12 ⟨by rw [E], rfl⟩ w
  refine mx_ifnonnullP (tgt := 8) hx hb dJ20_leftOf_1 (by decide) (fun c_1 => ?_) (fun c_1 => ?_)
  · rw [if_neg c_1] at E
    have eo_1 : va_rf (o.map fun k => ad (20 + k)) = .ref (ad (20 + (o.getD 0))) := P_ref c_1
    have hl9 := P_lt hob c_1
    refine mx_aload_nQ hx hb dJ20_leftOf_8 rfl (lv_at hl 0 rfl) ?_
    rw [eo_1]
    refine tm_get (v := va_rf ((f (o.getD 0) 0).map fun k => ad (20 + k))) X w hM (k := (o.getD 0)) (by first | omega | assumption) 2 (by decide) q1277 rfl dJ20_leftOf_9 ?_
    exact J12 (f (o.getD 0) 0) M1 H locs ls E (lv_sub hl [] rfl) w rfl
  · rw [if_pos c_1] at E
    refine lv_null hx hb dJ20_leftOf_4 ?_
    refine lv_goto (tgt := 12) hx hb dJ20_leftOf_5 (by decide) ?_
    exact J12 none M1 H locs ls E (lv_sub hl [] rfl) w rfl
def cf_trig_12 (f : tT) (o : Option Nat) (Ps0_12 : Option Nat) : Option Nat := Ps0_12
def cf_trig (f : tT) (o : Option Nat) : Option Nat := (if o = none then (cf_trig_12 f o none) else (cf_trig_12 f o (f (o.getD 0) 1)))
set_option maxHeartbeats 4000000 in
set_option maxRecDepth 100000 in
theorem ct_trig (l : Launch) (G : mg) (A : Nat → Prop) (ad : Nat → Nat) (np : Nat) (M0 M1 : mh) (f : tT) (o : Option Nat)  (hM : Tm G ad np M0 M1 f) (hob : ∀ i, o = some i → i < np) : Met l yJ20_rightOf (ws_ yJ20_rightOf cJ20_rightOf 1 (some (.object "java/util/TreeMap$Entry"))) ({ frames := 0, cells := 0, slots := 0, locals := 0 }) (va_Pc [va_rf (o.map fun k => ad (20 + k))] (mU G A (fun M => M = M1))) (mQq G A (fun r M => r = ((cf_trig f o).map fun k => ad (20 + k)) ∧ M = M1)) 0 0 A := by
  refine mx_ofq (Or.inl ⟨_, rfl⟩) (by decide) (by cases o <;> exact Nat.le_of_ble_eq_true rfl) ?_
  intro p e R s m av below meth c M H Q ls X hRf hRl hRc hRs hin eM w fin hl
  subst M
  have X : CallFix p m c cJ20_rightOf 1 s av lw_all "java/util/TreeMap" := X
  have hx := X.1
  have hb := X.2.1
  have hl : lv_has ls 1 [(0, va_rf (o.map fun k => ad (20 + k)))] := by cases o <;> exact hl
  have hRf : R.frames = 0 := hRf
  have hRl : R.locals = 0 := hRl
  have hRc : R.cells = 0 := hRc
  have hRs : R.slots = 0 := hRs
  generalize ([] : List Loc) = locs at w ⊢
  generalize E : cf_trig f o = z at fin
  rw [cf_trig] at E
  refine mx_aload_nQ hx hb dJ20_rightOf_0 rfl (lv_at hl 0 rfl) ?_
  have J12 : ∀ (Ps0_12 : Option Nat) (M : mh) (H : Heap) (locs : List Loc) (ls : Array Slot), cf_trig_12 f o Ps0_12 = z → lv_has ls 1 [] → mW G A s M H locs → M = M1 → W p l e R s m av below meth c H locs 0 0 Q (F0 m 12 ls [va_rf (Ps0_12.map fun k => ad (20 + k))]) := by
    intro Ps0_12 M H locs ls  E hl w eM
    subst M
    rw [cf_trig_12] at E
    exact fin (Ps0_12.map fun k => ad (20 + k)) M1 H locs ls 12 dJ20_rightOf_12 ⟨by rw [E], rfl⟩ w
  refine mx_ifnonnullP (tgt := 8) hx hb dJ20_rightOf_1 (by decide) (fun c_1 => ?_) (fun c_1 => ?_)
  · rw [if_neg c_1] at E
    have eo_1 : va_rf (o.map fun k => ad (20 + k)) = .ref (ad (20 + (o.getD 0))) := P_ref c_1
    have hl9 := P_lt hob c_1
    refine mx_aload_nQ hx hb dJ20_rightOf_8 rfl (lv_at hl 0 rfl) ?_
    rw [eo_1]
    refine tm_get (v := va_rf ((f (o.getD 0) 1).map fun k => ad (20 + k))) X w hM (k := (o.getD 0)) (by first | omega | assumption) 3 (by decide) q1278 rfl dJ20_rightOf_9 ?_
    exact J12 (f (o.getD 0) 1) M1 H locs ls E (lv_sub hl [] rfl) w rfl
  · rw [if_pos c_1] at E
    refine lv_null hx hb dJ20_rightOf_4 ?_
    refine lv_goto (tgt := 12) hx hb dJ20_rightOf_5 (by decide) ?_
    exact J12 none M1 H locs ls E (lv_sub hl [] rfl) w rfl
def cf_tset (f : tT) (o : Option Nat) (bb : Bool) : tT := (if o = none then f else (t2 f (o.getD 0) 3 (bO bb)))
set_option maxHeartbeats 4000000 in
set_option maxRecDepth 100000 in
theorem ct_tset (l : Launch) (G : mg) (A : Nat → Prop) (ad : Nat → Nat) (np : Nat) (M0 : mh) (f : tT) (o : Option Nat) (bb : Bool)  (hob : ∀ i, o = some i → i < np) : Met l yJ20_setColor (ws_ yJ20_setColor cJ20_setColor 2 (none)) ({ frames := 0, cells := 0, slots := 0, locals := 0 }) (va_Pc [va_rf (o.map fun k => ad (20 + k)), .int (bI bb)] (mU G A (fun M => Tm G ad np M0 M f))) (mQv G A (fun M => Tm G ad np M0 M (cf_tset f o bb))) 0 0 A := by
  refine mx_ofv (by decide) (by cases o <;> exact Nat.le_of_ble_eq_true rfl) ?_
  intro p e R s m av below meth c M H Q ls X hRf hRl hRc hRs hin hM w fin hl
  have X : CallFix p m c cJ20_setColor 2 s av lw_all "java/util/TreeMap" := X
  have hx := X.1
  have hb := X.2.1
  have hl : lv_has ls 2 [(0, va_rf (o.map fun k => ad (20 + k))), (1, .int (bI bb))] := by cases o <;> exact hl
  have hRf : R.frames = 0 := hRf
  have hRl : R.locals = 0 := hRl
  have hRc : R.cells = 0 := hRc
  have hRs : R.slots = 0 := hRs
  generalize ([] : List Loc) = locs at w ⊢
  generalize E : cf_tset f o bb = z at fin
  rw [cf_tset] at E
  refine mx_aload_nQ hx hb dJ20_setColor_0 rfl (lv_at hl 0 rfl) ?_
  refine mx_ifnullP (tgt := 9) hx hb dJ20_setColor_1 (by decide) (fun c_1 => ?_) (fun c_1 => ?_)
  · rw [if_pos c_1] at E
    exact fin M H locs ls 9 dJ20_setColor_9 (by rw [← E]; exact hM) w
  · rw [if_neg c_1] at E
    have eo_1 : va_rf (o.map fun k => ad (20 + k)) = .ref (ad (20 + (o.getD 0))) := P_ref c_1
    have hl9 := P_lt hob c_1
    refine mx_aload_nQ hx hb dJ20_setColor_4 rfl (lv_at hl 0 rfl) ?_
    rw [eo_1]
    refine lv_iload_n hx hb dJ20_setColor_5 rfl (lv_at hl 1 rfl) ?_
    refine tm_putC (b := bb) X w hM (k := (o.getD 0)) (by first | omega | assumption) q1282 dJ20_setColor_6 (fun M H locs w hM => ?_)
    exact fin M H locs ls 9 dJ20_setColor_9 (by rw [← E]; exact hM) w
def cf_rotL (f : tT) (o : Option Nat) : tT := (if o = none then f else (if (f ((f (o.getD 0) 1).getD 0) 0) = none then (if (f (o.getD 0) 2) = none then (t2 (t2 (t2 (t2 (t2 f (o.getD 0) 1 (f ((f (o.getD 0) 1).getD 0) 0)) ((f (o.getD 0) 1).getD 0) 2 (f (o.getD 0) 2)) 0 6 (some ((f (o.getD 0) 1).getD 0))) ((f (o.getD 0) 1).getD 0) 0 (some (o.getD 0))) (o.getD 0) 2 (some ((f (o.getD 0) 1).getD 0))) else (if (f ((f (o.getD 0) 2).getD 0) 0) = (some (o.getD 0)) then (t2 (t2 (t2 (t2 (t2 f (o.getD 0) 1 (f ((f (o.getD 0) 1).getD 0) 0)) ((f (o.getD 0) 1).getD 0) 2 (f (o.getD 0) 2)) ((f (o.getD 0) 2).getD 0) 0 (some ((f (o.getD 0) 1).getD 0))) ((f (o.getD 0) 1).getD 0) 0 (some (o.getD 0))) (o.getD 0) 2 (some ((f (o.getD 0) 1).getD 0))) else (t2 (t2 (t2 (t2 (t2 f (o.getD 0) 1 (f ((f (o.getD 0) 1).getD 0) 0)) ((f (o.getD 0) 1).getD 0) 2 (f (o.getD 0) 2)) ((f (o.getD 0) 2).getD 0) 1 (some ((f (o.getD 0) 1).getD 0))) ((f (o.getD 0) 1).getD 0) 0 (some (o.getD 0))) (o.getD 0) 2 (some ((f (o.getD 0) 1).getD 0))))) else (if (f (o.getD 0) 2) = none then (t2 (t2 (t2 (t2 (t2 (t2 f (o.getD 0) 1 (f ((f (o.getD 0) 1).getD 0) 0)) ((f ((f (o.getD 0) 1).getD 0) 0).getD 0) 2 (some (o.getD 0))) ((f (o.getD 0) 1).getD 0) 2 (f (o.getD 0) 2)) 0 6 (some ((f (o.getD 0) 1).getD 0))) ((f (o.getD 0) 1).getD 0) 0 (some (o.getD 0))) (o.getD 0) 2 (some ((f (o.getD 0) 1).getD 0))) else (if (f ((f (o.getD 0) 2).getD 0) 0) = (some (o.getD 0)) then (t2 (t2 (t2 (t2 (t2 (t2 f (o.getD 0) 1 (f ((f (o.getD 0) 1).getD 0) 0)) ((f ((f (o.getD 0) 1).getD 0) 0).getD 0) 2 (some (o.getD 0))) ((f (o.getD 0) 1).getD 0) 2 (f (o.getD 0) 2)) ((f (o.getD 0) 2).getD 0) 0 (some ((f (o.getD 0) 1).getD 0))) ((f (o.getD 0) 1).getD 0) 0 (some (o.getD 0))) (o.getD 0) 2 (some ((f (o.getD 0) 1).getD 0))) else (t2 (t2 (t2 (t2 (t2 (t2 f (o.getD 0) 1 (f ((f (o.getD 0) 1).getD 0) 0)) ((f ((f (o.getD 0) 1).getD 0) 0).getD 0) 2 (some (o.getD 0))) ((f (o.getD 0) 1).getD 0) 2 (f (o.getD 0) 2)) ((f (o.getD 0) 2).getD 0) 1 (some ((f (o.getD 0) 1).getD 0))) ((f (o.getD 0) 1).getD 0) 0 (some (o.getD 0))) (o.getD 0) 2 (some ((f (o.getD 0) 1).getD 0)))))))
set_option maxHeartbeats 4000000 in
set_option maxRecDepth 100000 in
theorem ct_rotL (l : Launch) (G : mg) (A : Nat → Prop) (ad : Nat → Nat) (np : Nat) (M0 : mh) (f : tT) (o : Option Nat) (m : Nat) (lo hi ps : Nat → Nat) (hT : TI np m f lo hi ps) (h : ∀ i, o = some i → lo i < hi i ∧ ¬ f i 1 = none) : Met l yJ20_rotateLeft (ws_ yJ20_rotateLeft cJ20_rotateLeft 3 (none)) ({ frames := 0, cells := 0, slots := 0, locals := 0 }) (va_Pc [.ref (ad 0), va_rf (o.map fun k => ad (20 + k))] (mU G A (fun M => Tm G ad np M0 M f))) (mQv G A (fun M => Tm G ad np M0 M (cf_rotL f o))) 0 0 A := by
  refine mx_ofv (by decide) (by cases o <;> exact Nat.le_of_ble_eq_true rfl) ?_
  intro p e R s m av below meth c M H Q ls X hRf hRl hRc hRs hin hM w fin hl
  have X : CallFix p m c cJ20_rotateLeft 3 s av lw_all "java/util/TreeMap" := X
  have hx := X.1
  have hb := X.2.1
  have hl : lv_has ls 3 [(0, .ref (ad 0)), (1, va_rf (o.map fun k => ad (20 + k)))] := by cases o <;> exact hl
  have hRf : R.frames = 0 := hRf
  have hRl : R.locals = 0 := hRl
  have hRc : R.cells = 0 := hRc
  have hRs : R.slots = 0 := hRs
  generalize ([] : List Loc) = locs at w ⊢
  generalize E : cf_rotL f o = z at fin
  rw [cf_rotL] at E
  refine mx_aload_nQ hx hb dJ20_rotateLeft_0 rfl (lv_at hl 1 rfl) ?_
  refine mx_ifnullP (tgt := 95) hx hb dJ20_rotateLeft_1 (by decide) (fun c_1 => ?_) (fun c_1 => ?_)
  · rw [if_pos c_1] at E
    exact fin M H locs ls 95 dJ20_rotateLeft_95 (by rw [← E]; exact hM) w
  · rw [if_neg c_1] at E
    have eo_1 : va_rf (o.map fun k => ad (20 + k)) = .ref (ad (20 + (o.getD 0))) := P_ref c_1
    obtain ⟨h9a, h9b⟩ := h _ (P_some c_1)
    have hk1 : (o.getD 0) < np := (hT.b h9a).1
    obtain ⟨h9c, h9d, h9e, h9f⟩ := hT.right h9a (P_some h9b)
    have hk2 : ((f (o.getD 0) 1).getD 0) < np := (hT.b h9c).1
    have hb1 := hT.b h9a
    have hb2 := hT.b h9c
    have hn1 : (o.getD 0) ≠ ((f (o.getD 0) 1).getD 0) := fun e => by rw [← e] at h9d h9e hb2; omega
    refine mx_aload_nQ hx hb dJ20_rotateLeft_4 rfl (lv_at hl 1 rfl) ?_
    rw [eo_1]
    refine tm_get (v := va_rf ((f (o.getD 0) 1).map fun k => ad (20 + k))) X w hM (k := (o.getD 0)) (by first | omega | assumption) 3 (by decide) q1278 rfl dJ20_rotateLeft_5 ?_
    have eo_5 : va_rf ((f (o.getD 0) 1).map fun k => ad (20 + k)) = .ref (ad (20 + ((f (o.getD 0) 1).getD 0))) := P_ref (h9b)
    rw [eo_5]
    refine lv_astore_n (lv' := [(2, .ref (ad (20 + ((f (o.getD 0) 1).getD 0)))), (0, .ref (ad 0)), (1, va_rf (o.map fun k => ad (20 + k)))]) hx hb dJ20_rotateLeft_8 rfl hl (by decide) (by first | rfl | (simp only [List.filter, va_rf_cat]; rfl)) (fun ls hl => ?_)
    refine mx_aload_nQ hx hb dJ20_rotateLeft_9 rfl (lv_at hl 2 rfl) ?_
    rw [eo_1]
    refine lv_aload_n hx hb dJ20_rotateLeft_10 rfl (lv_at hl 0 rfl) ?_
    refine tm_get (v := va_rf ((f ((f (o.getD 0) 1).getD 0) 0).map fun k => ad (20 + k))) X w hM (k := ((f (o.getD 0) 1).getD 0)) (by first | omega | assumption) 2 (by decide) q1277 rfl dJ20_rotateLeft_11 ?_
    refine tm_putL (o := (f ((f (o.getD 0) 1).getD 0) 0)) X w hM (k := (o.getD 0)) (by first | omega | assumption) 1 (by decide) q1278 dJ20_rotateLeft_14 (fun M H locs w hM => ?_)
    refine lv_aload_n hx hb dJ20_rotateLeft_17 rfl (lv_at hl 0 rfl) ?_
    refine tm_get (v := va_rf (((t2 f (o.getD 0) 1 (f ((f (o.getD 0) 1).getD 0) 0)) ((f (o.getD 0) 1).getD 0) 0).map fun k => ad (20 + k))) X w hM (k := ((f (o.getD 0) 1).getD 0)) (by first | omega | assumption) 2 (by decide) q1277 rfl dJ20_rotateLeft_18 ?_
    rw [show ((t2 f (o.getD 0) 1 (f ((f (o.getD 0) 1).getD 0) 0)) ((f (o.getD 0) 1).getD 0) 0) = (f ((f (o.getD 0) 1).getD 0) 0) from by rw [t2_j (by decide)]]
    refine mx_ifnullP (tgt := 32) hx hb dJ20_rotateLeft_21 (by decide) (fun c_21 => ?_) (fun c_21 => ?_)
    · rw [if_pos c_21] at E
      refine lv_aload_n hx hb dJ20_rotateLeft_32 rfl (lv_at hl 0 rfl) ?_
      refine mx_aload_nQ hx hb dJ20_rotateLeft_33 rfl (lv_at hl 2 rfl) ?_
      rw [eo_1]
      refine tm_get (v := va_rf (((t2 f (o.getD 0) 1 (f ((f (o.getD 0) 1).getD 0) 0)) (o.getD 0) 2).map fun k => ad (20 + k))) X w hM (k := (o.getD 0)) (by first | omega | assumption) 4 (by decide) q1280 rfl dJ20_rotateLeft_34 ?_
      rw [show ((t2 f (o.getD 0) 1 (f ((f (o.getD 0) 1).getD 0) 0)) (o.getD 0) 2) = (f (o.getD 0) 2) from by rw [t2_j (by decide)]]
      refine tm_putL (o := (f (o.getD 0) 2)) X w hM (k := ((f (o.getD 0) 1).getD 0)) (by first | omega | assumption) 2 (by decide) q1280 dJ20_rotateLeft_37 (fun M H locs w hM => ?_)
      refine mx_aload_nQ hx hb dJ20_rotateLeft_40 rfl (lv_at hl 2 rfl) ?_
      rw [eo_1]
      refine tm_get (v := va_rf (((t2 (t2 f (o.getD 0) 1 (f ((f (o.getD 0) 1).getD 0) 0)) ((f (o.getD 0) 1).getD 0) 2 (f (o.getD 0) 2)) (o.getD 0) 2).map fun k => ad (20 + k))) X w hM (k := (o.getD 0)) (by first | omega | assumption) 4 (by decide) q1280 rfl dJ20_rotateLeft_41 ?_
      rw [show ((t2 (t2 f (o.getD 0) 1 (f ((f (o.getD 0) 1).getD 0) 0)) ((f (o.getD 0) 1).getD 0) 2 (f (o.getD 0) 2)) (o.getD 0) 2) = (f (o.getD 0) 2) from by rw [t2_k (show (o.getD 0) ≠ ((f (o.getD 0) 1).getD 0) by first | assumption | exact Ne.symm (by assumption)), t2_j (by decide)]]
      refine mx_ifnonnullP (tgt := 55) hx hb dJ20_rotateLeft_44 (by decide) (fun c_44 => ?_) (fun c_44 => ?_)
      · rw [if_neg c_44] at E
        have eo_44 : va_rf ((f (o.getD 0) 2).map fun k => ad (20 + k)) = .ref (ad (20 + ((f (o.getD 0) 2).getD 0))) := P_ref c_44
        have hk4 : ((f (o.getD 0) 2).getD 0) < np := (hT.b (hT.par h9a (P_some c_44)).1).1
        refine mx_aload_nQ hx hb dJ20_rotateLeft_55 rfl (lv_at hl 2 rfl) ?_
        rw [eo_1]
        refine tm_get (v := va_rf (((t2 (t2 f (o.getD 0) 1 (f ((f (o.getD 0) 1).getD 0) 0)) ((f (o.getD 0) 1).getD 0) 2 (f (o.getD 0) 2)) (o.getD 0) 2).map fun k => ad (20 + k))) X w hM (k := (o.getD 0)) (by first | omega | assumption) 4 (by decide) q1280 rfl dJ20_rotateLeft_56 ?_
        rw [show ((t2 (t2 f (o.getD 0) 1 (f ((f (o.getD 0) 1).getD 0) 0)) ((f (o.getD 0) 1).getD 0) 2 (f (o.getD 0) 2)) (o.getD 0) 2) = (f (o.getD 0) 2) from by rw [t2_k (show (o.getD 0) ≠ ((f (o.getD 0) 1).getD 0) by first | assumption | exact Ne.symm (by assumption)), t2_j (by decide)]]
        rw [eo_44]
        refine tm_get (v := va_rf (((t2 (t2 f (o.getD 0) 1 (f ((f (o.getD 0) 1).getD 0) 0)) ((f (o.getD 0) 1).getD 0) 2 (f (o.getD 0) 2)) ((f (o.getD 0) 2).getD 0) 0).map fun k => ad (20 + k))) X w hM (k := ((f (o.getD 0) 2).getD 0)) (by first | omega | assumption) 2 (by decide) q1277 rfl dJ20_rotateLeft_59 ?_
        rw [show ((t2 (t2 f (o.getD 0) 1 (f ((f (o.getD 0) 1).getD 0) 0)) ((f (o.getD 0) 1).getD 0) 2 (f (o.getD 0) 2)) ((f (o.getD 0) 2).getD 0) 0) = (f ((f (o.getD 0) 2).getD 0) 0) from by rw [t2_j (by decide), t2_j (by decide)]]
        refine mx_aload_nQ hx hb dJ20_rotateLeft_62 rfl (lv_at hl 2 rfl) ?_
        rw [eo_1]
        refine tm_acmp_ne hM (rx := (f ((f (o.getD 0) 2).getD 0) 0)) (ry := some (o.getD 0)) (tgt := 77) hx hb dJ20_rotateLeft_63 (by decide) (fun c_63 => ?_) (fun c_63 => ?_)
        · rw [if_neg c_63] at E
          refine mx_aload_nQ hx hb dJ20_rotateLeft_77 rfl (lv_at hl 2 rfl) ?_
          rw [eo_1]
          refine tm_get (v := va_rf (((t2 (t2 f (o.getD 0) 1 (f ((f (o.getD 0) 1).getD 0) 0)) ((f (o.getD 0) 1).getD 0) 2 (f (o.getD 0) 2)) (o.getD 0) 2).map fun k => ad (20 + k))) X w hM (k := (o.getD 0)) (by first | omega | assumption) 4 (by decide) q1280 rfl dJ20_rotateLeft_78 ?_
          rw [show ((t2 (t2 f (o.getD 0) 1 (f ((f (o.getD 0) 1).getD 0) 0)) ((f (o.getD 0) 1).getD 0) 2 (f (o.getD 0) 2)) (o.getD 0) 2) = (f (o.getD 0) 2) from by rw [t2_k (show (o.getD 0) ≠ ((f (o.getD 0) 1).getD 0) by first | assumption | exact Ne.symm (by assumption)), t2_j (by decide)]]
          rw [eo_44]
          refine lv_aload_n hx hb dJ20_rotateLeft_81 rfl (lv_at hl 0 rfl) ?_
          refine tm_putL (o := some ((f (o.getD 0) 1).getD 0)) X w hM (k := ((f (o.getD 0) 2).getD 0)) (by first | omega | assumption) 1 (by decide) q1278 dJ20_rotateLeft_82 (fun M H locs w hM => ?_)
          refine lv_aload_n hx hb dJ20_rotateLeft_85 rfl (lv_at hl 0 rfl) ?_
          refine mx_aload_nQ hx hb dJ20_rotateLeft_86 rfl (lv_at hl 2 rfl) ?_
          rw [eo_1]
          refine tm_putL (o := some (o.getD 0)) X w hM (k := ((f (o.getD 0) 1).getD 0)) (by first | omega | assumption) 0 (by decide) q1277 dJ20_rotateLeft_87 (fun M H locs w hM => ?_)
          refine mx_aload_nQ hx hb dJ20_rotateLeft_90 rfl (lv_at hl 2 rfl) ?_
          rw [eo_1]
          refine lv_aload_n hx hb dJ20_rotateLeft_91 rfl (lv_at hl 0 rfl) ?_
          refine tm_putL (o := some ((f (o.getD 0) 1).getD 0)) X w hM (k := (o.getD 0)) (by first | omega | assumption) 2 (by decide) q1280 dJ20_rotateLeft_92 (fun M H locs w hM => ?_)
          exact fin M H locs ls 95 dJ20_rotateLeft_95 (by rw [← E]; exact hM) w
        · rw [if_pos c_63] at E
          refine mx_aload_nQ hx hb dJ20_rotateLeft_66 rfl (lv_at hl 2 rfl) ?_
          rw [eo_1]
          refine tm_get (v := va_rf (((t2 (t2 f (o.getD 0) 1 (f ((f (o.getD 0) 1).getD 0) 0)) ((f (o.getD 0) 1).getD 0) 2 (f (o.getD 0) 2)) (o.getD 0) 2).map fun k => ad (20 + k))) X w hM (k := (o.getD 0)) (by first | omega | assumption) 4 (by decide) q1280 rfl dJ20_rotateLeft_67 ?_
          rw [show ((t2 (t2 f (o.getD 0) 1 (f ((f (o.getD 0) 1).getD 0) 0)) ((f (o.getD 0) 1).getD 0) 2 (f (o.getD 0) 2)) (o.getD 0) 2) = (f (o.getD 0) 2) from by rw [t2_k (show (o.getD 0) ≠ ((f (o.getD 0) 1).getD 0) by first | assumption | exact Ne.symm (by assumption)), t2_j (by decide)]]
          rw [eo_44]
          refine lv_aload_n hx hb dJ20_rotateLeft_70 rfl (lv_at hl 0 rfl) ?_
          refine tm_putL (o := some ((f (o.getD 0) 1).getD 0)) X w hM (k := ((f (o.getD 0) 2).getD 0)) (by first | omega | assumption) 0 (by decide) q1277 dJ20_rotateLeft_71 (fun M H locs w hM => ?_)
          refine lv_goto (tgt := 85) hx hb dJ20_rotateLeft_74 (by decide) ?_
          refine lv_aload_n hx hb dJ20_rotateLeft_85 rfl (lv_at hl 0 rfl) ?_
          refine mx_aload_nQ hx hb dJ20_rotateLeft_86 rfl (lv_at hl 2 rfl) ?_
          rw [eo_1]
          refine tm_putL (o := some (o.getD 0)) X w hM (k := ((f (o.getD 0) 1).getD 0)) (by first | omega | assumption) 0 (by decide) q1277 dJ20_rotateLeft_87 (fun M H locs w hM => ?_)
          refine mx_aload_nQ hx hb dJ20_rotateLeft_90 rfl (lv_at hl 2 rfl) ?_
          rw [eo_1]
          refine lv_aload_n hx hb dJ20_rotateLeft_91 rfl (lv_at hl 0 rfl) ?_
          refine tm_putL (o := some ((f (o.getD 0) 1).getD 0)) X w hM (k := (o.getD 0)) (by first | omega | assumption) 2 (by decide) q1280 dJ20_rotateLeft_92 (fun M H locs w hM => ?_)
          exact fin M H locs ls 95 dJ20_rotateLeft_95 (by rw [← E]; exact hM) w
      · rw [if_pos c_44] at E
        refine lv_aload_n hx hb dJ20_rotateLeft_47 rfl (lv_at hl 1 rfl) ?_
        refine lv_aload_n hx hb dJ20_rotateLeft_48 rfl (lv_at hl 0 rfl) ?_
        refine tm_putR (o := some ((f (o.getD 0) 1).getD 0)) X w hM q927 dJ20_rotateLeft_49 (fun M H locs w hM => ?_)
        refine lv_goto (tgt := 85) hx hb dJ20_rotateLeft_52 (by decide) ?_
        refine lv_aload_n hx hb dJ20_rotateLeft_85 rfl (lv_at hl 0 rfl) ?_
        refine mx_aload_nQ hx hb dJ20_rotateLeft_86 rfl (lv_at hl 2 rfl) ?_
        rw [eo_1]
        refine tm_putL (o := some (o.getD 0)) X w hM (k := ((f (o.getD 0) 1).getD 0)) (by first | omega | assumption) 0 (by decide) q1277 dJ20_rotateLeft_87 (fun M H locs w hM => ?_)
        refine mx_aload_nQ hx hb dJ20_rotateLeft_90 rfl (lv_at hl 2 rfl) ?_
        rw [eo_1]
        refine lv_aload_n hx hb dJ20_rotateLeft_91 rfl (lv_at hl 0 rfl) ?_
        refine tm_putL (o := some ((f (o.getD 0) 1).getD 0)) X w hM (k := (o.getD 0)) (by first | omega | assumption) 2 (by decide) q1280 dJ20_rotateLeft_92 (fun M H locs w hM => ?_)
        exact fin M H locs ls 95 dJ20_rotateLeft_95 (by rw [← E]; exact hM) w
    · rw [if_neg c_21] at E
      have eo_21 : va_rf ((f ((f (o.getD 0) 1).getD 0) 0).map fun k => ad (20 + k)) = .ref (ad (20 + ((f ((f (o.getD 0) 1).getD 0) 0).getD 0))) := P_ref c_21
      obtain ⟨h8a, h8b, h8c, h8d⟩ := hT.left h9c (P_some c_21)
      have hk3 : ((f ((f (o.getD 0) 1).getD 0) 0).getD 0) < np := (hT.b h8a).1
      have hb3 := hT.b h8a
      have hn2 : (o.getD 0) ≠ ((f ((f (o.getD 0) 1).getD 0) 0).getD 0) := fun e => by rw [← e] at h8b h8c; omega
      have hn3 : ((f (o.getD 0) 1).getD 0) ≠ ((f ((f (o.getD 0) 1).getD 0) 0).getD 0) := fun e => by rw [← e] at h8b h8c; omega
      refine lv_aload_n hx hb dJ20_rotateLeft_24 rfl (lv_at hl 0 rfl) ?_
      refine tm_get (v := va_rf (((t2 f (o.getD 0) 1 (f ((f (o.getD 0) 1).getD 0) 0)) ((f (o.getD 0) 1).getD 0) 0).map fun k => ad (20 + k))) X w hM (k := ((f (o.getD 0) 1).getD 0)) (by first | omega | assumption) 2 (by decide) q1277 rfl dJ20_rotateLeft_25 ?_
      rw [show ((t2 f (o.getD 0) 1 (f ((f (o.getD 0) 1).getD 0) 0)) ((f (o.getD 0) 1).getD 0) 0) = (f ((f (o.getD 0) 1).getD 0) 0) from by rw [t2_j (by decide)]]
      rw [eo_21]
      refine mx_aload_nQ hx hb dJ20_rotateLeft_28 rfl (lv_at hl 2 rfl) ?_
      rw [eo_1]
      refine tm_putL (o := some (o.getD 0)) X w hM (k := ((f ((f (o.getD 0) 1).getD 0) 0).getD 0)) (by first | omega | assumption) 2 (by decide) q1280 dJ20_rotateLeft_29 (fun M H locs w hM => ?_)
      refine lv_aload_n hx hb dJ20_rotateLeft_32 rfl (lv_at hl 0 rfl) ?_
      refine mx_aload_nQ hx hb dJ20_rotateLeft_33 rfl (lv_at hl 2 rfl) ?_
      rw [eo_1]
      refine tm_get (v := va_rf (((t2 (t2 f (o.getD 0) 1 (f ((f (o.getD 0) 1).getD 0) 0)) ((f ((f (o.getD 0) 1).getD 0) 0).getD 0) 2 (some (o.getD 0))) (o.getD 0) 2).map fun k => ad (20 + k))) X w hM (k := (o.getD 0)) (by first | omega | assumption) 4 (by decide) q1280 rfl dJ20_rotateLeft_34 ?_
      rw [show ((t2 (t2 f (o.getD 0) 1 (f ((f (o.getD 0) 1).getD 0) 0)) ((f ((f (o.getD 0) 1).getD 0) 0).getD 0) 2 (some (o.getD 0))) (o.getD 0) 2) = (f (o.getD 0) 2) from by rw [t2_k (show (o.getD 0) ≠ ((f ((f (o.getD 0) 1).getD 0) 0).getD 0) by first | assumption | exact Ne.symm (by assumption)), t2_j (by decide)]]
      refine tm_putL (o := (f (o.getD 0) 2)) X w hM (k := ((f (o.getD 0) 1).getD 0)) (by first | omega | assumption) 2 (by decide) q1280 dJ20_rotateLeft_37 (fun M H locs w hM => ?_)
      refine mx_aload_nQ hx hb dJ20_rotateLeft_40 rfl (lv_at hl 2 rfl) ?_
      rw [eo_1]
      refine tm_get (v := va_rf (((t2 (t2 (t2 f (o.getD 0) 1 (f ((f (o.getD 0) 1).getD 0) 0)) ((f ((f (o.getD 0) 1).getD 0) 0).getD 0) 2 (some (o.getD 0))) ((f (o.getD 0) 1).getD 0) 2 (f (o.getD 0) 2)) (o.getD 0) 2).map fun k => ad (20 + k))) X w hM (k := (o.getD 0)) (by first | omega | assumption) 4 (by decide) q1280 rfl dJ20_rotateLeft_41 ?_
      rw [show ((t2 (t2 (t2 f (o.getD 0) 1 (f ((f (o.getD 0) 1).getD 0) 0)) ((f ((f (o.getD 0) 1).getD 0) 0).getD 0) 2 (some (o.getD 0))) ((f (o.getD 0) 1).getD 0) 2 (f (o.getD 0) 2)) (o.getD 0) 2) = (f (o.getD 0) 2) from by rw [t2_k (show (o.getD 0) ≠ ((f (o.getD 0) 1).getD 0) by first | assumption | exact Ne.symm (by assumption)), t2_k (show (o.getD 0) ≠ ((f ((f (o.getD 0) 1).getD 0) 0).getD 0) by first | assumption | exact Ne.symm (by assumption)), t2_j (by decide)]]
      refine mx_ifnonnullP (tgt := 55) hx hb dJ20_rotateLeft_44 (by decide) (fun c_44 => ?_) (fun c_44 => ?_)
      · rw [if_neg c_44] at E
        have eo_44 : va_rf ((f (o.getD 0) 2).map fun k => ad (20 + k)) = .ref (ad (20 + ((f (o.getD 0) 2).getD 0))) := P_ref c_44
        have hk4 : ((f (o.getD 0) 2).getD 0) < np := (hT.b (hT.par h9a (P_some c_44)).1).1
        refine mx_aload_nQ hx hb dJ20_rotateLeft_55 rfl (lv_at hl 2 rfl) ?_
        rw [eo_1]
        refine tm_get (v := va_rf (((t2 (t2 (t2 f (o.getD 0) 1 (f ((f (o.getD 0) 1).getD 0) 0)) ((f ((f (o.getD 0) 1).getD 0) 0).getD 0) 2 (some (o.getD 0))) ((f (o.getD 0) 1).getD 0) 2 (f (o.getD 0) 2)) (o.getD 0) 2).map fun k => ad (20 + k))) X w hM (k := (o.getD 0)) (by first | omega | assumption) 4 (by decide) q1280 rfl dJ20_rotateLeft_56 ?_
        rw [show ((t2 (t2 (t2 f (o.getD 0) 1 (f ((f (o.getD 0) 1).getD 0) 0)) ((f ((f (o.getD 0) 1).getD 0) 0).getD 0) 2 (some (o.getD 0))) ((f (o.getD 0) 1).getD 0) 2 (f (o.getD 0) 2)) (o.getD 0) 2) = (f (o.getD 0) 2) from by rw [t2_k (show (o.getD 0) ≠ ((f (o.getD 0) 1).getD 0) by first | assumption | exact Ne.symm (by assumption)), t2_k (show (o.getD 0) ≠ ((f ((f (o.getD 0) 1).getD 0) 0).getD 0) by first | assumption | exact Ne.symm (by assumption)), t2_j (by decide)]]
        rw [eo_44]
        refine tm_get (v := va_rf (((t2 (t2 (t2 f (o.getD 0) 1 (f ((f (o.getD 0) 1).getD 0) 0)) ((f ((f (o.getD 0) 1).getD 0) 0).getD 0) 2 (some (o.getD 0))) ((f (o.getD 0) 1).getD 0) 2 (f (o.getD 0) 2)) ((f (o.getD 0) 2).getD 0) 0).map fun k => ad (20 + k))) X w hM (k := ((f (o.getD 0) 2).getD 0)) (by first | omega | assumption) 2 (by decide) q1277 rfl dJ20_rotateLeft_59 ?_
        rw [show ((t2 (t2 (t2 f (o.getD 0) 1 (f ((f (o.getD 0) 1).getD 0) 0)) ((f ((f (o.getD 0) 1).getD 0) 0).getD 0) 2 (some (o.getD 0))) ((f (o.getD 0) 1).getD 0) 2 (f (o.getD 0) 2)) ((f (o.getD 0) 2).getD 0) 0) = (f ((f (o.getD 0) 2).getD 0) 0) from by rw [t2_j (by decide), t2_j (by decide), t2_j (by decide)]]
        refine mx_aload_nQ hx hb dJ20_rotateLeft_62 rfl (lv_at hl 2 rfl) ?_
        rw [eo_1]
        refine tm_acmp_ne hM (rx := (f ((f (o.getD 0) 2).getD 0) 0)) (ry := some (o.getD 0)) (tgt := 77) hx hb dJ20_rotateLeft_63 (by decide) (fun c_63 => ?_) (fun c_63 => ?_)
        · rw [if_neg c_63] at E
          refine mx_aload_nQ hx hb dJ20_rotateLeft_77 rfl (lv_at hl 2 rfl) ?_
          rw [eo_1]
          refine tm_get (v := va_rf (((t2 (t2 (t2 f (o.getD 0) 1 (f ((f (o.getD 0) 1).getD 0) 0)) ((f ((f (o.getD 0) 1).getD 0) 0).getD 0) 2 (some (o.getD 0))) ((f (o.getD 0) 1).getD 0) 2 (f (o.getD 0) 2)) (o.getD 0) 2).map fun k => ad (20 + k))) X w hM (k := (o.getD 0)) (by first | omega | assumption) 4 (by decide) q1280 rfl dJ20_rotateLeft_78 ?_
          rw [show ((t2 (t2 (t2 f (o.getD 0) 1 (f ((f (o.getD 0) 1).getD 0) 0)) ((f ((f (o.getD 0) 1).getD 0) 0).getD 0) 2 (some (o.getD 0))) ((f (o.getD 0) 1).getD 0) 2 (f (o.getD 0) 2)) (o.getD 0) 2) = (f (o.getD 0) 2) from by rw [t2_k (show (o.getD 0) ≠ ((f (o.getD 0) 1).getD 0) by first | assumption | exact Ne.symm (by assumption)), t2_k (show (o.getD 0) ≠ ((f ((f (o.getD 0) 1).getD 0) 0).getD 0) by first | assumption | exact Ne.symm (by assumption)), t2_j (by decide)]]
          rw [eo_44]
          refine lv_aload_n hx hb dJ20_rotateLeft_81 rfl (lv_at hl 0 rfl) ?_
          refine tm_putL (o := some ((f (o.getD 0) 1).getD 0)) X w hM (k := ((f (o.getD 0) 2).getD 0)) (by first | omega | assumption) 1 (by decide) q1278 dJ20_rotateLeft_82 (fun M H locs w hM => ?_)
          refine lv_aload_n hx hb dJ20_rotateLeft_85 rfl (lv_at hl 0 rfl) ?_
          refine mx_aload_nQ hx hb dJ20_rotateLeft_86 rfl (lv_at hl 2 rfl) ?_
          rw [eo_1]
          refine tm_putL (o := some (o.getD 0)) X w hM (k := ((f (o.getD 0) 1).getD 0)) (by first | omega | assumption) 0 (by decide) q1277 dJ20_rotateLeft_87 (fun M H locs w hM => ?_)
          refine mx_aload_nQ hx hb dJ20_rotateLeft_90 rfl (lv_at hl 2 rfl) ?_
          rw [eo_1]
          refine lv_aload_n hx hb dJ20_rotateLeft_91 rfl (lv_at hl 0 rfl) ?_
          refine tm_putL (o := some ((f (o.getD 0) 1).getD 0)) X w hM (k := (o.getD 0)) (by first | omega | assumption) 2 (by decide) q1280 dJ20_rotateLeft_92 (fun M H locs w hM => ?_)
          exact fin M H locs ls 95 dJ20_rotateLeft_95 (by rw [← E]; exact hM) w
        · rw [if_pos c_63] at E
          refine mx_aload_nQ hx hb dJ20_rotateLeft_66 rfl (lv_at hl 2 rfl) ?_
          rw [eo_1]
          refine tm_get (v := va_rf (((t2 (t2 (t2 f (o.getD 0) 1 (f ((f (o.getD 0) 1).getD 0) 0)) ((f ((f (o.getD 0) 1).getD 0) 0).getD 0) 2 (some (o.getD 0))) ((f (o.getD 0) 1).getD 0) 2 (f (o.getD 0) 2)) (o.getD 0) 2).map fun k => ad (20 + k))) X w hM (k := (o.getD 0)) (by first | omega | assumption) 4 (by decide) q1280 rfl dJ20_rotateLeft_67 ?_
          rw [show ((t2 (t2 (t2 f (o.getD 0) 1 (f ((f (o.getD 0) 1).getD 0) 0)) ((f ((f (o.getD 0) 1).getD 0) 0).getD 0) 2 (some (o.getD 0))) ((f (o.getD 0) 1).getD 0) 2 (f (o.getD 0) 2)) (o.getD 0) 2) = (f (o.getD 0) 2) from by rw [t2_k (show (o.getD 0) ≠ ((f (o.getD 0) 1).getD 0) by first | assumption | exact Ne.symm (by assumption)), t2_k (show (o.getD 0) ≠ ((f ((f (o.getD 0) 1).getD 0) 0).getD 0) by first | assumption | exact Ne.symm (by assumption)), t2_j (by decide)]]
          rw [eo_44]
          refine lv_aload_n hx hb dJ20_rotateLeft_70 rfl (lv_at hl 0 rfl) ?_
          refine tm_putL (o := some ((f (o.getD 0) 1).getD 0)) X w hM (k := ((f (o.getD 0) 2).getD 0)) (by first | omega | assumption) 0 (by decide) q1277 dJ20_rotateLeft_71 (fun M H locs w hM => ?_)
          refine lv_goto (tgt := 85) hx hb dJ20_rotateLeft_74 (by decide) ?_
          refine lv_aload_n hx hb dJ20_rotateLeft_85 rfl (lv_at hl 0 rfl) ?_
          refine mx_aload_nQ hx hb dJ20_rotateLeft_86 rfl (lv_at hl 2 rfl) ?_
          rw [eo_1]
          refine tm_putL (o := some (o.getD 0)) X w hM (k := ((f (o.getD 0) 1).getD 0)) (by first | omega | assumption) 0 (by decide) q1277 dJ20_rotateLeft_87 (fun M H locs w hM => ?_)
          refine mx_aload_nQ hx hb dJ20_rotateLeft_90 rfl (lv_at hl 2 rfl) ?_
          rw [eo_1]
          refine lv_aload_n hx hb dJ20_rotateLeft_91 rfl (lv_at hl 0 rfl) ?_
          refine tm_putL (o := some ((f (o.getD 0) 1).getD 0)) X w hM (k := (o.getD 0)) (by first | omega | assumption) 2 (by decide) q1280 dJ20_rotateLeft_92 (fun M H locs w hM => ?_)
          exact fin M H locs ls 95 dJ20_rotateLeft_95 (by rw [← E]; exact hM) w
      · rw [if_pos c_44] at E
        refine lv_aload_n hx hb dJ20_rotateLeft_47 rfl (lv_at hl 1 rfl) ?_
        refine lv_aload_n hx hb dJ20_rotateLeft_48 rfl (lv_at hl 0 rfl) ?_
        refine tm_putR (o := some ((f (o.getD 0) 1).getD 0)) X w hM q927 dJ20_rotateLeft_49 (fun M H locs w hM => ?_)
        refine lv_goto (tgt := 85) hx hb dJ20_rotateLeft_52 (by decide) ?_
        refine lv_aload_n hx hb dJ20_rotateLeft_85 rfl (lv_at hl 0 rfl) ?_
        refine mx_aload_nQ hx hb dJ20_rotateLeft_86 rfl (lv_at hl 2 rfl) ?_
        rw [eo_1]
        refine tm_putL (o := some (o.getD 0)) X w hM (k := ((f (o.getD 0) 1).getD 0)) (by first | omega | assumption) 0 (by decide) q1277 dJ20_rotateLeft_87 (fun M H locs w hM => ?_)
        refine mx_aload_nQ hx hb dJ20_rotateLeft_90 rfl (lv_at hl 2 rfl) ?_
        rw [eo_1]
        refine lv_aload_n hx hb dJ20_rotateLeft_91 rfl (lv_at hl 0 rfl) ?_
        refine tm_putL (o := some ((f (o.getD 0) 1).getD 0)) X w hM (k := (o.getD 0)) (by first | omega | assumption) 2 (by decide) q1280 dJ20_rotateLeft_92 (fun M H locs w hM => ?_)
        exact fin M H locs ls 95 dJ20_rotateLeft_95 (by rw [← E]; exact hM) w
def cf_rotR (f : tT) (o : Option Nat) : tT := (if o = none then f else (if (f ((f (o.getD 0) 0).getD 0) 1) = none then (if (f (o.getD 0) 2) = none then (t2 (t2 (t2 (t2 (t2 f (o.getD 0) 0 (f ((f (o.getD 0) 0).getD 0) 1)) ((f (o.getD 0) 0).getD 0) 2 (f (o.getD 0) 2)) 0 6 (some ((f (o.getD 0) 0).getD 0))) ((f (o.getD 0) 0).getD 0) 1 (some (o.getD 0))) (o.getD 0) 2 (some ((f (o.getD 0) 0).getD 0))) else (if (f ((f (o.getD 0) 2).getD 0) 1) = (some (o.getD 0)) then (t2 (t2 (t2 (t2 (t2 f (o.getD 0) 0 (f ((f (o.getD 0) 0).getD 0) 1)) ((f (o.getD 0) 0).getD 0) 2 (f (o.getD 0) 2)) ((f (o.getD 0) 2).getD 0) 1 (some ((f (o.getD 0) 0).getD 0))) ((f (o.getD 0) 0).getD 0) 1 (some (o.getD 0))) (o.getD 0) 2 (some ((f (o.getD 0) 0).getD 0))) else (t2 (t2 (t2 (t2 (t2 f (o.getD 0) 0 (f ((f (o.getD 0) 0).getD 0) 1)) ((f (o.getD 0) 0).getD 0) 2 (f (o.getD 0) 2)) ((f (o.getD 0) 2).getD 0) 0 (some ((f (o.getD 0) 0).getD 0))) ((f (o.getD 0) 0).getD 0) 1 (some (o.getD 0))) (o.getD 0) 2 (some ((f (o.getD 0) 0).getD 0))))) else (if (f (o.getD 0) 2) = none then (t2 (t2 (t2 (t2 (t2 (t2 f (o.getD 0) 0 (f ((f (o.getD 0) 0).getD 0) 1)) ((f ((f (o.getD 0) 0).getD 0) 1).getD 0) 2 (some (o.getD 0))) ((f (o.getD 0) 0).getD 0) 2 (f (o.getD 0) 2)) 0 6 (some ((f (o.getD 0) 0).getD 0))) ((f (o.getD 0) 0).getD 0) 1 (some (o.getD 0))) (o.getD 0) 2 (some ((f (o.getD 0) 0).getD 0))) else (if (f ((f (o.getD 0) 2).getD 0) 1) = (some (o.getD 0)) then (t2 (t2 (t2 (t2 (t2 (t2 f (o.getD 0) 0 (f ((f (o.getD 0) 0).getD 0) 1)) ((f ((f (o.getD 0) 0).getD 0) 1).getD 0) 2 (some (o.getD 0))) ((f (o.getD 0) 0).getD 0) 2 (f (o.getD 0) 2)) ((f (o.getD 0) 2).getD 0) 1 (some ((f (o.getD 0) 0).getD 0))) ((f (o.getD 0) 0).getD 0) 1 (some (o.getD 0))) (o.getD 0) 2 (some ((f (o.getD 0) 0).getD 0))) else (t2 (t2 (t2 (t2 (t2 (t2 f (o.getD 0) 0 (f ((f (o.getD 0) 0).getD 0) 1)) ((f ((f (o.getD 0) 0).getD 0) 1).getD 0) 2 (some (o.getD 0))) ((f (o.getD 0) 0).getD 0) 2 (f (o.getD 0) 2)) ((f (o.getD 0) 2).getD 0) 0 (some ((f (o.getD 0) 0).getD 0))) ((f (o.getD 0) 0).getD 0) 1 (some (o.getD 0))) (o.getD 0) 2 (some ((f (o.getD 0) 0).getD 0)))))))
set_option maxHeartbeats 4000000 in
set_option maxRecDepth 100000 in
theorem ct_rotR (l : Launch) (G : mg) (A : Nat → Prop) (ad : Nat → Nat) (np : Nat) (M0 : mh) (f : tT) (o : Option Nat) (m : Nat) (lo hi ps : Nat → Nat) (hT : TI np m f lo hi ps) (h : ∀ i, o = some i → lo i < hi i ∧ ¬ f i 0 = none) : Met l yJ20_rotateRight (ws_ yJ20_rotateRight cJ20_rotateRight 3 (none)) ({ frames := 0, cells := 0, slots := 0, locals := 0 }) (va_Pc [.ref (ad 0), va_rf (o.map fun k => ad (20 + k))] (mU G A (fun M => Tm G ad np M0 M f))) (mQv G A (fun M => Tm G ad np M0 M (cf_rotR f o))) 0 0 A := by
  refine mx_ofv (by decide) (by cases o <;> exact Nat.le_of_ble_eq_true rfl) ?_
  intro p e R s m av below meth c M H Q ls X hRf hRl hRc hRs hin hM w fin hl
  have X : CallFix p m c cJ20_rotateRight 3 s av lw_all "java/util/TreeMap" := X
  have hx := X.1
  have hb := X.2.1
  have hl : lv_has ls 3 [(0, .ref (ad 0)), (1, va_rf (o.map fun k => ad (20 + k)))] := by cases o <;> exact hl
  have hRf : R.frames = 0 := hRf
  have hRl : R.locals = 0 := hRl
  have hRc : R.cells = 0 := hRc
  have hRs : R.slots = 0 := hRs
  generalize ([] : List Loc) = locs at w ⊢
  generalize E : cf_rotR f o = z at fin
  rw [cf_rotR] at E
  refine mx_aload_nQ hx hb dJ20_rotateRight_0 rfl (lv_at hl 1 rfl) ?_
  refine mx_ifnullP (tgt := 95) hx hb dJ20_rotateRight_1 (by decide) (fun c_1 => ?_) (fun c_1 => ?_)
  · rw [if_pos c_1] at E
    exact fin M H locs ls 95 dJ20_rotateRight_95 (by rw [← E]; exact hM) w
  · rw [if_neg c_1] at E
    have eo_1 : va_rf (o.map fun k => ad (20 + k)) = .ref (ad (20 + (o.getD 0))) := P_ref c_1
    obtain ⟨h9a, h9b⟩ := h _ (P_some c_1)
    have hk1 : (o.getD 0) < np := (hT.b h9a).1
    obtain ⟨h9c, h9d, h9e, h9f⟩ := hT.left h9a (P_some h9b)
    have hk2 : ((f (o.getD 0) 0).getD 0) < np := (hT.b h9c).1
    have hb1 := hT.b h9a
    have hb2 := hT.b h9c
    have hn1 : (o.getD 0) ≠ ((f (o.getD 0) 0).getD 0) := fun e => by rw [← e] at h9d h9e hb2; omega
    refine mx_aload_nQ hx hb dJ20_rotateRight_4 rfl (lv_at hl 1 rfl) ?_
    rw [eo_1]
    refine tm_get (v := va_rf ((f (o.getD 0) 0).map fun k => ad (20 + k))) X w hM (k := (o.getD 0)) (by first | omega | assumption) 2 (by decide) q1277 rfl dJ20_rotateRight_5 ?_
    have eo_5 : va_rf ((f (o.getD 0) 0).map fun k => ad (20 + k)) = .ref (ad (20 + ((f (o.getD 0) 0).getD 0))) := P_ref (h9b)
    rw [eo_5]
    refine lv_astore_n (lv' := [(2, .ref (ad (20 + ((f (o.getD 0) 0).getD 0)))), (0, .ref (ad 0)), (1, va_rf (o.map fun k => ad (20 + k)))]) hx hb dJ20_rotateRight_8 rfl hl (by decide) (by first | rfl | (simp only [List.filter, va_rf_cat]; rfl)) (fun ls hl => ?_)
    refine mx_aload_nQ hx hb dJ20_rotateRight_9 rfl (lv_at hl 2 rfl) ?_
    rw [eo_1]
    refine lv_aload_n hx hb dJ20_rotateRight_10 rfl (lv_at hl 0 rfl) ?_
    refine tm_get (v := va_rf ((f ((f (o.getD 0) 0).getD 0) 1).map fun k => ad (20 + k))) X w hM (k := ((f (o.getD 0) 0).getD 0)) (by first | omega | assumption) 3 (by decide) q1278 rfl dJ20_rotateRight_11 ?_
    refine tm_putL (o := (f ((f (o.getD 0) 0).getD 0) 1)) X w hM (k := (o.getD 0)) (by first | omega | assumption) 0 (by decide) q1277 dJ20_rotateRight_14 (fun M H locs w hM => ?_)
    refine lv_aload_n hx hb dJ20_rotateRight_17 rfl (lv_at hl 0 rfl) ?_
    refine tm_get (v := va_rf (((t2 f (o.getD 0) 0 (f ((f (o.getD 0) 0).getD 0) 1)) ((f (o.getD 0) 0).getD 0) 1).map fun k => ad (20 + k))) X w hM (k := ((f (o.getD 0) 0).getD 0)) (by first | omega | assumption) 3 (by decide) q1278 rfl dJ20_rotateRight_18 ?_
    rw [show ((t2 f (o.getD 0) 0 (f ((f (o.getD 0) 0).getD 0) 1)) ((f (o.getD 0) 0).getD 0) 1) = (f ((f (o.getD 0) 0).getD 0) 1) from by rw [t2_j (by decide)]]
    refine mx_ifnullP (tgt := 32) hx hb dJ20_rotateRight_21 (by decide) (fun c_21 => ?_) (fun c_21 => ?_)
    · rw [if_pos c_21] at E
      refine lv_aload_n hx hb dJ20_rotateRight_32 rfl (lv_at hl 0 rfl) ?_
      refine mx_aload_nQ hx hb dJ20_rotateRight_33 rfl (lv_at hl 2 rfl) ?_
      rw [eo_1]
      refine tm_get (v := va_rf (((t2 f (o.getD 0) 0 (f ((f (o.getD 0) 0).getD 0) 1)) (o.getD 0) 2).map fun k => ad (20 + k))) X w hM (k := (o.getD 0)) (by first | omega | assumption) 4 (by decide) q1280 rfl dJ20_rotateRight_34 ?_
      rw [show ((t2 f (o.getD 0) 0 (f ((f (o.getD 0) 0).getD 0) 1)) (o.getD 0) 2) = (f (o.getD 0) 2) from by rw [t2_j (by decide)]]
      refine tm_putL (o := (f (o.getD 0) 2)) X w hM (k := ((f (o.getD 0) 0).getD 0)) (by first | omega | assumption) 2 (by decide) q1280 dJ20_rotateRight_37 (fun M H locs w hM => ?_)
      refine mx_aload_nQ hx hb dJ20_rotateRight_40 rfl (lv_at hl 2 rfl) ?_
      rw [eo_1]
      refine tm_get (v := va_rf (((t2 (t2 f (o.getD 0) 0 (f ((f (o.getD 0) 0).getD 0) 1)) ((f (o.getD 0) 0).getD 0) 2 (f (o.getD 0) 2)) (o.getD 0) 2).map fun k => ad (20 + k))) X w hM (k := (o.getD 0)) (by first | omega | assumption) 4 (by decide) q1280 rfl dJ20_rotateRight_41 ?_
      rw [show ((t2 (t2 f (o.getD 0) 0 (f ((f (o.getD 0) 0).getD 0) 1)) ((f (o.getD 0) 0).getD 0) 2 (f (o.getD 0) 2)) (o.getD 0) 2) = (f (o.getD 0) 2) from by rw [t2_k (show (o.getD 0) ≠ ((f (o.getD 0) 0).getD 0) by first | assumption | exact Ne.symm (by assumption)), t2_j (by decide)]]
      refine mx_ifnonnullP (tgt := 55) hx hb dJ20_rotateRight_44 (by decide) (fun c_44 => ?_) (fun c_44 => ?_)
      · rw [if_neg c_44] at E
        have eo_44 : va_rf ((f (o.getD 0) 2).map fun k => ad (20 + k)) = .ref (ad (20 + ((f (o.getD 0) 2).getD 0))) := P_ref c_44
        have hk4 : ((f (o.getD 0) 2).getD 0) < np := (hT.b (hT.par h9a (P_some c_44)).1).1
        refine mx_aload_nQ hx hb dJ20_rotateRight_55 rfl (lv_at hl 2 rfl) ?_
        rw [eo_1]
        refine tm_get (v := va_rf (((t2 (t2 f (o.getD 0) 0 (f ((f (o.getD 0) 0).getD 0) 1)) ((f (o.getD 0) 0).getD 0) 2 (f (o.getD 0) 2)) (o.getD 0) 2).map fun k => ad (20 + k))) X w hM (k := (o.getD 0)) (by first | omega | assumption) 4 (by decide) q1280 rfl dJ20_rotateRight_56 ?_
        rw [show ((t2 (t2 f (o.getD 0) 0 (f ((f (o.getD 0) 0).getD 0) 1)) ((f (o.getD 0) 0).getD 0) 2 (f (o.getD 0) 2)) (o.getD 0) 2) = (f (o.getD 0) 2) from by rw [t2_k (show (o.getD 0) ≠ ((f (o.getD 0) 0).getD 0) by first | assumption | exact Ne.symm (by assumption)), t2_j (by decide)]]
        rw [eo_44]
        refine tm_get (v := va_rf (((t2 (t2 f (o.getD 0) 0 (f ((f (o.getD 0) 0).getD 0) 1)) ((f (o.getD 0) 0).getD 0) 2 (f (o.getD 0) 2)) ((f (o.getD 0) 2).getD 0) 1).map fun k => ad (20 + k))) X w hM (k := ((f (o.getD 0) 2).getD 0)) (by first | omega | assumption) 3 (by decide) q1278 rfl dJ20_rotateRight_59 ?_
        rw [show ((t2 (t2 f (o.getD 0) 0 (f ((f (o.getD 0) 0).getD 0) 1)) ((f (o.getD 0) 0).getD 0) 2 (f (o.getD 0) 2)) ((f (o.getD 0) 2).getD 0) 1) = (f ((f (o.getD 0) 2).getD 0) 1) from by rw [t2_j (by decide), t2_j (by decide)]]
        refine mx_aload_nQ hx hb dJ20_rotateRight_62 rfl (lv_at hl 2 rfl) ?_
        rw [eo_1]
        refine tm_acmp_ne hM (rx := (f ((f (o.getD 0) 2).getD 0) 1)) (ry := some (o.getD 0)) (tgt := 77) hx hb dJ20_rotateRight_63 (by decide) (fun c_63 => ?_) (fun c_63 => ?_)
        · rw [if_neg c_63] at E
          refine mx_aload_nQ hx hb dJ20_rotateRight_77 rfl (lv_at hl 2 rfl) ?_
          rw [eo_1]
          refine tm_get (v := va_rf (((t2 (t2 f (o.getD 0) 0 (f ((f (o.getD 0) 0).getD 0) 1)) ((f (o.getD 0) 0).getD 0) 2 (f (o.getD 0) 2)) (o.getD 0) 2).map fun k => ad (20 + k))) X w hM (k := (o.getD 0)) (by first | omega | assumption) 4 (by decide) q1280 rfl dJ20_rotateRight_78 ?_
          rw [show ((t2 (t2 f (o.getD 0) 0 (f ((f (o.getD 0) 0).getD 0) 1)) ((f (o.getD 0) 0).getD 0) 2 (f (o.getD 0) 2)) (o.getD 0) 2) = (f (o.getD 0) 2) from by rw [t2_k (show (o.getD 0) ≠ ((f (o.getD 0) 0).getD 0) by first | assumption | exact Ne.symm (by assumption)), t2_j (by decide)]]
          rw [eo_44]
          refine lv_aload_n hx hb dJ20_rotateRight_81 rfl (lv_at hl 0 rfl) ?_
          refine tm_putL (o := some ((f (o.getD 0) 0).getD 0)) X w hM (k := ((f (o.getD 0) 2).getD 0)) (by first | omega | assumption) 0 (by decide) q1277 dJ20_rotateRight_82 (fun M H locs w hM => ?_)
          refine lv_aload_n hx hb dJ20_rotateRight_85 rfl (lv_at hl 0 rfl) ?_
          refine mx_aload_nQ hx hb dJ20_rotateRight_86 rfl (lv_at hl 2 rfl) ?_
          rw [eo_1]
          refine tm_putL (o := some (o.getD 0)) X w hM (k := ((f (o.getD 0) 0).getD 0)) (by first | omega | assumption) 1 (by decide) q1278 dJ20_rotateRight_87 (fun M H locs w hM => ?_)
          refine mx_aload_nQ hx hb dJ20_rotateRight_90 rfl (lv_at hl 2 rfl) ?_
          rw [eo_1]
          refine lv_aload_n hx hb dJ20_rotateRight_91 rfl (lv_at hl 0 rfl) ?_
          refine tm_putL (o := some ((f (o.getD 0) 0).getD 0)) X w hM (k := (o.getD 0)) (by first | omega | assumption) 2 (by decide) q1280 dJ20_rotateRight_92 (fun M H locs w hM => ?_)
          exact fin M H locs ls 95 dJ20_rotateRight_95 (by rw [← E]; exact hM) w
        · rw [if_pos c_63] at E
          refine mx_aload_nQ hx hb dJ20_rotateRight_66 rfl (lv_at hl 2 rfl) ?_
          rw [eo_1]
          refine tm_get (v := va_rf (((t2 (t2 f (o.getD 0) 0 (f ((f (o.getD 0) 0).getD 0) 1)) ((f (o.getD 0) 0).getD 0) 2 (f (o.getD 0) 2)) (o.getD 0) 2).map fun k => ad (20 + k))) X w hM (k := (o.getD 0)) (by first | omega | assumption) 4 (by decide) q1280 rfl dJ20_rotateRight_67 ?_
          rw [show ((t2 (t2 f (o.getD 0) 0 (f ((f (o.getD 0) 0).getD 0) 1)) ((f (o.getD 0) 0).getD 0) 2 (f (o.getD 0) 2)) (o.getD 0) 2) = (f (o.getD 0) 2) from by rw [t2_k (show (o.getD 0) ≠ ((f (o.getD 0) 0).getD 0) by first | assumption | exact Ne.symm (by assumption)), t2_j (by decide)]]
          rw [eo_44]
          refine lv_aload_n hx hb dJ20_rotateRight_70 rfl (lv_at hl 0 rfl) ?_
          refine tm_putL (o := some ((f (o.getD 0) 0).getD 0)) X w hM (k := ((f (o.getD 0) 2).getD 0)) (by first | omega | assumption) 1 (by decide) q1278 dJ20_rotateRight_71 (fun M H locs w hM => ?_)
          refine lv_goto (tgt := 85) hx hb dJ20_rotateRight_74 (by decide) ?_
          refine lv_aload_n hx hb dJ20_rotateRight_85 rfl (lv_at hl 0 rfl) ?_
          refine mx_aload_nQ hx hb dJ20_rotateRight_86 rfl (lv_at hl 2 rfl) ?_
          rw [eo_1]
          refine tm_putL (o := some (o.getD 0)) X w hM (k := ((f (o.getD 0) 0).getD 0)) (by first | omega | assumption) 1 (by decide) q1278 dJ20_rotateRight_87 (fun M H locs w hM => ?_)
          refine mx_aload_nQ hx hb dJ20_rotateRight_90 rfl (lv_at hl 2 rfl) ?_
          rw [eo_1]
          refine lv_aload_n hx hb dJ20_rotateRight_91 rfl (lv_at hl 0 rfl) ?_
          refine tm_putL (o := some ((f (o.getD 0) 0).getD 0)) X w hM (k := (o.getD 0)) (by first | omega | assumption) 2 (by decide) q1280 dJ20_rotateRight_92 (fun M H locs w hM => ?_)
          exact fin M H locs ls 95 dJ20_rotateRight_95 (by rw [← E]; exact hM) w
      · rw [if_pos c_44] at E
        refine lv_aload_n hx hb dJ20_rotateRight_47 rfl (lv_at hl 1 rfl) ?_
        refine lv_aload_n hx hb dJ20_rotateRight_48 rfl (lv_at hl 0 rfl) ?_
        refine tm_putR (o := some ((f (o.getD 0) 0).getD 0)) X w hM q927 dJ20_rotateRight_49 (fun M H locs w hM => ?_)
        refine lv_goto (tgt := 85) hx hb dJ20_rotateRight_52 (by decide) ?_
        refine lv_aload_n hx hb dJ20_rotateRight_85 rfl (lv_at hl 0 rfl) ?_
        refine mx_aload_nQ hx hb dJ20_rotateRight_86 rfl (lv_at hl 2 rfl) ?_
        rw [eo_1]
        refine tm_putL (o := some (o.getD 0)) X w hM (k := ((f (o.getD 0) 0).getD 0)) (by first | omega | assumption) 1 (by decide) q1278 dJ20_rotateRight_87 (fun M H locs w hM => ?_)
        refine mx_aload_nQ hx hb dJ20_rotateRight_90 rfl (lv_at hl 2 rfl) ?_
        rw [eo_1]
        refine lv_aload_n hx hb dJ20_rotateRight_91 rfl (lv_at hl 0 rfl) ?_
        refine tm_putL (o := some ((f (o.getD 0) 0).getD 0)) X w hM (k := (o.getD 0)) (by first | omega | assumption) 2 (by decide) q1280 dJ20_rotateRight_92 (fun M H locs w hM => ?_)
        exact fin M H locs ls 95 dJ20_rotateRight_95 (by rw [← E]; exact hM) w
    · rw [if_neg c_21] at E
      have eo_21 : va_rf ((f ((f (o.getD 0) 0).getD 0) 1).map fun k => ad (20 + k)) = .ref (ad (20 + ((f ((f (o.getD 0) 0).getD 0) 1).getD 0))) := P_ref c_21
      obtain ⟨h8a, h8b, h8c, h8d⟩ := hT.right h9c (P_some c_21)
      have hk3 : ((f ((f (o.getD 0) 0).getD 0) 1).getD 0) < np := (hT.b h8a).1
      have hb3 := hT.b h8a
      have hn2 : (o.getD 0) ≠ ((f ((f (o.getD 0) 0).getD 0) 1).getD 0) := fun e => by rw [← e] at h8b h8c; omega
      have hn3 : ((f (o.getD 0) 0).getD 0) ≠ ((f ((f (o.getD 0) 0).getD 0) 1).getD 0) := fun e => by rw [← e] at h8b h8c; omega
      refine lv_aload_n hx hb dJ20_rotateRight_24 rfl (lv_at hl 0 rfl) ?_
      refine tm_get (v := va_rf (((t2 f (o.getD 0) 0 (f ((f (o.getD 0) 0).getD 0) 1)) ((f (o.getD 0) 0).getD 0) 1).map fun k => ad (20 + k))) X w hM (k := ((f (o.getD 0) 0).getD 0)) (by first | omega | assumption) 3 (by decide) q1278 rfl dJ20_rotateRight_25 ?_
      rw [show ((t2 f (o.getD 0) 0 (f ((f (o.getD 0) 0).getD 0) 1)) ((f (o.getD 0) 0).getD 0) 1) = (f ((f (o.getD 0) 0).getD 0) 1) from by rw [t2_j (by decide)]]
      rw [eo_21]
      refine mx_aload_nQ hx hb dJ20_rotateRight_28 rfl (lv_at hl 2 rfl) ?_
      rw [eo_1]
      refine tm_putL (o := some (o.getD 0)) X w hM (k := ((f ((f (o.getD 0) 0).getD 0) 1).getD 0)) (by first | omega | assumption) 2 (by decide) q1280 dJ20_rotateRight_29 (fun M H locs w hM => ?_)
      refine lv_aload_n hx hb dJ20_rotateRight_32 rfl (lv_at hl 0 rfl) ?_
      refine mx_aload_nQ hx hb dJ20_rotateRight_33 rfl (lv_at hl 2 rfl) ?_
      rw [eo_1]
      refine tm_get (v := va_rf (((t2 (t2 f (o.getD 0) 0 (f ((f (o.getD 0) 0).getD 0) 1)) ((f ((f (o.getD 0) 0).getD 0) 1).getD 0) 2 (some (o.getD 0))) (o.getD 0) 2).map fun k => ad (20 + k))) X w hM (k := (o.getD 0)) (by first | omega | assumption) 4 (by decide) q1280 rfl dJ20_rotateRight_34 ?_
      rw [show ((t2 (t2 f (o.getD 0) 0 (f ((f (o.getD 0) 0).getD 0) 1)) ((f ((f (o.getD 0) 0).getD 0) 1).getD 0) 2 (some (o.getD 0))) (o.getD 0) 2) = (f (o.getD 0) 2) from by rw [t2_k (show (o.getD 0) ≠ ((f ((f (o.getD 0) 0).getD 0) 1).getD 0) by first | assumption | exact Ne.symm (by assumption)), t2_j (by decide)]]
      refine tm_putL (o := (f (o.getD 0) 2)) X w hM (k := ((f (o.getD 0) 0).getD 0)) (by first | omega | assumption) 2 (by decide) q1280 dJ20_rotateRight_37 (fun M H locs w hM => ?_)
      refine mx_aload_nQ hx hb dJ20_rotateRight_40 rfl (lv_at hl 2 rfl) ?_
      rw [eo_1]
      refine tm_get (v := va_rf (((t2 (t2 (t2 f (o.getD 0) 0 (f ((f (o.getD 0) 0).getD 0) 1)) ((f ((f (o.getD 0) 0).getD 0) 1).getD 0) 2 (some (o.getD 0))) ((f (o.getD 0) 0).getD 0) 2 (f (o.getD 0) 2)) (o.getD 0) 2).map fun k => ad (20 + k))) X w hM (k := (o.getD 0)) (by first | omega | assumption) 4 (by decide) q1280 rfl dJ20_rotateRight_41 ?_
      rw [show ((t2 (t2 (t2 f (o.getD 0) 0 (f ((f (o.getD 0) 0).getD 0) 1)) ((f ((f (o.getD 0) 0).getD 0) 1).getD 0) 2 (some (o.getD 0))) ((f (o.getD 0) 0).getD 0) 2 (f (o.getD 0) 2)) (o.getD 0) 2) = (f (o.getD 0) 2) from by rw [t2_k (show (o.getD 0) ≠ ((f (o.getD 0) 0).getD 0) by first | assumption | exact Ne.symm (by assumption)), t2_k (show (o.getD 0) ≠ ((f ((f (o.getD 0) 0).getD 0) 1).getD 0) by first | assumption | exact Ne.symm (by assumption)), t2_j (by decide)]]
      refine mx_ifnonnullP (tgt := 55) hx hb dJ20_rotateRight_44 (by decide) (fun c_44 => ?_) (fun c_44 => ?_)
      · rw [if_neg c_44] at E
        have eo_44 : va_rf ((f (o.getD 0) 2).map fun k => ad (20 + k)) = .ref (ad (20 + ((f (o.getD 0) 2).getD 0))) := P_ref c_44
        have hk4 : ((f (o.getD 0) 2).getD 0) < np := (hT.b (hT.par h9a (P_some c_44)).1).1
        refine mx_aload_nQ hx hb dJ20_rotateRight_55 rfl (lv_at hl 2 rfl) ?_
        rw [eo_1]
        refine tm_get (v := va_rf (((t2 (t2 (t2 f (o.getD 0) 0 (f ((f (o.getD 0) 0).getD 0) 1)) ((f ((f (o.getD 0) 0).getD 0) 1).getD 0) 2 (some (o.getD 0))) ((f (o.getD 0) 0).getD 0) 2 (f (o.getD 0) 2)) (o.getD 0) 2).map fun k => ad (20 + k))) X w hM (k := (o.getD 0)) (by first | omega | assumption) 4 (by decide) q1280 rfl dJ20_rotateRight_56 ?_
        rw [show ((t2 (t2 (t2 f (o.getD 0) 0 (f ((f (o.getD 0) 0).getD 0) 1)) ((f ((f (o.getD 0) 0).getD 0) 1).getD 0) 2 (some (o.getD 0))) ((f (o.getD 0) 0).getD 0) 2 (f (o.getD 0) 2)) (o.getD 0) 2) = (f (o.getD 0) 2) from by rw [t2_k (show (o.getD 0) ≠ ((f (o.getD 0) 0).getD 0) by first | assumption | exact Ne.symm (by assumption)), t2_k (show (o.getD 0) ≠ ((f ((f (o.getD 0) 0).getD 0) 1).getD 0) by first | assumption | exact Ne.symm (by assumption)), t2_j (by decide)]]
        rw [eo_44]
        refine tm_get (v := va_rf (((t2 (t2 (t2 f (o.getD 0) 0 (f ((f (o.getD 0) 0).getD 0) 1)) ((f ((f (o.getD 0) 0).getD 0) 1).getD 0) 2 (some (o.getD 0))) ((f (o.getD 0) 0).getD 0) 2 (f (o.getD 0) 2)) ((f (o.getD 0) 2).getD 0) 1).map fun k => ad (20 + k))) X w hM (k := ((f (o.getD 0) 2).getD 0)) (by first | omega | assumption) 3 (by decide) q1278 rfl dJ20_rotateRight_59 ?_
        rw [show ((t2 (t2 (t2 f (o.getD 0) 0 (f ((f (o.getD 0) 0).getD 0) 1)) ((f ((f (o.getD 0) 0).getD 0) 1).getD 0) 2 (some (o.getD 0))) ((f (o.getD 0) 0).getD 0) 2 (f (o.getD 0) 2)) ((f (o.getD 0) 2).getD 0) 1) = (f ((f (o.getD 0) 2).getD 0) 1) from by rw [t2_j (by decide), t2_j (by decide), t2_j (by decide)]]
        refine mx_aload_nQ hx hb dJ20_rotateRight_62 rfl (lv_at hl 2 rfl) ?_
        rw [eo_1]
        refine tm_acmp_ne hM (rx := (f ((f (o.getD 0) 2).getD 0) 1)) (ry := some (o.getD 0)) (tgt := 77) hx hb dJ20_rotateRight_63 (by decide) (fun c_63 => ?_) (fun c_63 => ?_)
        · rw [if_neg c_63] at E
          refine mx_aload_nQ hx hb dJ20_rotateRight_77 rfl (lv_at hl 2 rfl) ?_
          rw [eo_1]
          refine tm_get (v := va_rf (((t2 (t2 (t2 f (o.getD 0) 0 (f ((f (o.getD 0) 0).getD 0) 1)) ((f ((f (o.getD 0) 0).getD 0) 1).getD 0) 2 (some (o.getD 0))) ((f (o.getD 0) 0).getD 0) 2 (f (o.getD 0) 2)) (o.getD 0) 2).map fun k => ad (20 + k))) X w hM (k := (o.getD 0)) (by first | omega | assumption) 4 (by decide) q1280 rfl dJ20_rotateRight_78 ?_
          rw [show ((t2 (t2 (t2 f (o.getD 0) 0 (f ((f (o.getD 0) 0).getD 0) 1)) ((f ((f (o.getD 0) 0).getD 0) 1).getD 0) 2 (some (o.getD 0))) ((f (o.getD 0) 0).getD 0) 2 (f (o.getD 0) 2)) (o.getD 0) 2) = (f (o.getD 0) 2) from by rw [t2_k (show (o.getD 0) ≠ ((f (o.getD 0) 0).getD 0) by first | assumption | exact Ne.symm (by assumption)), t2_k (show (o.getD 0) ≠ ((f ((f (o.getD 0) 0).getD 0) 1).getD 0) by first | assumption | exact Ne.symm (by assumption)), t2_j (by decide)]]
          rw [eo_44]
          refine lv_aload_n hx hb dJ20_rotateRight_81 rfl (lv_at hl 0 rfl) ?_
          refine tm_putL (o := some ((f (o.getD 0) 0).getD 0)) X w hM (k := ((f (o.getD 0) 2).getD 0)) (by first | omega | assumption) 0 (by decide) q1277 dJ20_rotateRight_82 (fun M H locs w hM => ?_)
          refine lv_aload_n hx hb dJ20_rotateRight_85 rfl (lv_at hl 0 rfl) ?_
          refine mx_aload_nQ hx hb dJ20_rotateRight_86 rfl (lv_at hl 2 rfl) ?_
          rw [eo_1]
          refine tm_putL (o := some (o.getD 0)) X w hM (k := ((f (o.getD 0) 0).getD 0)) (by first | omega | assumption) 1 (by decide) q1278 dJ20_rotateRight_87 (fun M H locs w hM => ?_)
          refine mx_aload_nQ hx hb dJ20_rotateRight_90 rfl (lv_at hl 2 rfl) ?_
          rw [eo_1]
          refine lv_aload_n hx hb dJ20_rotateRight_91 rfl (lv_at hl 0 rfl) ?_
          refine tm_putL (o := some ((f (o.getD 0) 0).getD 0)) X w hM (k := (o.getD 0)) (by first | omega | assumption) 2 (by decide) q1280 dJ20_rotateRight_92 (fun M H locs w hM => ?_)
          exact fin M H locs ls 95 dJ20_rotateRight_95 (by rw [← E]; exact hM) w
        · rw [if_pos c_63] at E
          refine mx_aload_nQ hx hb dJ20_rotateRight_66 rfl (lv_at hl 2 rfl) ?_
          rw [eo_1]
          refine tm_get (v := va_rf (((t2 (t2 (t2 f (o.getD 0) 0 (f ((f (o.getD 0) 0).getD 0) 1)) ((f ((f (o.getD 0) 0).getD 0) 1).getD 0) 2 (some (o.getD 0))) ((f (o.getD 0) 0).getD 0) 2 (f (o.getD 0) 2)) (o.getD 0) 2).map fun k => ad (20 + k))) X w hM (k := (o.getD 0)) (by first | omega | assumption) 4 (by decide) q1280 rfl dJ20_rotateRight_67 ?_
          rw [show ((t2 (t2 (t2 f (o.getD 0) 0 (f ((f (o.getD 0) 0).getD 0) 1)) ((f ((f (o.getD 0) 0).getD 0) 1).getD 0) 2 (some (o.getD 0))) ((f (o.getD 0) 0).getD 0) 2 (f (o.getD 0) 2)) (o.getD 0) 2) = (f (o.getD 0) 2) from by rw [t2_k (show (o.getD 0) ≠ ((f (o.getD 0) 0).getD 0) by first | assumption | exact Ne.symm (by assumption)), t2_k (show (o.getD 0) ≠ ((f ((f (o.getD 0) 0).getD 0) 1).getD 0) by first | assumption | exact Ne.symm (by assumption)), t2_j (by decide)]]
          rw [eo_44]
          refine lv_aload_n hx hb dJ20_rotateRight_70 rfl (lv_at hl 0 rfl) ?_
          refine tm_putL (o := some ((f (o.getD 0) 0).getD 0)) X w hM (k := ((f (o.getD 0) 2).getD 0)) (by first | omega | assumption) 1 (by decide) q1278 dJ20_rotateRight_71 (fun M H locs w hM => ?_)
          refine lv_goto (tgt := 85) hx hb dJ20_rotateRight_74 (by decide) ?_
          refine lv_aload_n hx hb dJ20_rotateRight_85 rfl (lv_at hl 0 rfl) ?_
          refine mx_aload_nQ hx hb dJ20_rotateRight_86 rfl (lv_at hl 2 rfl) ?_
          rw [eo_1]
          refine tm_putL (o := some (o.getD 0)) X w hM (k := ((f (o.getD 0) 0).getD 0)) (by first | omega | assumption) 1 (by decide) q1278 dJ20_rotateRight_87 (fun M H locs w hM => ?_)
          refine mx_aload_nQ hx hb dJ20_rotateRight_90 rfl (lv_at hl 2 rfl) ?_
          rw [eo_1]
          refine lv_aload_n hx hb dJ20_rotateRight_91 rfl (lv_at hl 0 rfl) ?_
          refine tm_putL (o := some ((f (o.getD 0) 0).getD 0)) X w hM (k := (o.getD 0)) (by first | omega | assumption) 2 (by decide) q1280 dJ20_rotateRight_92 (fun M H locs w hM => ?_)
          exact fin M H locs ls 95 dJ20_rotateRight_95 (by rw [← E]; exact hM) w
      · rw [if_pos c_44] at E
        refine lv_aload_n hx hb dJ20_rotateRight_47 rfl (lv_at hl 1 rfl) ?_
        refine lv_aload_n hx hb dJ20_rotateRight_48 rfl (lv_at hl 0 rfl) ?_
        refine tm_putR (o := some ((f (o.getD 0) 0).getD 0)) X w hM q927 dJ20_rotateRight_49 (fun M H locs w hM => ?_)
        refine lv_goto (tgt := 85) hx hb dJ20_rotateRight_52 (by decide) ?_
        refine lv_aload_n hx hb dJ20_rotateRight_85 rfl (lv_at hl 0 rfl) ?_
        refine mx_aload_nQ hx hb dJ20_rotateRight_86 rfl (lv_at hl 2 rfl) ?_
        rw [eo_1]
        refine tm_putL (o := some (o.getD 0)) X w hM (k := ((f (o.getD 0) 0).getD 0)) (by first | omega | assumption) 1 (by decide) q1278 dJ20_rotateRight_87 (fun M H locs w hM => ?_)
        refine mx_aload_nQ hx hb dJ20_rotateRight_90 rfl (lv_at hl 2 rfl) ?_
        rw [eo_1]
        refine lv_aload_n hx hb dJ20_rotateRight_91 rfl (lv_at hl 0 rfl) ?_
        refine tm_putL (o := some ((f (o.getD 0) 0).getD 0)) X w hM (k := (o.getD 0)) (by first | omega | assumption) 2 (by decide) q1280 dJ20_rotateRight_92 (fun M H locs w hM => ?_)
        exact fin M H locs ls 95 dJ20_rotateRight_95 (by rw [← E]; exact hM) w
