set_option maxRecDepth 100000
/-! BY: Integers: made, compared through Comparable -/
theorem boxAt.ext {G : mg} {M M' : mh} {y : Nat} {v : Int32} (h : boxAt G M y v) (he : ∀ q, M q ≠ none → M' q = M q) : boxAt G M' y v := by
  rcases h with h | h
  · exact Or.inl ((he y (by rw [h]; exact fun e => by cases e)).trans h)
  · exact Or.inr h
/-- a box apart from the map's cells -/
def bxo (G : mg) (ad : Nat → Nat) (np : Nat) (M0 : mh) (a : Nat) (v : Int32) : Prop := (M0 a = some (.inr (14, [.int v])) ∧ a ≠ ad 0 ∧ ∀ k, k < np → a ≠ ad (20 + k)) ∨ ∃ k : Nat, k < 256 ∧ a = G.2 (300 + k) ∧ v = vb_c k
theorem bxo.at {G : mg} {ad : Nat → Nat} {np : Nat} {M0 M : mh} {f : tT} {a : Nat} {v : Int32} (h : bxo G ad np M0 a v) (hM : Tm G ad np M0 M f) : boxAt G M a v := by
  rcases h with ⟨h1, h2, h3⟩ | h1
  · exact Or.inl ((hM.2.2.2 a h2 h3).trans h1)
  · exact Or.inr h1
theorem bxo.of {G : mg} {ad : Nat → Nat} {np : Nat} {M : mh} {f : tT} {a : Nat} {v : Int32} (hM : Tm G ad np M M f) (h : boxAt G M a v) : bxo G ad np M a v := by
  rcases h with h | h
  · refine Or.inl ⟨h, fun e => ?_, fun k hk e => ?_⟩
    · obtain ⟨sz, md, h0⟩ := hM.2.1
      rw [e, h0] at h
      cases h
    · have := hM.nd hk
      rw [e, this] at h
      cases h
  · exact Or.inr h
section BY
variable {p : Program} {l : Launch} {e : Env} {R : Room} {s : State} {m : MethodId} {args : Array Value} {below : List Frame} {meth : Method} {c : Code} {H : Heap} {locs : List Loc} {cells slots : Nat} {Q : State → Prop}
variable {G : mg} {A : Nat → Prop} {M : mh} {cc : ByteArray} {nL pc a b : Nat} {ls : Array Slot} {rest : List Value} {own : String}
theorem mx_boxcastU (X : CallFix p m c cc nL s args lw_all own) (w : mW G A s M H locs) {index : Nat} {v : Int32} (hlink : Cond.classLink own index "java/lang/Comparable" ∈ lw_all) (hy : boxAt G M a v) (hdg : decode cc pc = .ok (.checkcast index, 3))
    (kk : W p l e R s m args below meth c H locs cells slots Q (F0 m (pc + 3) ls (.ref a :: rest))) : W p l e R s m args below meth c H locs cells slots Q (F0 m pc ls (.ref a :: rest)) :=
  va_castY X.1 X.2.1 X.2.2.2.1 (X.2.2.2.2 _ hlink) (w.tbl q1032 rfl) (w.box hy) hdg kk
theorem mx_cmpTo (X : CallFix p m c cc nL s args lw_all own) (w : mW G A s M H locs) {index : Nat} (hlink : Cond.methodLink own index ⟨"java/lang/Comparable", "compareTo", "(Ljava/lang/Object;)I"⟩ ∈ lw_all) {x y : Int32} (ha : boxAt G M a x) (hbb : boxAt G M b y)
    (hfr : 2 + 1 ≤ R.frames) (hlo : 8 + (2 + 11) + 42 ≤ R.locals) (hls : ls.size = nL) (hW : (rest.map fun v => v.category).sum ≤ 8) (hc : cells ≤ R.cells) (hs : slots ≤ R.slots) (hdg : decode cc pc = .ok (.invokeinterface index 2, 5))
    (kk : ∀ (H1 : Heap) (locs1 : List Loc), mW G A s M H1 locs1 → W p l e R s m args below meth c H1 locs1 cells slots Q (F0 m (pc + 5) ls (.int (cf_icmpO x y) :: rest))) :
    W p l e R s m args below meth c H locs cells slots Q (F0 m pc ls (.ref b :: .ref a :: rest)) := by
  refine mx_biF w (va_runF (As := [.ref b]) (rest := rest) (w.cls0 (ci := 14) rfl).choose_spec X (ct_icmpO l G A M a x b y ha hbb) (va_cwF 1 X.2.2.2.2 (lw_F hlink q1033 q1035 q124 q1037) rfl rfl rfl (va_Fw.of (w.tblB (args := args) q988 rfl rfl) (w.tblB (args := args) q987 rfl rfl) (w.tblB (args := args) q1036 rfl rfl) (w.tblB (args := args) q1034 rfl rfl) (w.tblB (args := args) q1032 rfl rfl)) (by decide +kernel) ⟨hfr, hlo⟩) (mx_preVB w rfl ha) rfl rfl hls rfl (lv_room hW) hdg ⟨hc, hs⟩) (fun r M9 H1 locs1 hp w1 => ?_)
  obtain ⟨rfl, eM⟩ := hp
  subst eM
  exact kk H1 locs1 w1
theorem mx_tq (X : CallFix p m c cc nL s args lw_all own) {C : String} {t N : Nat} {f : Nat → Value} (hT : va_T (.object C) t N f A s H) {j : Nat} (hj : j < N) (hN : N < 2 ^ 31) (hdg : decode cc pc = .ok (.aaload, 1))
    (kk : W p l e R s m args below meth c H locs cells slots Q (F0 m (pc + 1) ls (f j :: rest))) : W p l e R s m args below meth c H locs cells slots Q (F0 m pc ls (.int (nI j) :: .ref t :: rest)) := by
  obtain ⟨cell, h1, h2, h3, h4, h5, h6, h7⟩ := hT
  have ec : (nI j).toNatClampNeg = j := nI_clamp (by omega)
  have hin := vp_in_nI hj hN
  have hin' : ¬ (nI j < 0 ∨ cell.slots.size ≤ (nI j).toNatClampNeg) := by
    intro q
    rcases q with q | q
    · exact hin (Or.inl q)
    · rw [ec] at q
      omega
  exact W.aald (v := f j) (ty := .object C) X.1 X.2.1 h1 h2 rfl h3 hin' (by rw [ec, h6 _ hj]) rfl rfl hdg kk
end BY
set_option maxHeartbeats 4000000 in
set_option maxRecDepth 100000 in
theorem jt_int_init (l : Launch) (G : mg) (A : Nat → Prop) (M1 : mh) (a : Nat) (x : Int32)  (h_a : M1 a = some (.inr (14, [.int (0 : Int32)])))   : Met l yJ18_init (ws_ yJ18_init cJ18_init 2 (none)) ({ frames := 2, cells := 0, slots := 0, locals := 32 }) (va_Pc [.ref a, .int x] (mU G A (fun M => M = M1))) (mQv G A (fun M => M = (va_up M1 a (some (.inr (14, [.int x])))))) 0 0 A := by
  refine mx_ofv (by decide) (Nat.le_of_ble_eq_true rfl) ?_
  intro p e R s m av below meth c M H Q ls X hRf hRl hRc hRs hin eM w fin hl
  subst M
  have X : CallFix p m c cJ18_init 2 s av lw_all "java/lang/Integer" := X
  have hx := X.1
  have hb := X.2.1
  have hl : lv_has ls 2 [(0, .ref a), (1, .int x)] := hl
  have hRf : R.frames = 2 := hRf
  have hRl : R.locals = 32 := hRl
  have hRc : R.cells = 0 := hRc
  have hRs : R.slots = 0 := hRs
  have hin : meth.name = "<init>" := hin
  generalize ([] : List Loc) = locs at w ⊢
  refine lv_aload_n hx hb dJ18_init_0 rfl (lv_at hl 0 rfl) ?_
  refine mx_bv w (va_runI (As := []) (rest := []) X (jt_num_init l G A M1 a  ) (cwI 0 X.2.2.2.2 (lw_meth q757) rfl rfl rfl (X.2.2.2.2 _ q123) (X.2.2.2.2 _ q755) (X.2.2.2.2 _ q756) rfl (by decide +kernel) ⟨by rw [hRf]; decide, by rw [hRl]; decide⟩) (mx_preS w rfl) rfl rfl hl.1 rfl (lv_room (Nat.le_of_ble_eq_true rfl)) dJ18_init_1 ⟨Nat.zero_le _, Nat.zero_le _⟩) (fun M9 H locs hp w => ?_)
  have eM := hp; subst M9
  refine lv_aload_n hx hb dJ18_init_4 rfl (lv_at hl 0 rfl) ?_
  refine lv_iload_n hx hb dJ18_init_5 rfl (lv_at hl 1 rfl) ?_
  refine mx_putF (T := TJ18) X w in_J18 tyJ18 tyJ18_ok nmJ18 (ci := 14) rfl 0 (by decide) q759 (fun _ h => h) rfl hin rfl (v := .int x) rfl rfl h_a (show 0 < 1 by decide) dJ18_init_6 (fun H locs w => ?_)
  have w : mW G A s (va_up M1 a (some (.inr (14, [.int x])))) H locs := w
  have h_a : (va_up M1 a (some (.inr (14, [.int x])))) a = some (.inr (14, [.int x])) := va_up_s
  exact fin _ H locs ls 9 dJ18_init_9 rfl w
set_option maxHeartbeats 4000000 in
set_option maxRecDepth 100000 in
theorem jt_req (l : Launch) (G : mg) (A : Nat → Prop) (M1 : mh) (a : Nat)     : Met l yJ6_requireNonNull (ws_ yJ6_requireNonNull cJ6_requireNonNull 1 (some (.object "java/lang/Object"))) ({ frames := 0, cells := 0, slots := 0, locals := 0 }) (va_Pc [.ref a] (mU G A (fun M => M = M1))) (mQq G A (fun r M => r = some a ∧ M = M1)) 0 0 A := by
  refine mx_ofq (Or.inl ⟨_, rfl⟩) (by decide) (Nat.le_of_ble_eq_true rfl) ?_
  intro p e R s m av below meth c M H Q ls X hRf hRl hRc hRs hin eM w fin hl
  subst M
  have X : CallFix p m c cJ6_requireNonNull 1 s av lw_all "java/util/Objects" := X
  have hx := X.1
  have hb := X.2.1
  have hl : lv_has ls 1 [(0, .ref a)] := hl
  have hRf : R.frames = 0 := hRf
  have hRl : R.locals = 0 := hRl
  have hRc : R.cells = 0 := hRc
  have hRs : R.slots = 0 := hRs
  generalize ([] : List Loc) = locs at w ⊢
  refine lv_aload_n hx hb dJ6_requireNonNull_0 rfl (lv_at hl 0 rfl) ?_
  refine lv_ifnonnull (tgt := 12) hx hb dJ6_requireNonNull_1 (by decide) ?_
  refine lv_aload_n hx hb dJ6_requireNonNull_12 rfl (lv_at hl 0 rfl) ?_
  exact fin (some a) _ H locs ls 13 dJ6_requireNonNull_13 ⟨rfl, rfl⟩ w
set_option maxHeartbeats 4000000 in
set_option maxRecDepth 100000 in
theorem ct_valueOf (l : Launch) (G : mg) (A : Nat → Prop) (M1 : mh) (x : Int32) : Met l yJ18_valueOf (ws_ yJ18_valueOf cJ18_valueOf 1 (some (.object "java/lang/Integer"))) ({ frames := 3, cells := 1, slots := 1, locals := 53 }) (va_Pc [.int x] (mU G A (fun M => M = M1))) (mQq G A (fun r M => ∃ q, r = some q ∧ boxAt G M q x ∧ ∀ y, M1 y ≠ none → M y = M1 y)) 1 1 A := by
  refine mx_ofq (Or.inl ⟨_, rfl⟩) (by decide) (Nat.le_of_ble_eq_true rfl) ?_
  intro p e R s m av below meth c M H Q ls X hRf hRl hRc hRs hin eM w fin hl
  subst M
  have X : CallFix p m c cJ18_valueOf 1 s av lw_all "java/lang/Integer" := X
  have hx := X.1
  have hb := X.2.1
  have hl : lv_has ls 1 [(0, .int x)] := hl
  have hRf : R.frames = 3 := hRf
  have hRl : R.locals = 53 := hRl
  have hRc : R.cells = 1 := hRc
  have hRs : R.slots = 1 := hRs
  generalize ([] : List Loc) = locs at w ⊢
  have old : x < -128 ∨ ¬ x < -128 := Classical.em _
  refine lv_iload_n hx hb dJ18_valueOf_0 rfl (lv_at hl 0 rfl) ?_
  refine lv_bipush (v := (-128 : Int32)) hx hb dJ18_valueOf_1 (by decide) ?_
  refine lv_icmp_lt (tgt := 23) hx hb dJ18_valueOf_3 (by decide) (fun h3 => ?_) (fun h3 => ?_)
  · skip
    refine mx_new (T := TJ18) X w in_J18 tyJ18 tyJ18_ok q750 q751 q124 (ci := 14) rfl (fs := [.int (0 : Int32)]) (fun j hj => vz_J18 j hj) (by rw [hRc]; omega) (by rw [hRs]; omega) dJ18_valueOf_23 (fun q H nq_q w => ?_)
    have z_q : M1 q = none := by exact nq_q
    have w : mW G A s (va_up M1 q (some (.inr (14, [.int (0 : Int32)])))) H locs := w
    have h_q : (va_up M1 q (some (.inr (14, [.int (0 : Int32)])))) q = some (.inr (14, [.int (0 : Int32)])) := va_up_s
    refine lv_dup hx hb dJ18_valueOf_26 rfl ?_
    refine lv_iload_n hx hb dJ18_valueOf_27 rfl (lv_at hl 0 rfl) ?_
    refine mx_bv w (va_runI (As := [.int x]) (rest := [.ref q]) X (jt_int_init l G A (va_up M1 q (some (.inr (14, [.int (0 : Int32)])))) q x h_q ) (cwI 1 X.2.2.2.2 (lw_meth q754) rfl rfl rfl (X.2.2.2.2 _ q124) (X.2.2.2.2 _ q752) (X.2.2.2.2 _ q753) rfl (by decide +kernel) ⟨by rw [hRf]; decide, by rw [hRl]; decide⟩) (mx_preS w rfl) rfl rfl hl.1 rfl (lv_room (Nat.le_of_ble_eq_true rfl)) dJ18_valueOf_28 ⟨by rw [hRc]; omega, by rw [hRs]; omega⟩) (fun M9 H locs hp w => ?_)
    have eM := hp; subst M9
    have h_q : (va_up (va_up M1 q (some (.inr (14, [.int (0 : Int32)])))) q (some (.inr (14, [.int x])))) q = some (.inr (14, [.int x])) := va_up_s
    have w : mW G A s (va_up (va_up M1 q (some (.inr (14, [.int (0 : Int32)])))) q (some (.inr (14, [.int x])))) H locs := w
    exact fin (some q) _ H locs ls 31 dJ18_valueOf_31 ⟨q, rfl, Or.inl va_up_s, fun y hy => (va_up_k (fun e => by rw [e] at hy; exact hy z_q)).trans (va_up_k (fun e => by rw [e] at hy; exact hy z_q))⟩ w
  · refine lv_iload_n hx hb dJ18_valueOf_6 rfl (lv_at hl 0 rfl) ?_
    refine mx_gets (v := .int (127 : Int32)) X w (C := "java/lang/Integer$IntegerCache") (by simp [kcZ]) q746 (fun _ h => h) dJ18_valueOf_7 ?_
    refine lv_icmp_gt (tgt := 23) hx hb dJ18_valueOf_10 (by decide) (fun h10 => ?_) (fun h10 => ?_)
    · skip
      refine mx_new (T := TJ18) X w in_J18 tyJ18 tyJ18_ok q750 q751 q124 (ci := 14) rfl (fs := [.int (0 : Int32)]) (fun j hj => vz_J18 j hj) (by rw [hRc]; omega) (by rw [hRs]; omega) dJ18_valueOf_23 (fun q H nq_q w => ?_)
      have z_q : M1 q = none := by exact nq_q
      have w : mW G A s (va_up M1 q (some (.inr (14, [.int (0 : Int32)])))) H locs := w
      have h_q : (va_up M1 q (some (.inr (14, [.int (0 : Int32)])))) q = some (.inr (14, [.int (0 : Int32)])) := va_up_s
      refine lv_dup hx hb dJ18_valueOf_26 rfl ?_
      refine lv_iload_n hx hb dJ18_valueOf_27 rfl (lv_at hl 0 rfl) ?_
      refine mx_bv w (va_runI (As := [.int x]) (rest := [.ref q]) X (jt_int_init l G A (va_up M1 q (some (.inr (14, [.int (0 : Int32)])))) q x h_q ) (cwI 1 X.2.2.2.2 (lw_meth q754) rfl rfl rfl (X.2.2.2.2 _ q124) (X.2.2.2.2 _ q752) (X.2.2.2.2 _ q753) rfl (by decide +kernel) ⟨by rw [hRf]; decide, by rw [hRl]; decide⟩) (mx_preS w rfl) rfl rfl hl.1 rfl (lv_room (Nat.le_of_ble_eq_true rfl)) dJ18_valueOf_28 ⟨by rw [hRc]; omega, by rw [hRs]; omega⟩) (fun M9 H locs hp w => ?_)
      have eM := hp; subst M9
      have h_q : (va_up (va_up M1 q (some (.inr (14, [.int (0 : Int32)])))) q (some (.inr (14, [.int x])))) q = some (.inr (14, [.int x])) := va_up_s
      have w : mW G A s (va_up (va_up M1 q (some (.inr (14, [.int (0 : Int32)])))) q (some (.inr (14, [.int x])))) H locs := w
      exact fin (some q) _ H locs ls 31 dJ18_valueOf_31 ⟨q, rfl, Or.inl va_up_s, fun y hy => (va_up_k (fun e => by rw [e] at hy; exact hy z_q)).trans (va_up_k (fun e => by rw [e] at hy; exact hy z_q))⟩ w
    · obtain ⟨j, hj, e1, e2⟩ := bx_small h3 h10
      refine mx_gets (v := .ref (G.2 16)) X w (C := "java/lang/Integer$IntegerCache") (by simp [kcZ]) q748 (fun _ h => h) dJ18_valueOf_13 ?_
      refine lv_iload_n hx hb dJ18_valueOf_16 rfl (lv_at hl 0 rfl) ?_
      refine lv_sipush (v := (128 : Int32)) hx hb dJ18_valueOf_17 (by decide) ?_
      refine lv_iadd hx hb dJ18_valueOf_20 ?_
      refine mx_cast (z := nI j) e1 ?_
      refine mx_tq X w.2.2.2.2.2.2.2.2.2.2.1 hj (by decide) dJ18_valueOf_21 ?_
      refine W.widen (k := 1) (n := 1) (by omega) (by omega) ?_
      exact fin (some (G.2 (300 + j))) _ H locs ls 22 dJ18_valueOf_22 ⟨_, rfl, Or.inr ⟨j, hj, rfl, e2⟩, fun _ _ => rfl⟩ w
