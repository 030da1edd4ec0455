set_option maxRecDepth 100000
/-! LD -/
/-! LD: the leader -/
section LD
variable {p : Program} {l : Launch} {e : Env} {R : Room} {s : State} {m : MethodId} {args : Array Value} {below : List Frame} {meth : Method} {c : Code} {H : Heap} {locs : List Loc} {cells slots pc nL a b : Nat} {ls : Array Slot} {rest As : List Value} {Q : State → Prop} {cc : ByteArray} {own : String} {G : mg} {A : Nat → Prop} {M M0 : mh} {P : mh → Prop}
theorem mx_opval (X : CallFix p m c cc nL s args lw_all "java/util/Optional") (w : mW G A s M H locs) {index : Nat} (hlink : Cond.fieldLink "java/util/Optional" index "java/util/Optional" "value" "Ljava/lang/Object;" ∈ lw_all) (hdg : decode cc pc = .ok (.getfield index, 3))
    (kk : W p l e R s m args below meth c H locs cells slots Q (F0 m (pc + 3) ls (.null :: rest))) : W p l e R s m args below meth c H locs cells slots Q (F0 m pc ls (.ref (G.2 1) :: rest)) := by
  obtain ⟨cf, k, fi, f, cell, h1, h2, h3, h4, h5, h6⟩ := w.2.2.2.2.2.2.2.2.2.2.2.2.2.2.1.2
  exact W.getf X.1 X.2.1 X.2.2.2.1 (X.2.2.2.2 _ hlink) h1 h2 h3 h4 (v := .null) h5 rfl rfl hdg kk
theorem mx_preVO (w : mW G A s M H locs) (hP : P M) : PreV s H "java/util/Optional" (G.2 1) (va_Pc (.ref (G.2 1) :: As) (mU G A P)) As := by
  obtain ⟨cellB, hcB, hoB, hclB, -⟩ := w.2.2.2.2.2.2.2.2.2.2.2.2.2.2.1.1
  exact ⟨mU.blind, ⟨cellB, hcB, hoB, hclB⟩, fun U hU hW => ⟨rfl, w.call hP hU hW⟩⟩
theorem st_castPo {np ng : Nat} {ad : Nat → Nat} {f : Nat → Int32} (X : CallFix p m c cc nL s args lw_all own) (w : mW G A s M H locs) (hM : Sta G ad np ng M0 M f) {index : Nat} {o : Option Nat} (ho : ∀ k, o = some k → k < np) (hlink : Cond.classLink own index "FieldPumps$Pump" ∈ lw_all) (hdg : decode cc pc = .ok (.checkcast index, 3))
    (kk : W p l e R s m args below meth c H locs cells slots Q (F0 m (pc + 3) ls (va_rf (o.map fun k => ad (20 + k)) :: rest))) : W p l e R s m args below meth c H locs cells slots Q (F0 m pc ls (va_rf (o.map fun k => ad (20 + k)) :: rest)) := by
  cases o with
  | none => exact lv_castN X.1 X.2.1 hdg kk
  | some k => exact st_castP X w hM (ho k rfl) hlink hdg kk
theorem orX_pre {lo : Nat} {ol : Option Nat} (w : mW G A s M H locs) (h : (lo = G.2 1 ∧ ol = none) ∨ (∃ x, M lo = some (.inr (18, [.ref x])) ∧ ol = some x)) : PreV s H "java/util/Optional" lo (va_Pc (.ref lo :: As) (mU G A (fun M' => M' = M))) As := by
  rcases h with ⟨rfl, _⟩ | ⟨x, h, _⟩
  · exact mx_preVO w rfl
  · exact mx_preV w rfl h rfl
end LD
/-- the leader, if any -/
def lP (f : Nat → Int32) : Option Nat := if f 4 = -1 then none else some (tN (f 4))
theorem lP_ok {f : Nat → Int32} {T np nz ng : Nat} (hS : SI T np nz ng f) : (∀ k, lP f = some k → k < np) ∧ (lP f = none → f 4 = -1) ∧ (¬ lP f = none → (lP f).getD 0 < np ∧ nI ((lP f).getD 0) = if f 4 = -1 then -1000004 else f 4) := by
  unfold lP
  by_cases c : f 4 = -1
  · rw [if_pos c]
    exact ⟨fun k hk => (by cases hk), fun _ => c, fun h => absurd rfl h⟩
  · obtain ⟨h1, h2⟩ := isP_n hS.var c hS.n6
    rw [if_neg c, if_neg c]
    exact ⟨fun k hk => (by cases hk; exact h2), fun h => (by cases h), fun _ => ⟨h2, h1.symm⟩⟩
theorem lead_or {G : mg} {M1 M : mh} {ad : Nat → Nat} {f : Nat → Int32} {r : Option Nat} (h : (f 4 = -1 ∧ r = some (G.2 1) ∧ M = M1) ∨ (¬ f 4 = -1 ∧ ∃ q, M1 q = none ∧ r = some q ∧ M q = some (.inr (18, [.ref (ad (20 + tN (f 4)))])) ∧ ∀ a, a ≠ q → M a = M1 a)) : ∃ lo, r = some lo ∧ (∀ q, M1 q ≠ none → M q = M1 q) ∧ ((lo = G.2 1 ∧ (lP f).map (fun k => ad (20 + k)) = none) ∨ (∃ x, M lo = some (.inr (18, [.ref x])) ∧ (lP f).map (fun k => ad (20 + k)) = some x)) := by
  unfold lP
  rcases h with ⟨c, e, eM⟩ | ⟨c, q, zq, e, hq, hk⟩
  · rw [if_pos c]
    exact ⟨_, e, fun _ _ => by rw [eM], Or.inl ⟨rfl, rfl⟩⟩
  · rw [if_neg c]
    exact ⟨_, e, fun a ha => hk a (fun z => ha (by rw [z]; exact zq)), Or.inr ⟨_, hq, rfl⟩⟩

set_option maxHeartbeats 4000000 in
set_option maxRecDepth 100000 in
theorem ct_orE (l : Launch) (G : mg) (A : Nat → Prop) (M1 : mh) : Met l yJ26_orElse (ws_ yJ26_orElse cJ26_orElse 2 (some (.object "java/lang/Object"))) ({ frames := 0, cells := 0, slots := 0, locals := 0 }) (va_Pc [.ref (G.2 1), .null] (mU G A (fun M => M = M1))) (mQq G A (fun r M => r = none ∧ M = M1)) 0 0 A := by
  refine mx_ofq (Or.inl ⟨_, rfl⟩) (by decide) (Nat.le_of_ble_eq_true rfl) ?_
  intro p e R s m av below meth c M H Q ls X hRf hRl hRc hRs hin eM w fin hl
  subst M
  have X : CallFix p m c cJ26_orElse 2 s av lw_all "java/util/Optional" := X
  have hx := X.1
  have hb := X.2.1
  have hl : lv_has ls 2 [(0, .ref (G.2 1)), (1, .null)] := hl
  have hRf : R.frames = 0 := hRf
  have hRl : R.locals = 0 := hRl
  have hRc : R.cells = 0 := hRc
  have hRs : R.slots = 0 := hRs
  generalize ([] : List Loc) = locs at w ⊢
  refine lv_aload_n hx hb dJ26_orElse_0 rfl (lv_at hl 0 rfl) ?_
  refine mx_opval X w q1718 dJ26_orElse_1 ?_
  refine lv_ifnullN (tgt := 14) hx hb dJ26_orElse_4 (by decide) ?_
  refine lv_aload_nN hx hb dJ26_orElse_14 rfl (lv_at hl 1 rfl) ?_
  exact fin none _ H locs ls 15 dJ26_orElse_15 (⟨rfl, rfl⟩) w
set_option maxHeartbeats 4000000 in
set_option maxRecDepth 100000 in
theorem ct_leader (l : Launch) (G : mg) (A : Nat → Prop) (M1 : mh) (ad : Nat → Nat) (np ng : Nat) (M0 : mh) (f : Nat → Int32) (T nz : Nat) (hM1 : Sta G ad np ng M0 M1 f) (hS : SI T np nz ng f) : Met l yX1_leader (ws_ yX1_leader cX1_leader 1 (some (.object "java/util/Optional"))) ({ frames := 3, cells := 1, slots := 1, locals := 64 }) (va_Pc [.ref (ad 0)] (mU G A (fun M => M = M1))) (mQq G A (fun r M => (f 4 = -1 ∧ r = some (G.2 1) ∧ M = M1) ∨ (¬ f 4 = -1 ∧ ∃ q, M1 q = none ∧ r = some q ∧ M q = some (.inr (18, [.ref (ad (20 + tN (f 4)))])) ∧ ∀ a, a ≠ q → M a = M1 a))) 1 1 A := by
  refine mx_ofq (Or.inl ⟨_, rfl⟩) (by decide) (Nat.le_of_ble_eq_true rfl) ?_
  intro p e R s m av below meth c M H Q ls X hRf hRl hRc hRs hin eM w fin hl
  subst M
  have X : CallFix p m c cX1_leader 1 s av lw_all "FieldPumps$Station" := X
  have hx := X.1
  have hb := X.2.1
  have hl : lv_has ls 1 [(0, .ref (ad 0))] := hl
  have hRf : R.frames = 3 := hRf
  have hRl : R.locals = 64 := hRl
  have hRc : R.cells = 1 := hRc
  have hRs : R.slots = 1 := hRs
  generalize ([] : List Loc) = locs at w ⊢
  have hM := hM1
  have hn6 := hM1.n6
  refine lv_aload_n hx hb dX1_leader_0 rfl (lv_at hl 0 rfl) ?_
  refine mx_get (T := TX1) (v := .int (f 4)) X w in_X1 (ci := 1) rfl 22 (by decide) q337 (fun _ h => h) hM.st rfl dX1_leader_1 ?_
  refine lv_iconst (v := (-1 : Int32)) hx hb dX1_leader_4 (by decide) ?_
  refine lv_icmp_ne (tgt := 14) hx hb dX1_leader_5 (by decide) (fun c_5 => ?_) (fun c_5 => ?_)
  · skip
    obtain ⟨hv4, hvl⟩ := isP_n hS.var c_5 hn6
    refine lv_aload_n hx hb dX1_leader_14 rfl (lv_at hl 0 rfl) ?_
    refine mx_get (T := TX1) (v := .ref (ad 1)) X w in_X1 (ci := 1) rfl 0 (by decide) q286 (fun _ h => h) hM.st rfl dX1_leader_15 ?_
    refine lv_aload_n hx hb dX1_leader_18 rfl (lv_at hl 0 rfl) ?_
    refine mx_get (T := TX1) (v := .int (f 4)) X w in_X1 (ci := 1) rfl 22 (by decide) q337 (fun _ h => h) hM.st rfl dX1_leader_19 ?_
    refine mx_cast (z := nI ((tN (f 4)))) (hv4) ?_
    have hl1 := hM.pl
    rw [if_neg (show ¬ np = 0 by omega)] at hl1
    refine mx_bq w (va_runV (As := [.int (nI (tN (f 4)))]) (rest := []) X (jt_al_get l G A _ (ad 1) (tN (f 4)) (f 172) (ad 2) np 10 _ hl1 (hM.a2 (by omega)) hvl (by omega) (by decide)) (cwV 1 X.2.2.2.2 (lw_V q247 q248 q249 q100 q250) rfl rfl rfl (by decide +kernel) ⟨by rw [hRf]; decide, by rw [hRl]; decide⟩) (mx_preV w rfl hM.pl rfl) rfl rfl hl.1 rfl (lv_room (Nat.le_of_ble_eq_true rfl)) dX1_leader_22 ⟨by rw [hRc]; omega, by rw [hRs]; omega⟩) (fun r M9 H locs hp w => ?_)
    obtain ⟨eR, eM⟩ := hp; subst M9
    have eR : r = some (ad (20 + tN (f 4))) := eR.trans (if_pos hvl)
    subst eR
    refine st_castP X w hM (k := tN (f 4)) hvl q261 dX1_leader_25 ?_
    refine mx_bq w (va_runS (As := [.ref (ad (20 + tN (f 4)))]) (rest := []) X (jt_op_of l G A _ (ad (20 + tN (f 4)))) (va_cwS 1 X.2.2.2.2 (lw_S q1708 q1709 q135 q1710) rfl rfl rfl (by decide +kernel) ⟨by rw [hRf]; decide, by rw [hRl]; decide⟩) (mx_preS w rfl) rfl rfl hl.1 rfl (lv_room (Nat.le_of_ble_eq_true rfl)) dX1_leader_28 ⟨by rw [hRc]; omega, by rw [hRs]; omega⟩) (fun r M9 H locs hp w => ?_)
    obtain ⟨qo, zq, eR, eM⟩ := hp; subst eR
    have hpo : (f 4 = -1 ∧ some qo = some (G.2 1) ∧ M9 = M1) ∨ (¬ f 4 = -1 ∧ ∃ q, M1 q = none ∧ some qo = some q ∧ M9 q = some (.inr (18, [.ref (ad (20 + tN (f 4)))])) ∧ ∀ a, a ≠ q → M9 a = M1 a) := Or.inr ⟨c_5, qo, zq, rfl, by rw [eM]; exact va_up_s, fun a ha => by rw [eM, va_up_k ha, va_up_k ha]⟩
    refine W.widen (k := 1) (n := 1) (by omega) (by omega) ?_
    exact fin (some qo) _ H locs ls 31 dX1_leader_31 (hpo) w
  · skip
    refine mx_bq w (va_runS (As := []) (rest := []) X (jt_op_emp l G A _) (va_cwS 0 X.2.2.2.2 (lw_S q1703 q1704 q135 q1705) rfl rfl rfl (by decide +kernel) ⟨by rw [hRf]; decide, by rw [hRl]; decide⟩) (mx_preS w rfl) rfl rfl hl.1 rfl (lv_room (Nat.le_of_ble_eq_true rfl)) dX1_leader_8 ⟨by rw [hRc]; omega, by rw [hRs]; omega⟩) (fun r M9 H locs hp w => ?_)
    obtain ⟨eR, eM⟩ := hp; subst M9; subst eR
    have hpo : (f 4 = -1 ∧ (some (G.2 1) : Option Nat) = some (G.2 1) ∧ M1 = M1) ∨ (¬ f 4 = -1 ∧ ∃ q, M1 q = none ∧ (some (G.2 1) : Option Nat) = some q ∧ M1 q = some (.inr (18, [.ref (ad (20 + tN (f 4)))])) ∧ ∀ a, a ≠ q → M1 a = M1 a) := Or.inl ⟨c_5, rfl, rfl⟩
    refine lv_goto (tgt := 31) hx hb dX1_leader_11 (by decide) ?_
    refine W.widen (k := 1) (n := 1) (by omega) (by omega) ?_
    exact fin (some (G.2 1)) _ H locs ls 31 dX1_leader_31 (hpo) w
theorem ct_orX (l : Launch) (G : mg) (A : Nat → Prop) (M1 : mh) (lo : Nat) (ol : Option Nat) (hor : (lo = G.2 1 ∧ ol = none) ∨ (∃ x, M1 lo = some (.inr (18, [.ref x])) ∧ ol = some x)) : Met l yJ26_orElse (ws_ yJ26_orElse cJ26_orElse 2 (some (.object "java/lang/Object"))) ({ frames := 0, cells := 0, slots := 0, locals := 0 }) (va_Pc [.ref lo, .null] (mU G A (fun M => M = M1))) (mQq G A (fun r M => r = ol ∧ M = M1)) 0 0 A := by
  rcases hor with ⟨rfl, rfl⟩ | ⟨x, h, rfl⟩
  · exact Met_room (ct_orE l G A M1) (by decide) (by decide) (by decide) (by decide) (by decide) (by decide)
  · exact Met_room (jt_op_or l G A M1 lo x h) (by decide) (by decide) (by decide) (by decide) (by decide) (by decide)

set_option maxHeartbeats 4000000 in
set_option maxRecDepth 100000 in
theorem ct_leaderN (l : Launch) (G : mg) (A : Nat → Prop) (M1 : mh) (fo dq tx : Nat) (ad : Nat → Nat) (np ng : Nat) (M0 : mh) (f : Nat → Int32) (hM1 : Sta G ad np ng M0 M1 f) (hfo : M1 fo = some (.inr (0, [.ref (ad 0), .ref dq, .ref tx]))) (T nz : Nat) (hS : SI T np nz ng f) : Met l yX0_leaderNumber (ws_ yX0_leaderNumber cX0_leaderNumber 2 (some .int)) ({ frames := 4, cells := 1, slots := 1, locals := 84 }) (va_Pc [.ref fo] (mU G A (fun M => M = M1))) (mQi G A (fun r M => r = (if f 4 = -1 then -1000004 else f 4) ∧ (∀ q, M1 q ≠ none → M q = M1 q))) 1 1 A := by
  refine mx_ofi (by decide) (Nat.le_of_ble_eq_true rfl) ?_
  intro p e R s m av below meth c M H Q ls X hRf hRl hRc hRs hin eM w fin hl
  subst M
  have X : CallFix p m c cX0_leaderNumber 2 s av lw_all "FieldPumps" := X
  have hx := X.1
  have hb := X.2.1
  have hl : lv_has ls 2 [(0, .ref fo)] := hl
  have hRf : R.frames = 4 := hRf
  have hRl : R.locals = 84 := hRl
  have hRc : R.cells = 1 := hRc
  have hRs : R.slots = 1 := hRs
  generalize ([] : List Loc) = locs at w ⊢
  have hE : ∀ q, M1 q ≠ none → M1 q = M1 q := fun _ _ => rfl
  have hM := hM1
  have hn6 := hM1.n6
  have hg8 := hM1.g8
  have hlp := lP_ok hS
  refine lv_aload_n hx hb dX0_leaderNumber_0 rfl (lv_at hl 0 rfl) ?_
  refine mx_get (T := TX0) (v := .ref (ad 0)) X w in_X0 (ci := 0) rfl 0 (by decide) q472 (fun _ h => h) (ext_at hE hfo) rfl dX0_leaderNumber_1 ?_
  refine mx_bq w (va_runV (As := []) (rest := []) X (ct_leader l G A _ ad np ng M0 f T nz hM hS) (cwV 0 X.2.2.2.2 (lw_V q1699 q1700 q1701 q97 q1702) rfl rfl rfl (by decide +kernel) ⟨by rw [hRf]; decide, by rw [hRl]; decide⟩) (mx_preV w rfl hM.st rfl) rfl rfl hl.1 rfl (lv_room (Nat.le_of_ble_eq_true rfl)) dX0_leaderNumber_4 ⟨by rw [hRc]; omega, by rw [hRs]; omega⟩) (fun r M9 H locs hp w => ?_)
  obtain ⟨lo, eR, hE, hor⟩ := lead_or hp
  subst eR
  have hM := hM1.ext hE
  refine lv_null hx hb dX0_leaderNumber_7 ?_
  refine mx_bq w (va_runV (As := [.null]) (rest := []) X (ct_orX l G A _ lo _ hor) (cwV 1 X.2.2.2.2 (lw_V q1722 q1723 q1724 q135 q1725) rfl rfl rfl (by decide +kernel) ⟨by rw [hRf]; decide, by rw [hRl]; decide⟩) (orX_pre w hor) rfl rfl hl.1 rfl (lv_room (Nat.le_of_ble_eq_true rfl)) dX0_leaderNumber_8 ⟨by rw [hRc]; omega, by rw [hRs]; omega⟩) (fun r M9 H locs hp w => ?_)
  obtain ⟨eR, eM⟩ := hp; subst M9; subst eR
  refine st_castPo X w hM (o := lP f) (fun k hk => hlp.1 k hk) q834 dX0_leaderNumber_11 ?_
  refine mx_astore_nQ (lv' := [(1, va_rf ((lP f).map fun k => ad (20 + k))), (0, .ref fo)]) hx hb dX0_leaderNumber_14 rfl hl (by decide) (by first | rfl | (simp only [List.filter, va_rf_cat]; rfl)) (fun ls hl => ?_)
  refine mx_aload_nQ hx hb dX0_leaderNumber_15 rfl (lv_at hl 0 rfl) ?_
  refine mx_ifnonnullP (tgt := 24) hx hb dX0_leaderNumber_16 (by decide) (fun c_16 => ?_) (fun c_16 => ?_)
  · skip
    have eo_16 : va_rf ((lP f).map fun k => ad (20 + k)) = .ref (ad (20 + ((lP f).getD 0))) := P_ref c_16
    have hr : nI ((lP f).getD 0) = if f 4 = -1 then -1000004 else f 4 := (hlp.2.2 c_16).2
    refine mx_aload_nQ hx hb dX0_leaderNumber_24 rfl (lv_at hl 0 rfl) ?_
    rw [eo_16]
    have hk9 := hlp.2.2 c_16
    refine st_getPN (v := .int (nI ((lP f).getD 0))) X w hM (k := ((lP f).getD 0)) (by omega) 0 (by decide) q585 rfl dX0_leaderNumber_25 ?_
    refine W.widen (k := 1) (n := 1) (by omega) (by omega) ?_
    exact fin (nI ((lP f).getD 0)) _ H locs ls 28 dX0_leaderNumber_28 (⟨hr, hE⟩) w
  · skip
    have hr : (-1000004 : Int32) = if f 4 = -1 then -1000004 else f 4 := by rw [if_pos (hlp.2.1 c_16)]
    refine lv_ldc (v := (-1000004 : Int32)) hx hb X.2.2.2.1 (X.2.2.2.2 _ q1582) dX0_leaderNumber_19 ?_
    refine lv_goto (tgt := 28) hx hb dX0_leaderNumber_21 (by decide) ?_
    refine W.widen (k := 1) (n := 1) (by omega) (by omega) ?_
    exact fin (-1000004 : Int32) _ H locs ls 28 dX0_leaderNumber_28 (⟨hr, hE⟩) w
