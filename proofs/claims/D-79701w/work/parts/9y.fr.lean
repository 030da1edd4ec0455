set_option maxRecDepth 100000
/-! FR -/
/-! FR: reads that make cells -/
section FR
variable {M1 M M9 : mh} {a it : Nat} {e : va_E} {f : Nat → Int32}
theorem ext_at (hE : ∀ q, M1 q ≠ none → M q = M1 q) (h : M1 a = some e) : M a = some e := (hE a (by rw [h]; exact fun z => by cases z)).trans h
theorem ext_none (hE : ∀ q, M1 q ≠ none → M q = M1 q) (h : M a = none) : M1 a = none := Classical.byContradiction fun c => c (by rw [← hE a c]; exact h)
theorem ext_up1 (hE : ∀ q, M1 q ≠ none → M q = M1 q) (zi : M1 it = none) {x : Option va_E} : ∀ q, M1 q ≠ none → va_up M it x q = M1 q := fun q hq => by
  rw [va_up_k (fun z => hq (by rw [z]; exact zi))]
  exact hE q hq
theorem ext_up2 (hE : ∀ q, M1 q ≠ none → M q = M1 q) (zi : M1 it = none) {x y : Option va_E} (eM : M9 = va_up (va_up M it x) it y) : ∀ q, M1 q ≠ none → M9 q = M1 q := by
  rw [eM]; exact ext_up1 (ext_up1 hE zi) zi
theorem ext_up4 (hE : ∀ q, M1 q ≠ none → M q = M1 q) (zi : M1 it = none) {x y u v : Option va_E} (eM : M9 = va_up (va_up (va_up (va_up M it x) it y) it u) it v) : ∀ q, M1 q ≠ none → M9 q = M1 q := by
  rw [eM]; exact ext_up1 (ext_up1 (ext_up1 (ext_up1 hE zi) zi) zi) zi
/-- how many programmes are the zone's -/
def cntZ (f : Nat → Int32) (z : Int32) : Nat → Int32
  | 0 => 0
  | k + 1 => cntZ f z k + (if f (103 + (3 * k)) = z then 1 else 0)
end FR

set_option maxHeartbeats 4000000 in
set_option maxRecDepth 100000 in
theorem ct_progs (l : Launch) (G : mg) (A : Nat → Prop) (M1 : mh) (fo dq tx : Nat) (ad : Nat → Nat) (np ng : Nat) (M0 : mh) (f : Nat → Int32) (hM1 : Sta G ad np ng M0 M1 f) (hfo : M1 fo = some (.inr (0, [.ref (ad 0), .ref dq, .ref tx]))) (z0 : Int32) : Met l yX0_programmesOf (ws_ yX0_programmesOf cX0_programmesOf 5 (some .int)) ({ frames := 3, cells := 1, slots := 4, locals := 53 }) (va_Pc [.ref fo, .int z0] (mU G A (fun M => M = M1))) (mQi G A (fun r M => r = cntZ f z0 ng ∧ (∀ q, M1 q ≠ none → M q = M1 q))) 1 4 A := by
  refine mx_ofi (by decide) (Nat.le_of_ble_eq_true rfl) ?_
  intro p e R s m av below meth c M H Q ls X hRf hRl hRc hRs hin eM w fin hl
  subst M
  have X : CallFix p m c cX0_programmesOf 5 s av lw_all "FieldPumps" := X
  have hx := X.1
  have hb := X.2.1
  have hl : lv_has ls 5 [(0, .ref fo), (1, .int z0)] := hl
  have hRf : R.frames = 3 := hRf
  have hRl : R.locals = 53 := hRl
  have hRc : R.cells = 1 := hRc
  have hRs : R.slots = 4 := hRs
  generalize ([] : List Loc) = locs at w ⊢
  have hE : ∀ q, M1 q ≠ none → M1 q = M1 q := fun _ _ => rfl
  have hM := hM1
  have hn6 := hM1.n6
  have hg8 := hM1.g8
  refine lv_iconst (v := (0 : Int32)) hx hb dX0_programmesOf_0 (by decide) ?_
  refine lv_istore_n (lv' := [(2, .int (0 : Int32)), (0, .ref fo), (1, .int z0)]) hx hb dX0_programmesOf_1 rfl hl (by decide) rfl (fun ls hl => ?_)
  refine lv_aload_n hx hb dX0_programmesOf_2 rfl (lv_at hl 1 rfl) ?_
  refine mx_get (T := TX0) (v := .ref (ad 0)) X w in_X0 (ci := 0) rfl 0 (by decide) q472 (fun _ h => h) (ext_at hE hfo) rfl dX0_programmesOf_3 ?_
  refine mx_getN (T := TX1) (v := .ref (ad 3)) X w in_X1 (ci := 1) rfl 1 (by decide) (w.tblB q290 rfl rfl) (fun _ h => h) hM.st rfl dX0_programmesOf_6 ?_
  refine mx_bq w (va_runV (As := []) (rest := []) X (jt_al_iter l G A _ (ad 3) (f 173) (if ng = 0 then G.2 0 else ad 4) ng hM.gl) (cwV 0 X.2.2.2.2 (lw_V q1601 q519 q520 q100 q521) rfl rfl rfl (by decide +kernel) ⟨by rw [hRf]; decide, by rw [hRl]; decide⟩) (mx_preV w rfl hM.gl rfl) rfl rfl hl.1 rfl (lv_room (Nat.le_of_ble_eq_true rfl)) dX0_programmesOf_9 ⟨by rw [hRc]; omega, by rw [hRs]; omega⟩) (fun r M9 H locs hp w => ?_)
  obtain ⟨it1, zit1, eR, eM⟩ := hp; subst eR
  have zi1 : M1 it1 = none := ext_none hE zit1
  have hE : ∀ q, M1 q ≠ none → M9 q = M1 q := ext_up4 hE zi1 eM
  have hIt : M9 it1 = some (.inr (13, [.int (nI 0), .int (-1), .int (f 173), .ref (ad 3)])) := by rw [eM]; exact va_up_s
  have hM := hM1.ext hE
  clear eM
  refine lv_astore_n (lv' := [(3, .ref it1), (2, .int (0 : Int32)), (0, .ref fo), (1, .int z0)]) hx hb dX0_programmesOf_12 rfl hl (by decide) rfl (fun ls hl => ?_)
  have L13 : ∀ (n_13 : Nat) (i2_13 : Int32) (kk_13 : Nat) (M : mh) (H : Heap) (locs : List Loc) (ls : Array Slot), (hk1 : kk_13 ≤ ng) → (hE : ∀ q, M1 q ≠ none → M q = M1 q) → (hc : i2_13 = cntZ f z0 kk_13) → (hI : ∃ lr : Int32, M it1 = some (Sum.inr (13, [Value.int (nI kk_13), Value.int lr, Value.int (f 173), Value.ref (ad 3)]))) → (hm1 : ng < kk_13 + n_13) → lv_has ls 5 [(3, .ref it1), (1, .int z0), (2, .int i2_13)] → mW G A s M H locs → True → W p l e R s m av below meth c H locs 1 4 Q (F0 m 13 ls []) := by
    intro n_13
    induction n_13 with
    | zero =>
      intro i2_13 kk_13 M H locs ls hk1 hE hc hI hm1 hl w _hT
      exfalso; omega
    | succ n_13 ih_13 =>
      intro i2_13 kk_13 M H locs ls hk1 hE hc hI hm1 hl w _hT
      refine lv_aload_n hx hb dX0_programmesOf_13 rfl (lv_at hl 0 rfl) ?_
      have hM := hM1.ext hE
      obtain ⟨lr, hIt⟩ := hI
      refine mx_biF w (va_runF (As := []) (rest := []) (w.cls0 (ci := 13) rfl).choose_spec X (ct_has l G A _ it1 kk_13 lr (ad 3) (f 173) (if ng = 0 then G.2 0 else ad 4) ng hIt hM.gl hk1 (by omega)) (va_cwF 0 X.2.2.2.2 (lw_F q1603 q546 q548 q114 q550) rfl rfl rfl (va_Fw.of (w.tblB (args := av) q544 rfl rfl) (w.tblB (args := av) q543 rfl rfl) (w.tblB (args := av) q549 rfl rfl) (w.tblB (args := av) q547 rfl rfl) (w.tblB (args := av) q545 rfl rfl)) (by decide +kernel) ⟨by rw [hRf]; decide, by rw [hRl]; decide⟩) (mx_preV w rfl hIt rfl) rfl rfl hl.1 rfl (lv_room (Nat.le_of_ble_eq_true rfl)) dX0_programmesOf_14 ⟨by rw [hRc]; omega, by rw [hRs]; omega⟩) (fun r M9 H locs hp w => ?_)
      obtain ⟨eR, eM⟩ := hp; subst M9; subst eR
      refine mx_beq (tgt := 53) hx hb dX0_programmesOf_19 (by decide) (fun c_19 => ?_) (fun c_19 => ?_)
      · skip
        have hkn : kk_13 = ng := by have z9 : ¬ kk_13 < ng := fun z => c_19 (decide_eq_true z); omega
        rw [hkn] at hc
        refine lv_iload_n hx hb dX0_programmesOf_53 rfl (lv_at hl 2 rfl) ?_
        refine W.widen (k := 1) (n := 4) (by omega) (by omega) ?_
        exact fin i2_13 _ H locs ls 54 dX0_programmesOf_54 (⟨hc, hE⟩) w
      · skip
        have hlt : kk_13 < ng := of_decide_eq_true c_19
        refine lv_aload_n hx hb dX0_programmesOf_22 rfl (lv_at hl 0 rfl) ?_
        have hl1 := hM.gl
        rw [if_neg (show ¬ ng = 0 by omega)] at hl1
        refine mx_bqF w (va_runF (As := []) (rest := []) (w.cls0 (ci := 13) rfl).choose_spec X (jt_it_next l G A _ it1 kk_13 lr (ad 3) (f 173) (ad 4) ng 10 (fun k => if k < ng then some (ad (32 + k)) else none) hIt hl1 (hM.a4 (by omega)) hlt (by omega) (by decide)) (va_cwF 0 X.2.2.2.2 (lw_F q1605 q555 q557 q114 q559) rfl rfl rfl (va_Fw.of (w.tblB (args := av) q554 rfl rfl) (w.tblB (args := av) q553 rfl rfl) (w.tblB (args := av) q558 rfl rfl) (w.tblB (args := av) q556 rfl rfl) (w.tblB (args := av) q545 rfl rfl)) (by decide +kernel) ⟨by rw [hRf]; decide, by rw [hRl]; decide⟩) (mx_preV w rfl hIt rfl) rfl rfl hl.1 rfl (lv_room (Nat.le_of_ble_eq_true rfl)) dX0_programmesOf_23 ⟨by rw [hRc]; omega, by rw [hRs]; omega⟩) (fun r M9 H locs hp w => ?_)
        obtain ⟨eR, eM⟩ := hp
        have eR : r = some (ad (32 + kk_13)) := eR.trans (if_pos hlt)
        subst eR
        have hE : ∀ q, M1 q ≠ none → M9 q = M1 q := ext_up2 hE zi1 eM
        have hIt : M9 it1 = some (.inr (13, [.int (nI (kk_13 + 1)), .int (nI kk_13), .int (f 173), .ref (ad 3)])) := by rw [eM]; exact va_up_s
        have hM := hM1.ext hE
        clear eM
        refine mx_castM X w (ci := 7) q1633 rfl (hM.pg hlt) dX0_programmesOf_28 ?_
        refine lv_astore (lv' := [(4, .ref (ad (32 + kk_13))), (3, .ref it1), (1, .int z0), (2, .int i2_13)]) hx hb dX0_programmesOf_31 hl (by decide) rfl (fun ls hl => ?_)
        refine lv_iload_n hx hb dX0_programmesOf_33 rfl (lv_at hl 3 rfl) ?_
        refine lv_aload hx hb dX0_programmesOf_34 (lv_at hl 0 rfl) ?_
        refine mx_getN (T := TX9) (v := .int (f (103 + (3 * kk_13)))) X w in_X9 (ci := 7) rfl 0 (by decide) (w.tblB q1641 rfl rfl) (fun _ h => h) (hM.pg hlt) rfl dX0_programmesOf_36 ?_
        refine lv_iload_n hx hb dX0_programmesOf_39 rfl (lv_at hl 2 rfl) ?_
        refine lv_icmp_ne (tgt := 47) hx hb dX0_programmesOf_40 (by decide) (fun c_40 => ?_) (fun c_40 => ?_)
        · skip
          have hc : i2_13 + (0 : Int32) = cntZ f z0 (kk_13 + 1) := by rw [hc, cntZ, if_neg c_40]
          refine lv_iconst (v := (0 : Int32)) hx hb dX0_programmesOf_47 (by decide) ?_
          refine lv_iadd hx hb dX0_programmesOf_48 ?_
          refine lv_istore_n (lv' := [(2, .int (i2_13 + (0 : Int32))), (4, .ref (ad (32 + kk_13))), (3, .ref it1), (1, .int z0)]) hx hb dX0_programmesOf_49 rfl hl (by decide) rfl (fun ls hl => ?_)
          refine lv_goto (tgt := 13) hx hb dX0_programmesOf_50 (by decide) ?_
          exact ih_13 (i2_13 + (0 : Int32)) (kk_13 + 1) _ H locs ls (by first | omega | assumption | exact (by omega)) (by first | omega | assumption | exact hE) (by first | omega | assumption | exact hc) (by first | omega | assumption | exact ⟨_, hIt⟩) (by first | omega | assumption) (lv_sub hl [2, 3, 0] rfl) w trivial
        · skip
          have hc : i2_13 + (1 : Int32) = cntZ f z0 (kk_13 + 1) := by rw [hc, cntZ, if_pos c_40]
          refine lv_iconst (v := (1 : Int32)) hx hb dX0_programmesOf_43 (by decide) ?_
          refine lv_goto (tgt := 48) hx hb dX0_programmesOf_44 (by decide) ?_
          refine lv_iadd hx hb dX0_programmesOf_48 ?_
          refine lv_istore_n (lv' := [(2, .int (i2_13 + (1 : Int32))), (4, .ref (ad (32 + kk_13))), (3, .ref it1), (1, .int z0)]) hx hb dX0_programmesOf_49 rfl hl (by decide) rfl (fun ls hl => ?_)
          refine lv_goto (tgt := 13) hx hb dX0_programmesOf_50 (by decide) ?_
          exact ih_13 (i2_13 + (1 : Int32)) (kk_13 + 1) _ H locs ls (by first | omega | assumption | exact (by omega)) (by first | omega | assumption | exact hE) (by first | omega | assumption | exact hc) (by first | omega | assumption | exact ⟨_, hIt⟩) (by first | omega | assumption) (lv_sub hl [2, 3, 0] rfl) w trivial
  exact L13 (ng + 1) (0 : Int32) 0 _ H locs ls (by first | omega | assumption | exact (Nat.zero_le _)) (by first | omega | assumption | exact hE) (by first | omega | assumption | exact rfl) (by first | omega | assumption | exact ⟨_, hIt⟩) (by first | omega | assumption) (lv_sub hl [0, 3, 1] rfl) w trivial
/-! FR: how many are ready; the balance; nights -/
def cntR (f : Nat → Int32) : Nat → Int32
  | 0 => 0
  | k + 1 => cntR f k + (if cf_isReady f k = true then 1 else 0)
def mxR (f : Nat → Int32) : Nat → Int32
  | 0 => 0
  | k + 1 => jmax (mxR f k) (f (39 + (8 * k) + 5))
def mnR (f : Nat → Int32) : Nat → Int32
  | 0 => 20000
  | k + 1 => jmin (mnR f k) (f (39 + (8 * k) + 5))
def balR (f : Nat → Int32) (np : Nat) : Int32 := if np = 0 then -1000004 else mxR f np - mnR f np
theorem ct_emp (l : Launch) (G : mg) (A : Nat → Prop) (M1 : mh) (a : Nat) (md : Int32) (ea : Nat) (n : Nat) (h_a : M1 a = some (.inr (9, [.int md, .ref ea, .int (nI n)]))) (hn : n < 2 ^ 31) : Met l yJ2_isEmpty (ws_ yJ2_isEmpty cJ2_isEmpty 1 (some .boolean)) ({ frames := 0, cells := 0, slots := 0, locals := 0 }) (va_Pc [.ref a] (mU G A (fun M => M = M1))) (mQi G A (fun r M => r = bI (decide (n = 0)) ∧ M = M1)) 0 0 A := by
  by_cases c : n = 0
  · rw [decide_eq_true c]
    exact jt_al_emp0 l G A M1 a md ea n h_a c
  · rw [decide_eq_false c]
    exact jt_al_emp1 l G A M1 a md ea n h_a c hn
theorem ix_n {x : Int32} {n : Nat} (c : 0 ≤ x) (d : ¬ nI n ≤ x) (hn : n < 2 ^ 31) : x = nI (tN x) ∧ tN x < n := by
  have h0 : ¬ x < 0 := by
    rw [Int32.lt_iff_toInt_lt, Int32.toInt_zero]
    rw [Int32.le_iff_toInt_le, Int32.toInt_zero] at c
    omega
  obtain ⟨j, j1, rfl⟩ := nI_of h0
  rw [nI_leq hn j1] at d
  rw [tN_nI j1]
  exact ⟨rfl, by omega⟩
section FR1
variable {w : Nat → Nat → Int32} {s : Int32} {f : Nat → Int32} {nn : Nat} {ix : Int32}
theorem nightAt_0 (c : ¬ 0 ≤ ix) : (-1000001 : Int32) = mf_nightAt (Vf w s f) ix := by rw [mf_nightAt, if_neg c, mf_nightAt_34]
theorem nightAt_1 (h18 : f 18 = nI nn) (c : 0 ≤ ix) (d : nI nn ≤ ix) : (-1000004 : Int32) = mf_nightAt (Vf w s f) ix := by
  have v18 : Vf w s f 1 18 = f 18 := Vf_at (by decide)
  rw [mf_nightAt, if_pos c, v18, h18, if_pos d, mf_nightAt_34]
theorem nightAt_2 (h18 : f 18 = nI nn) (hn7 : nn ≤ 7) (c : 0 ≤ ix) (e : ix = nI (tN ix)) (hlt : tN ix < nn) : f (200 + (nn - 1 - tN ix)) = mf_nightAt (Vf w s f) ix := by
  have v18 : Vf w s f 1 18 = f 18 := Vf_at (by decide)
  have en : nC f 18 = nn := nC_of h18 (by omega)
  have d : ¬ nI nn ≤ ix := by rw [e, nI_leq (by omega) (by omega)]; omega
  rw [mf_nightAt, if_pos c, v18, h18, if_neg d, mf_nightAt_34]
  unfold Vf
  rw [if_pos rfl, if_pos (by omega)]
  unfold Rf
  rw [if_neg (by omega), if_pos (by omega), en, show 127 + tN ix - 127 = tN ix by omega, if_pos hlt]
end FR1

set_option maxHeartbeats 4000000 in
set_option maxRecDepth 100000 in
theorem ct_readyMany (l : Launch) (G : mg) (A : Nat → Prop) (M1 : mh) (fo dq tx : Nat) (ad : Nat → Nat) (np ng : Nat) (M0 : mh) (f : Nat → Int32) (hM1 : Sta G ad np ng M0 M1 f) (hfo : M1 fo = some (.inr (0, [.ref (ad 0), .ref dq, .ref tx]))) : Met l yX0_readyMany (ws_ yX0_readyMany cX0_readyMany 4 (some .int)) ({ frames := 3, cells := 1, slots := 4, locals := 53 }) (va_Pc [.ref fo] (mU G A (fun M => M = M1))) (mQi G A (fun r M => r = cntR f np ∧ (∀ q, M1 q ≠ none → M q = M1 q))) 1 4 A := by
  refine mx_ofi (by decide) (Nat.le_of_ble_eq_true rfl) ?_
  intro p e R s m av below meth c M H Q ls X hRf hRl hRc hRs hin eM w fin hl
  subst M
  have X : CallFix p m c cX0_readyMany 4 s av lw_all "FieldPumps" := X
  have hx := X.1
  have hb := X.2.1
  have hl : lv_has ls 4 [(0, .ref fo)] := hl
  have hRf : R.frames = 3 := hRf
  have hRl : R.locals = 53 := hRl
  have hRc : R.cells = 1 := hRc
  have hRs : R.slots = 4 := hRs
  generalize ([] : List Loc) = locs at w ⊢
  have hE : ∀ q, M1 q ≠ none → M1 q = M1 q := fun _ _ => rfl
  have hM := hM1
  have hn6 := hM1.n6
  have hg8 := hM1.g8
  refine lv_iconst (v := (0 : Int32)) hx hb dX0_readyMany_0 (by decide) ?_
  refine lv_istore_n (lv' := [(1, .int (0 : Int32)), (0, .ref fo)]) hx hb dX0_readyMany_1 rfl hl (by decide) rfl (fun ls hl => ?_)
  refine lv_aload_n hx hb dX0_readyMany_2 rfl (lv_at hl 1 rfl) ?_
  refine mx_get (T := TX0) (v := .ref (ad 0)) X w in_X0 (ci := 0) rfl 0 (by decide) q472 (fun _ h => h) (ext_at hE hfo) rfl dX0_readyMany_3 ?_
  refine mx_getN (T := TX1) (v := .ref (ad 1)) X w in_X1 (ci := 1) rfl 0 (by decide) (w.tblB q287 rfl rfl) (fun _ h => h) hM.st rfl dX0_readyMany_6 ?_
  refine mx_bq w (va_runV (As := []) (rest := []) X (jt_al_iter l G A _ (ad 1) (f 172) (if np = 0 then G.2 0 else ad 2) np hM.pl) (cwV 0 X.2.2.2.2 (lw_V q1601 q519 q520 q100 q521) rfl rfl rfl (by decide +kernel) ⟨by rw [hRf]; decide, by rw [hRl]; decide⟩) (mx_preV w rfl hM.pl rfl) rfl rfl hl.1 rfl (lv_room (Nat.le_of_ble_eq_true rfl)) dX0_readyMany_9 ⟨by rw [hRc]; omega, by rw [hRs]; omega⟩) (fun r M9 H locs hp w => ?_)
  obtain ⟨it1, zit1, eR, eM⟩ := hp; subst eR
  have zi1 : M1 it1 = none := ext_none hE zit1
  have hE : ∀ q, M1 q ≠ none → M9 q = M1 q := ext_up4 hE zi1 eM
  have hIt : M9 it1 = some (.inr (13, [.int (nI 0), .int (-1), .int (f 172), .ref (ad 1)])) := by rw [eM]; exact va_up_s
  have hM := hM1.ext hE
  clear eM
  refine lv_astore_n (lv' := [(2, .ref it1), (1, .int (0 : Int32)), (0, .ref fo)]) hx hb dX0_readyMany_12 rfl hl (by decide) rfl (fun ls hl => ?_)
  have L13 : ∀ (n_13 : Nat) (i1_13 : Int32) (kk_13 : Nat) (M : mh) (H : Heap) (locs : List Loc) (ls : Array Slot), (hk1 : kk_13 ≤ np) → (hE : ∀ q, M1 q ≠ none → M q = M1 q) → (hc : i1_13 = cntR f kk_13) → (hI : ∃ lr : Int32, M it1 = some (Sum.inr (13, [Value.int (nI kk_13), Value.int lr, Value.int (f 172), Value.ref (ad 1)]))) → (hm1 : np < kk_13 + n_13) → lv_has ls 4 [(2, .ref it1), (1, .int i1_13)] → mW G A s M H locs → True → W p l e R s m av below meth c H locs 1 4 Q (F0 m 13 ls []) := by
    intro n_13
    induction n_13 with
    | zero =>
      intro i1_13 kk_13 M H locs ls hk1 hE hc hI hm1 hl w _hT
      exfalso; omega
    | succ n_13 ih_13 =>
      intro i1_13 kk_13 M H locs ls hk1 hE hc hI hm1 hl w _hT
      refine lv_aload_n hx hb dX0_readyMany_13 rfl (lv_at hl 0 rfl) ?_
      have hM := hM1.ext hE
      obtain ⟨lr, hIt⟩ := hI
      refine mx_biF w (va_runF (As := []) (rest := []) (w.cls0 (ci := 13) rfl).choose_spec X (ct_has l G A _ it1 kk_13 lr (ad 1) (f 172) (if np = 0 then G.2 0 else ad 2) np hIt hM.pl hk1 (by omega)) (va_cwF 0 X.2.2.2.2 (lw_F q1603 q546 q548 q114 q550) rfl rfl rfl (va_Fw.of (w.tblB (args := av) q544 rfl rfl) (w.tblB (args := av) q543 rfl rfl) (w.tblB (args := av) q549 rfl rfl) (w.tblB (args := av) q547 rfl rfl) (w.tblB (args := av) q545 rfl rfl)) (by decide +kernel) ⟨by rw [hRf]; decide, by rw [hRl]; decide⟩) (mx_preV w rfl hIt rfl) rfl rfl hl.1 rfl (lv_room (Nat.le_of_ble_eq_true rfl)) dX0_readyMany_14 ⟨by rw [hRc]; omega, by rw [hRs]; omega⟩) (fun r M9 H locs hp w => ?_)
      obtain ⟨eR, eM⟩ := hp; subst M9; subst eR
      refine mx_beq (tgt := 50) hx hb dX0_readyMany_19 (by decide) (fun c_19 => ?_) (fun c_19 => ?_)
      · skip
        have hkn : kk_13 = np := by have z9 : ¬ kk_13 < np := fun z => c_19 (decide_eq_true z); omega
        rw [hkn] at hc
        refine lv_iload_n hx hb dX0_readyMany_50 rfl (lv_at hl 1 rfl) ?_
        refine W.widen (k := 1) (n := 4) (by omega) (by omega) ?_
        exact fin i1_13 _ H locs ls 51 dX0_readyMany_51 (⟨hc, hE⟩) w
      · skip
        have hlt : kk_13 < np := of_decide_eq_true c_19
        refine lv_aload_n hx hb dX0_readyMany_22 rfl (lv_at hl 0 rfl) ?_
        have hl1 := hM.pl
        rw [if_neg (show ¬ np = 0 by omega)] at hl1
        refine mx_bqF w (va_runF (As := []) (rest := []) (w.cls0 (ci := 13) rfl).choose_spec X (jt_it_next l G A _ it1 kk_13 lr (ad 1) (f 172) (ad 2) np 10 (fun k => if k < np then some (ad (20 + k)) else none) hIt hl1 (hM.a2 (by omega)) hlt (by omega) (by decide)) (va_cwF 0 X.2.2.2.2 (lw_F q1605 q555 q557 q114 q559) rfl rfl rfl (va_Fw.of (w.tblB (args := av) q554 rfl rfl) (w.tblB (args := av) q553 rfl rfl) (w.tblB (args := av) q558 rfl rfl) (w.tblB (args := av) q556 rfl rfl) (w.tblB (args := av) q545 rfl rfl)) (by decide +kernel) ⟨by rw [hRf]; decide, by rw [hRl]; decide⟩) (mx_preV w rfl hIt rfl) rfl rfl hl.1 rfl (lv_room (Nat.le_of_ble_eq_true rfl)) dX0_readyMany_23 ⟨by rw [hRc]; omega, by rw [hRs]; omega⟩) (fun r M9 H locs hp w => ?_)
        obtain ⟨eR, eM⟩ := hp
        have eR : r = some (ad (20 + kk_13)) := eR.trans (if_pos hlt)
        subst eR
        have hE : ∀ q, M1 q ≠ none → M9 q = M1 q := ext_up2 hE zi1 eM
        have hIt : M9 it1 = some (.inr (13, [.int (nI (kk_13 + 1)), .int (nI kk_13), .int (f 172), .ref (ad 1)])) := by rw [eM]; exact va_up_s
        have hM := hM1.ext hE
        clear eM
        refine st_castP X w hM (k := kk_13) (by omega) q834 dX0_readyMany_28 ?_
        refine lv_astore_n (lv' := [(3, .ref (ad (20 + kk_13))), (2, .ref it1), (1, .int i1_13)]) hx hb dX0_readyMany_31 rfl hl (by decide) rfl (fun ls hl => ?_)
        refine lv_iload_n hx hb dX0_readyMany_32 rfl (lv_at hl 2 rfl) ?_
        refine lv_aload_n hx hb dX0_readyMany_33 rfl (lv_at hl 0 rfl) ?_
        refine mx_bi w (st_callP (As := []) (rest := [.int i1_13]) X w hM (by omega) (ct_isReady l G A ad np ng M0 _ f kk_13 hM (by omega)) (va_cwU 0 X.2.2.2.2 (lw_U q1745 q1455 q1456 q1454 q115 q1459) rfl rfl rfl rfl (by decide +kernel) ⟨by rw [hRf]; decide, by rw [hRl]; decide⟩) (va_cwU 0 X.2.2.2.2 (lw_U q1745 q1455 q1458 q1454 q115 q1459) rfl rfl rfl rfl (by decide +kernel) ⟨by rw [hRf]; decide, by rw [hRl]; decide⟩) (va_cwU 0 X.2.2.2.2 (lw_U q1745 q1455 q1457 q1454 q115 q1459) rfl rfl rfl rfl (by decide +kernel) ⟨by rw [hRf]; decide, by rw [hRl]; decide⟩) rfl rfl rfl hl.1 rfl (lv_room (Nat.le_of_ble_eq_true rfl)) dX0_readyMany_34 ⟨by rw [hRc]; omega, by rw [hRs]; omega⟩) (fun r M9 H locs hp w => ?_)
        obtain ⟨eR, eM⟩ := hp; subst M9; subst eR
        refine mx_beq (tgt := 44) hx hb dX0_readyMany_37 (by decide) (fun c_37 => ?_) (fun c_37 => ?_)
        · skip
          have hc : i1_13 + (0 : Int32) = cntR f (kk_13 + 1) := by rw [hc, cntR, if_neg c_37]
          refine lv_iconst (v := (0 : Int32)) hx hb dX0_readyMany_44 (by decide) ?_
          refine lv_iadd hx hb dX0_readyMany_45 ?_
          refine lv_istore_n (lv' := [(1, .int (i1_13 + (0 : Int32))), (3, .ref (ad (20 + kk_13))), (2, .ref it1)]) hx hb dX0_readyMany_46 rfl hl (by decide) rfl (fun ls hl => ?_)
          refine lv_goto (tgt := 13) hx hb dX0_readyMany_47 (by decide) ?_
          exact ih_13 (i1_13 + (0 : Int32)) (kk_13 + 1) _ H locs ls (by first | omega | assumption | exact (by omega)) (by first | omega | assumption | exact hE) (by first | omega | assumption | exact hc) (by first | omega | assumption | exact ⟨_, hIt⟩) (by first | omega | assumption) (lv_sub hl [2, 0] rfl) w trivial
        · skip
          have hc : i1_13 + (1 : Int32) = cntR f (kk_13 + 1) := by rw [hc, cntR, if_pos c_37]
          refine lv_iconst (v := (1 : Int32)) hx hb dX0_readyMany_40 (by decide) ?_
          refine lv_goto (tgt := 45) hx hb dX0_readyMany_41 (by decide) ?_
          refine lv_iadd hx hb dX0_readyMany_45 ?_
          refine lv_istore_n (lv' := [(1, .int (i1_13 + (1 : Int32))), (3, .ref (ad (20 + kk_13))), (2, .ref it1)]) hx hb dX0_readyMany_46 rfl hl (by decide) rfl (fun ls hl => ?_)
          refine lv_goto (tgt := 13) hx hb dX0_readyMany_47 (by decide) ?_
          exact ih_13 (i1_13 + (1 : Int32)) (kk_13 + 1) _ H locs ls (by first | omega | assumption | exact (by omega)) (by first | omega | assumption | exact hE) (by first | omega | assumption | exact hc) (by first | omega | assumption | exact ⟨_, hIt⟩) (by first | omega | assumption) (lv_sub hl [2, 0] rfl) w trivial
  exact L13 (np + 1) (0 : Int32) 0 _ H locs ls (by first | omega | assumption | exact (Nat.zero_le _)) (by first | omega | assumption | exact hE) (by first | omega | assumption | exact rfl) (by first | omega | assumption | exact ⟨_, hIt⟩) (by first | omega | assumption) (lv_sub hl [0, 1] rfl) w trivial
set_option maxHeartbeats 4000000 in
set_option maxRecDepth 100000 in
theorem ct_balance (l : Launch) (G : mg) (A : Nat → Prop) (M1 : mh) (fo dq tx : Nat) (ad : Nat → Nat) (np ng : Nat) (M0 : mh) (f : Nat → Int32) (hM1 : Sta G ad np ng M0 M1 f) (hfo : M1 fo = some (.inr (0, [.ref (ad 0), .ref dq, .ref tx]))) : Met l yX0_balance (ws_ yX0_balance cX0_balance 5 (some .int)) ({ frames := 3, cells := 1, slots := 4, locals := 53 }) (va_Pc [.ref fo] (mU G A (fun M => M = M1))) (mQi G A (fun r M => r = balR f np ∧ (∀ q, M1 q ≠ none → M q = M1 q))) 1 4 A := by
  refine mx_ofi (by decide) (Nat.le_of_ble_eq_true rfl) ?_
  intro p e R s m av below meth c M H Q ls X hRf hRl hRc hRs hin eM w fin hl
  subst M
  have X : CallFix p m c cX0_balance 5 s av lw_all "FieldPumps" := X
  have hx := X.1
  have hb := X.2.1
  have hl : lv_has ls 5 [(0, .ref fo)] := hl
  have hRf : R.frames = 3 := hRf
  have hRl : R.locals = 53 := hRl
  have hRc : R.cells = 1 := hRc
  have hRs : R.slots = 4 := hRs
  generalize ([] : List Loc) = locs at w ⊢
  have hE : ∀ q, M1 q ≠ none → M1 q = M1 q := fun _ _ => rfl
  have hM := hM1
  have hn6 := hM1.n6
  have hg8 := hM1.g8
  refine lv_aload_n hx hb dX0_balance_0 rfl (lv_at hl 0 rfl) ?_
  refine mx_get (T := TX0) (v := .ref (ad 0)) X w in_X0 (ci := 0) rfl 0 (by decide) q472 (fun _ h => h) (ext_at hE hfo) rfl dX0_balance_1 ?_
  refine mx_getN (T := TX1) (v := .ref (ad 1)) X w in_X1 (ci := 1) rfl 0 (by decide) (w.tblB q287 rfl rfl) (fun _ h => h) hM.st rfl dX0_balance_4 ?_
  refine mx_bi w (va_runV (As := []) (rest := []) X (ct_emp l G A _ (ad 1) (f 172) (if np = 0 then G.2 0 else ad 2) np hM.pl (by omega)) (cwV 0 X.2.2.2.2 (lw_V q1597 q1598 q1599 q100 q1600) rfl rfl rfl (by decide +kernel) ⟨by rw [hRf]; decide, by rw [hRl]; decide⟩) (mx_preV w rfl hM.pl rfl) rfl rfl hl.1 rfl (lv_room (Nat.le_of_ble_eq_true rfl)) dX0_balance_7 ⟨by rw [hRc]; omega, by rw [hRs]; omega⟩) (fun r M9 H locs hp w => ?_)
  obtain ⟨eR, eM⟩ := hp; subst M9; subst eR
  refine mx_beq (tgt := 16) hx hb dX0_balance_10 (by decide) (fun c_10 => ?_) (fun c_10 => ?_)
  · skip
    have hn0 : ¬ np = 0 := fun z => c_10 (decide_eq_true z)
    refine lv_iconst (v := (0 : Int32)) hx hb dX0_balance_16 (by decide) ?_
    refine lv_istore_n (lv' := [(1, .int (0 : Int32)), (0, .ref fo)]) hx hb dX0_balance_17 rfl hl (by decide) rfl (fun ls hl => ?_)
    refine lv_sipush (v := (20000 : Int32)) hx hb dX0_balance_18 (by decide) ?_
    refine lv_istore_n (lv' := [(2, .int (20000 : Int32)), (1, .int (0 : Int32)), (0, .ref fo)]) hx hb dX0_balance_21 rfl hl (by decide) rfl (fun ls hl => ?_)
    refine lv_aload_n hx hb dX0_balance_22 rfl (lv_at hl 2 rfl) ?_
    refine mx_get (T := TX0) (v := .ref (ad 0)) X w in_X0 (ci := 0) rfl 0 (by decide) q472 (fun _ h => h) (ext_at hE hfo) rfl dX0_balance_23 ?_
    refine mx_getN (T := TX1) (v := .ref (ad 1)) X w in_X1 (ci := 1) rfl 0 (by decide) (w.tblB q287 rfl rfl) (fun _ h => h) hM.st rfl dX0_balance_26 ?_
    refine mx_bq w (va_runV (As := []) (rest := []) X (jt_al_iter l G A _ (ad 1) (f 172) (if np = 0 then G.2 0 else ad 2) np hM.pl) (cwV 0 X.2.2.2.2 (lw_V q1601 q519 q520 q100 q521) rfl rfl rfl (by decide +kernel) ⟨by rw [hRf]; decide, by rw [hRl]; decide⟩) (mx_preV w rfl hM.pl rfl) rfl rfl hl.1 rfl (lv_room (Nat.le_of_ble_eq_true rfl)) dX0_balance_29 ⟨by rw [hRc]; omega, by rw [hRs]; omega⟩) (fun r M9 H locs hp w => ?_)
    obtain ⟨it1, zit1, eR, eM⟩ := hp; subst eR
    have zi1 : M1 it1 = none := ext_none hE zit1
    have hE : ∀ q, M1 q ≠ none → M9 q = M1 q := ext_up4 hE zi1 eM
    have hIt : M9 it1 = some (.inr (13, [.int (nI 0), .int (-1), .int (f 172), .ref (ad 1)])) := by rw [eM]; exact va_up_s
    have hM := hM1.ext hE
    clear eM
    refine lv_astore_n (lv' := [(3, .ref it1), (2, .int (20000 : Int32)), (1, .int (0 : Int32)), (0, .ref fo)]) hx hb dX0_balance_32 rfl hl (by decide) rfl (fun ls hl => ?_)
    have L33 : ∀ (n_33 : Nat) (i1_33 : Int32) (i2_33 : Int32) (kk_33 : Nat) (M : mh) (H : Heap) (locs : List Loc) (ls : Array Slot), (hk1 : kk_33 ≤ np) → (hE : ∀ q, M1 q ≠ none → M q = M1 q) → (hc : i1_33 = mxR f kk_33 ∧ i2_33 = mnR f kk_33) → (hI : ∃ lr : Int32, M it1 = some (Sum.inr (13, [Value.int (nI kk_33), Value.int lr, Value.int (f 172), Value.ref (ad 1)]))) → (hm1 : np < kk_33 + n_33) → lv_has ls 5 [(3, .ref it1), (1, .int i1_33), (2, .int i2_33)] → mW G A s M H locs → True → W p l e R s m av below meth c H locs 1 4 Q (F0 m 33 ls []) := by
      intro n_33
      induction n_33 with
      | zero =>
        intro i1_33 i2_33 kk_33 M H locs ls hk1 hE hc hI hm1 hl w _hT
        exfalso; omega
      | succ n_33 ih_33 =>
        intro i1_33 i2_33 kk_33 M H locs ls hk1 hE hc hI hm1 hl w _hT
        refine lv_aload_n hx hb dX0_balance_33 rfl (lv_at hl 0 rfl) ?_
        have hM := hM1.ext hE
        obtain ⟨lr, hIt⟩ := hI
        refine mx_biF w (va_runF (As := []) (rest := []) (w.cls0 (ci := 13) rfl).choose_spec X (ct_has l G A _ it1 kk_33 lr (ad 1) (f 172) (if np = 0 then G.2 0 else ad 2) np hIt hM.pl hk1 (by omega)) (va_cwF 0 X.2.2.2.2 (lw_F q1603 q546 q548 q114 q550) rfl rfl rfl (va_Fw.of (w.tblB (args := av) q544 rfl rfl) (w.tblB (args := av) q543 rfl rfl) (w.tblB (args := av) q549 rfl rfl) (w.tblB (args := av) q547 rfl rfl) (w.tblB (args := av) q545 rfl rfl)) (by decide +kernel) ⟨by rw [hRf]; decide, by rw [hRl]; decide⟩) (mx_preV w rfl hIt rfl) rfl rfl hl.1 rfl (lv_room (Nat.le_of_ble_eq_true rfl)) dX0_balance_34 ⟨by rw [hRc]; omega, by rw [hRs]; omega⟩) (fun r M9 H locs hp w => ?_)
        obtain ⟨eR, eM⟩ := hp; subst M9; subst eR
        refine mx_beq (tgt := 76) hx hb dX0_balance_39 (by decide) (fun c_39 => ?_) (fun c_39 => ?_)
        · skip
          have hkn : kk_33 = np := by have z9 : ¬ kk_33 < np := fun z => c_39 (decide_eq_true z); omega
          have hr : i1_33 - i2_33 = balR f np := by rw [hc.1, hc.2, hkn, balR, if_neg hn0]
          refine lv_iload_n hx hb dX0_balance_76 rfl (lv_at hl 1 rfl) ?_
          refine lv_iload_n hx hb dX0_balance_77 rfl (lv_at hl 2 rfl) ?_
          refine lv_isub hx hb dX0_balance_78 ?_
          refine W.widen (k := 1) (n := 4) (by omega) (by omega) ?_
          exact fin (i1_33 - i2_33) _ H locs ls 79 dX0_balance_79 (⟨hr, hE⟩) w
        · skip
          have hlt : kk_33 < np := of_decide_eq_true c_39
          refine lv_aload_n hx hb dX0_balance_42 rfl (lv_at hl 0 rfl) ?_
          have hl1 := hM.pl
          rw [if_neg (show ¬ np = 0 by omega)] at hl1
          refine mx_bqF w (va_runF (As := []) (rest := []) (w.cls0 (ci := 13) rfl).choose_spec X (jt_it_next l G A _ it1 kk_33 lr (ad 1) (f 172) (ad 2) np 10 (fun k => if k < np then some (ad (20 + k)) else none) hIt hl1 (hM.a2 (by omega)) hlt (by omega) (by decide)) (va_cwF 0 X.2.2.2.2 (lw_F q1605 q555 q557 q114 q559) rfl rfl rfl (va_Fw.of (w.tblB (args := av) q554 rfl rfl) (w.tblB (args := av) q553 rfl rfl) (w.tblB (args := av) q558 rfl rfl) (w.tblB (args := av) q556 rfl rfl) (w.tblB (args := av) q545 rfl rfl)) (by decide +kernel) ⟨by rw [hRf]; decide, by rw [hRl]; decide⟩) (mx_preV w rfl hIt rfl) rfl rfl hl.1 rfl (lv_room (Nat.le_of_ble_eq_true rfl)) dX0_balance_43 ⟨by rw [hRc]; omega, by rw [hRs]; omega⟩) (fun r M9 H locs hp w => ?_)
          obtain ⟨eR, eM⟩ := hp
          have eR : r = some (ad (20 + kk_33)) := eR.trans (if_pos hlt)
          subst eR
          have hE : ∀ q, M1 q ≠ none → M9 q = M1 q := ext_up2 hE zi1 eM
          have hIt : M9 it1 = some (.inr (13, [.int (nI (kk_33 + 1)), .int (nI kk_33), .int (f 172), .ref (ad 1)])) := by rw [eM]; exact va_up_s
          have hM := hM1.ext hE
          clear eM
          refine st_castP X w hM (k := kk_33) (by omega) q834 dX0_balance_48 ?_
          refine lv_astore (lv' := [(4, .ref (ad (20 + kk_33))), (3, .ref it1), (1, .int i1_33), (2, .int i2_33)]) hx hb dX0_balance_51 hl (by decide) rfl (fun ls hl => ?_)
          refine lv_iload_n hx hb dX0_balance_53 rfl (lv_at hl 2 rfl) ?_
          refine lv_aload hx hb dX0_balance_54 (lv_at hl 0 rfl) ?_
          refine st_getPN (v := .int (f (39 + (8 * kk_33) + 5))) X w hM (k := kk_33) (by omega) 5 (by decide) q601 rfl dX0_balance_56 ?_
          refine va_mmax hx hb (X.2.2.1.trans hl.1.symm) X.2.2.2.1 (X.2.2.2.2 _ q1606) (X.2.2.2.2 _ q684) (X.2.2.2.2 _ q120) (X.2.2.2.2 _ q685) (by rw [hRf]; decide) (by rw [hRl]; exact Nat.le_of_ble_eq_true rfl) (by rw [hRc]; omega) (by rw [hRs]; omega) dX0_balance_59 ?_
          refine mx_cast (z := (jmax i1_33 (f (39 + (8 * kk_33) + 5)))) rfl ?_
          refine lv_istore_n (lv' := [(1, .int (jmax i1_33 (f (39 + (8 * kk_33) + 5)))), (4, .ref (ad (20 + kk_33))), (3, .ref it1), (2, .int i2_33)]) hx hb dX0_balance_62 rfl hl (by decide) rfl (fun ls hl => ?_)
          refine lv_iload_n hx hb dX0_balance_63 rfl (lv_at hl 3 rfl) ?_
          refine lv_aload hx hb dX0_balance_64 (lv_at hl 1 rfl) ?_
          refine st_getPN (v := .int (f (39 + (8 * kk_33) + 5))) X w hM (k := kk_33) (by omega) 5 (by decide) q601 rfl dX0_balance_66 ?_
          refine va_mmin hx hb (X.2.2.1.trans hl.1.symm) X.2.2.2.1 (X.2.2.2.2 _ q1607) (X.2.2.2.2 _ q729) (X.2.2.2.2 _ q120) (X.2.2.2.2 _ q730) (by rw [hRf]; decide) (by rw [hRl]; exact Nat.le_of_ble_eq_true rfl) (by rw [hRc]; omega) (by rw [hRs]; omega) dX0_balance_69 ?_
          refine mx_cast (z := (jmin i2_33 (f (39 + (8 * kk_33) + 5)))) rfl ?_
          refine lv_istore_n (lv' := [(2, .int (jmin i2_33 (f (39 + (8 * kk_33) + 5)))), (1, .int (jmax i1_33 (f (39 + (8 * kk_33) + 5)))), (4, .ref (ad (20 + kk_33))), (3, .ref it1)]) hx hb dX0_balance_72 rfl hl (by decide) rfl (fun ls hl => ?_)
          refine lv_goto (tgt := 33) hx hb dX0_balance_73 (by decide) ?_
          exact ih_33 (jmax i1_33 (f (39 + (8 * kk_33) + 5))) (jmin i2_33 (f (39 + (8 * kk_33) + 5))) (kk_33 + 1) _ H locs ls (by first | omega | assumption | exact (by omega)) (by first | omega | assumption | exact hE) (by first | omega | assumption | exact ⟨by rw [hc.1]; rfl, by rw [hc.2]; rfl⟩) (by first | omega | assumption | exact ⟨_, hIt⟩) (by first | omega | assumption) (lv_sub hl [3, 1, 0] rfl) w trivial
    exact L33 (np + 1) (0 : Int32) (20000 : Int32) 0 _ H locs ls (by first | omega | assumption | exact (Nat.zero_le _)) (by first | omega | assumption | exact hE) (by first | omega | assumption | exact ⟨rfl, rfl⟩) (by first | omega | assumption | exact ⟨_, hIt⟩) (by first | omega | assumption) (lv_sub hl [0, 2, 1] rfl) w trivial
  · skip
    have hr : (-1000004 : Int32) = balR f np := by rw [of_decide_eq_true c_10]; rfl
    refine lv_ldc (v := (-1000004 : Int32)) hx hb X.2.2.2.1 (X.2.2.2.2 _ q1582) dX0_balance_13 ?_
    refine W.widen (k := 1) (n := 4) (by omega) (by omega) ?_
    exact fin (-1000004 : Int32) _ H locs ls 15 dX0_balance_15 (⟨hr, hE⟩) w
set_option maxHeartbeats 4000000 in
set_option maxRecDepth 100000 in
theorem ct_nightAt (l : Launch) (G : mg) (A : Nat → Prop) (M1 : mh) (fo dq tx : Nat) (ad : Nat → Nat) (np ng : Nat) (M0 : mh) (f : Nat → Int32) (hM1 : Sta G ad np ng M0 M1 f) (hfo : M1 fo = some (.inr (0, [.ref (ad 0), .ref dq, .ref tx]))) (nn : Nat) (ix : Int32) (h18 : f 18 = nI nn) (hn7 : nn ≤ 7) : Met l yX0_nightAt (ws_ yX0_nightAt cX0_nightAt 3 (some .int)) ({ frames := 3, cells := 0, slots := 0, locals := 64 }) (va_Pc [.ref fo, .int ix] (mU G A (fun M => M = M1))) (mQi G A (fun r M => (∀ (w : Nat → Nat → Int32) (s : Int32), r = mf_nightAt (Vf w s f) ix) ∧ M = M1)) 0 0 A := by
  refine mx_ofi (by decide) (Nat.le_of_ble_eq_true rfl) ?_
  intro p e R s m av below meth c M H Q ls X hRf hRl hRc hRs hin eM w fin hl
  subst M
  have X : CallFix p m c cX0_nightAt 3 s av lw_all "FieldPumps" := X
  have hx := X.1
  have hb := X.2.1
  have hl : lv_has ls 3 [(0, .ref fo), (1, .int ix)] := hl
  have hRf : R.frames = 3 := hRf
  have hRl : R.locals = 64 := hRl
  have hRc : R.cells = 0 := hRc
  have hRs : R.slots = 0 := hRs
  generalize ([] : List Loc) = locs at w ⊢
  have hE : ∀ q, M1 q ≠ none → M1 q = M1 q := fun _ _ => rfl
  have hM := hM1
  have hn6 := hM1.n6
  have hg8 := hM1.g8
  obtain ⟨b9, bx, hB⟩ := hM.toB h18 (by omega)
  refine lv_iload_n hx hb dX0_nightAt_0 rfl (lv_at hl 1 rfl) ?_
  refine lv_if_ge (tgt := 7) hx hb dX0_nightAt_1 (by decide) (fun c_1 => ?_) (fun c_1 => ?_)
  · skip
    refine lv_aload_n hx hb dX0_nightAt_7 rfl (lv_at hl 0 rfl) ?_
    refine mx_get (T := TX0) (v := .ref (ad 0)) X w in_X0 (ci := 0) rfl 0 (by decide) q472 (fun _ h => h) (ext_at hE hfo) rfl dX0_nightAt_8 ?_
    refine mx_getN (T := TX1) (v := .ref (ad 8)) X w in_X1 (ci := 1) rfl 6 (by decide) (w.tblB q300 rfl rfl) (fun _ h => h) hM.st rfl dX0_nightAt_11 ?_
    refine mx_bi w (va_runV (As := []) (rest := []) X (jt_al_size l G A _ (ad 8) _ _ nn hB.l8) (cwV 0 X.2.2.2.2 (lw_V q806 q275 q276 q100 q277) rfl rfl rfl (by decide +kernel) ⟨by rw [hRf]; decide, by rw [hRl]; decide⟩) (mx_preV w rfl hB.l8 rfl) rfl rfl hl.1 rfl (lv_room (Nat.le_of_ble_eq_true rfl)) dX0_nightAt_14 ⟨by rw [hRc]; omega, by rw [hRs]; omega⟩) (fun r M9 H locs hp w => ?_)
    obtain ⟨eR, eM⟩ := hp; subst M9; subst eR
    refine lv_istore_n (lv' := [(2, .int (nI nn)), (0, .ref fo), (1, .int ix)]) hx hb dX0_nightAt_17 rfl hl (by decide) rfl (fun ls hl => ?_)
    refine lv_iload_n hx hb dX0_nightAt_18 rfl (lv_at hl 2 rfl) ?_
    refine lv_iload_n hx hb dX0_nightAt_19 rfl (lv_at hl 0 rfl) ?_
    refine lv_icmp_ge (tgt := 47) hx hb dX0_nightAt_20 (by decide) (fun c_20 => ?_) (fun c_20 => ?_)
    · skip
      have hr := fun w s => nightAt_1 (w := w) (s := s) h18 c_1 c_20
      refine lv_ldc (v := (-1000004 : Int32)) hx hb X.2.2.2.1 (X.2.2.2.2 _ q1582) dX0_nightAt_47 ?_
      refine W.widen (k := 0) (n := 0) (by omega) (by omega) ?_
      exact fin (-1000004 : Int32) _ H locs ls 49 dX0_nightAt_49 (⟨hr, rfl⟩) w
    · skip
      have hix := ix_n c_1 c_20 (by omega)
      have hr := fun w s => nightAt_2 (w := w) (s := s) h18 hn7 c_1 hix.1 hix.2
      refine lv_aload_n hx hb dX0_nightAt_23 rfl (lv_at hl 1 rfl) ?_
      refine mx_get (T := TX0) (v := .ref (ad 0)) X w in_X0 (ci := 0) rfl 0 (by decide) q472 (fun _ h => h) (ext_at hE hfo) rfl dX0_nightAt_24 ?_
      refine mx_getN (T := TX1) (v := .ref (ad 8)) X w in_X1 (ci := 1) rfl 6 (by decide) (w.tblB q300 rfl rfl) (fun _ h => h) hM.st rfl dX0_nightAt_27 ?_
      refine lv_iload_n hx hb dX0_nightAt_30 rfl (lv_at hl 0 rfl) ?_
      refine lv_iconst (v := (1 : Int32)) hx hb dX0_nightAt_31 (by decide) ?_
      refine mx_nsub (u := nn) (v := 1) hx hb rfl rfl (by omega) dX0_nightAt_32 ?_
      refine lv_iload_n hx hb dX0_nightAt_33 rfl (lv_at hl 2 rfl) ?_
      refine mx_cast (z := nI ((tN ix))) ((ix_n c_1 c_20 (by omega)).1) ?_
      refine mx_nsub (u := nn - 1) (v := (tN ix)) hx hb rfl rfl (by omega) dX0_nightAt_34 ?_
      refine mx_bq w (va_runV (As := [.int (nI ((nn - 1) - (tN ix)))]) (rest := []) X (jt_al_get l G A _ (ad 8) ((nn - 1) - (tN ix)) (f 174) b9 nn 10 _ (hB.l8p (by omega)) (hB.a9 (by omega)) (by omega) (by omega) (by decide)) (cwV 1 X.2.2.2.2 (lw_V q833 q248 q249 q100 q250) rfl rfl rfl (by decide +kernel) ⟨by rw [hRf]; decide, by rw [hRl]; decide⟩) (mx_preV w rfl hB.l8 rfl) rfl rfl hl.1 rfl (lv_room (Nat.le_of_ble_eq_true rfl)) dX0_nightAt_35 ⟨by rw [hRc]; omega, by rw [hRs]; omega⟩) (fun r M9 H locs hp w => ?_)
      obtain ⟨eR, eM⟩ := hp; subst M9
      have eR : r = some (bx ((nn - 1) - (tN ix))) := eR.trans (if_pos (by omega))
      subst eR
      have hbx := hB.2.2.2.2.2.1 ((nn - 1) - (tN ix)) (by omega)
      refine mx_boxcast X w q1730 hbx dX0_nightAt_38 ?_
      refine mx_bi w (va_runV (As := []) (rest := []) X (ct_intV l G A _ (bx ((nn - 1) - (tN ix))) (f (200 + ((nn - 1) - (tN ix)))) hbx) (cwV 0 X.2.2.2.2 (lw_V q1731 q740 q741 q124 q742) rfl rfl rfl (by decide +kernel) ⟨by rw [hRf]; decide, by rw [hRl]; decide⟩) (mx_preVB w rfl hbx) rfl rfl hl.1 rfl (lv_room (Nat.le_of_ble_eq_true rfl)) dX0_nightAt_41 ⟨by rw [hRc]; omega, by rw [hRs]; omega⟩) (fun r M9 H locs hp w => ?_)
      obtain ⟨eR, eM⟩ := hp; subst M9
      have eR : r = (f (200 + ((nn - 1) - (tN ix)))) := eR
      rw [eR]
      refine lv_goto (tgt := 49) hx hb dX0_nightAt_44 (by decide) ?_
      refine W.widen (k := 0) (n := 0) (by omega) (by omega) ?_
      exact fin (f (200 + ((nn - 1) - (tN ix)))) _ H locs ls 49 dX0_nightAt_49 (⟨hr, rfl⟩) w
  · skip
    have hr := fun w s => nightAt_0 (w := w) (s := s) (f := f) c_1
    refine lv_ldc (v := (-1000001 : Int32)) hx hb X.2.2.2.1 (X.2.2.2.2 _ q505) dX0_nightAt_4 ?_
    refine W.widen (k := 0) (n := 0) (by omega) (by omega) ?_
    exact fin (-1000001 : Int32) _ H locs ls 6 dX0_nightAt_6 (⟨hr, rfl⟩) w
