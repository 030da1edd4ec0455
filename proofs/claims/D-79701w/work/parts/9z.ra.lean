set_option maxRecDepth 100000
/-! RA -/
/-! RA: the queue at an index -/
section RA
variable {w : Nat → Nat → Int32} {s : Int32} {f g : Nat → Int32} {np ng nz T i n k x N : Nat} {ix : Int32} {D : Nat → Bool}
theorem nn_n {x : Int32} (c : 0 ≤ x) : x = nI (tN x) ∧ tN x < 2 ^ 31 := by
  have h0 : ¬ x < 0 := by
    rw [Int32.lt_iff_toInt_lt, Int32.toInt_zero]
    rw [Int32.le_iff_toInt_le, Int32.toInt_zero] at c
    omega
  obtain ⟨j, j1, rfl⟩ := nI_of h0
  rw [tN_nI j1]
  exact ⟨rfl, j1⟩
theorem poll_all (hS : SI T np nz ng f) (h : qD np f D i (n + 1) g) : ∃ x, (cf_poll g).1 = some x ∧ x < np ∧ (∀ (w : Nat → Nat → Int32) (s : Int32), mf_ready (Vf w s f) (nI i) = nI x) ∧ qD np f (fun j => D j || j == x) (i + 1) n (cf_poll g).2 := by
  obtain ⟨x, a1, a2, a3, a4, a5⟩ := poll_step (w := fun _ _ => 0) (s := 0) hS.n6 hS.cp hS.runs h
  refine ⟨x, a1, a2, fun w s => ?_, a4⟩
  obtain ⟨y, b1, b2, b3, b4, b5⟩ := poll_step (w := w) (s := s) hS.n6 hS.cp hS.runs h
  rw [b3, b5, a5]
theorem qk_r (hS : SI T np nz ng f) : SI T np nz ng f ∧ ∀ (w : Nat → Nat → Int32) (s : Int32), Vf w s f = Vf w s f := ⟨hS, fun _ _ => rfl⟩
theorem qD.si (h : qD np f D i n g) (hS : SI T np nz ng f) : SI T np nz ng g ∧ ∀ (w : Nat → Nat → Int32) (s : Int32), Vf w s g = Vf w s f := by
  have hn := hS.n6
  have fr : ∀ q, (q < 171 ∨ q = 177 ∨ 200 ≤ q) → g q = f q := fun q hq => (h.1 q (by omega)).trans (by unfold fR; exact pk_un (by omega))
  have hV : ∀ (w : Nat → Nat → Int32) (s : Int32), Vf w s g = Vf w s f := fun w s => Vf_q fr
  have hv := hS.vr.cong (g := g) (fr 4 (by omega)) (fun d => fr _ (by obtain ⟨e5, h5⟩ := isP_n hS.var d hn; omega)) (fun d => fr _ (by obtain ⟨e5, h5⟩ := isP_n hS.var d hn; omega))
  refine ⟨⟨IPg hS.ip (hV _ _) (IP_Vf hS.ip), fun k hk => ?_, ⟨n, h.2.1.2.1, h.2.1.1⟩, hv⟩, hV⟩
  rw [fr _ (by omega)]
  exact hS.2.1 k hk
theorem readyAt_0 (c : ¬ 0 ≤ ix) : (-1000001 : Int32) = mf_readyAt (Vf w s f) ix := by rw [mf_readyAt, if_neg c]
theorem readyAt_1 (hS : SI T np nz ng f) (h : qD np f D 0 N g) (c : 0 ≤ ix) (d : N ≤ tN ix) : (-1000004 : Int32) = mf_readyAt (Vf w s f) ix := by
  obtain ⟨e, e1⟩ := nn_n c
  have hc := qD_cnt hS.n6 hS.cp hS.runs N 0 D g h
  rw [mf_readyAt, if_pos c, ready_no hS.n6 hS.cp hS.runs (fun j hj z => ?_), if_pos rfl, mf_readyAt_24]
  rw [hc] at hj
  have := congrArg tN z
  rw [tN_nI (by omega)] at this
  omega
theorem readyAt_2 (c : 0 ≤ ix) (e : ix = nI k) (hv : mf_ready (Vf w s f) (nI k) = nI x) (hx : x < 6) : nI x = mf_readyAt (Vf w s f) ix := by
  rw [mf_readyAt, if_pos c, e, hv, if_neg (fun z => nI_pos (n := x) (by omega) (by rw [z]; decide)), mf_readyAt_24]
end RA

set_option maxHeartbeats 4000000 in
set_option maxRecDepth 100000 in
theorem ct_readyAt (l : Launch) (G : mg) (A : Nat → Prop) (fo dq tx : Nat) (ad : Nat → Nat) (np ng : Nat) (M0 : mh) (f : Nat → Int32) (T nz : Nat) (ix : Int32) (hfo : M0 fo = some (.inr (0, [.ref (ad 0), .ref dq, .ref tx]))) (hno : ∀ r, r < 32 → ad r ≠ fo) (hS : SI T np nz ng f) : Met l yX0_readyAt (ws_ yX0_readyAt cX0_readyAt 5 (some .int)) ({ frames := 8, cells := 0, slots := 0, locals := 179 }) (va_Pc [.ref fo, .int ix] (mU G A (fun M => Sta G ad np ng M0 M f))) (mQi G A (fun r M => (∀ (w : Nat → Nat → Int32) (s : Int32), r = mf_readyAt (Vf w s f) ix) ∧ ∃ g, Sta G ad np ng M0 M g ∧ SI T np nz ng g ∧ ∀ (w : Nat → Nat → Int32) (s : Int32), Vf w s g = Vf w s f)) 0 0 A := by
  refine mx_ofi (by decide) (Nat.le_of_ble_eq_true rfl) ?_
  intro p e R s m av below meth c M H Q ls X hRf hRl hRc hRs hin hPre w fin hl
  have X : CallFix p m c cX0_readyAt 5 s av lw_all "FieldPumps" := X
  have hx := X.1
  have hb := X.2.1
  have hl : lv_has ls 5 [(0, .ref fo), (1, .int ix)] := hl
  have hRf : R.frames = 8 := hRf
  have hRl : R.locals = 179 := hRl
  have hRc : R.cells = 0 := hRc
  have hRs : R.slots = 0 := hRs
  generalize ([] : List Loc) = locs at w ⊢
  have hM := hPre
  have hn6 := hS.n6
  have hD0 := trivial
  have hq9 := qk_r hS
  refine lv_iload_n hx hb dX0_readyAt_0 rfl (lv_at hl 1 rfl) ?_
  refine lv_if_ge (tgt := 7) hx hb dX0_readyAt_1 (by decide) (fun c_1 => ?_) (fun c_1 => ?_)
  · skip
    have hix := nn_n c_1
    have hib := hix.2
    refine lv_aload_n hx hb dX0_readyAt_7 rfl (lv_at hl 0 rfl) ?_
    refine mx_get (T := TX0) (v := .ref (ad 0)) X w in_X0 (ci := 0) rfl 0 (by decide) q472 (fun _ h => h) (hM.foo hfo hno) rfl dX0_readyAt_8 ?_
    refine mx_bq w (va_runV (As := []) (rest := []) X (ct_ready l G A ad np ng M0 f hS.q) (cwV 0 X.2.2.2.2 (lw_V q1577 q1462 q1463 q97 q1464) rfl rfl rfl (by decide +kernel) ⟨by rw [hRf]; decide, by rw [hRl]; decide⟩) (mx_preV w hM hM.st rfl) rfl rfl hl.1 rfl (lv_room (Nat.le_of_ble_eq_true rfl)) dX0_readyAt_11 ⟨by rw [hRc]; omega, by rw [hRs]; omega⟩) (fun r M9 H locs hp w => ?_)
    obtain ⟨eR, hM⟩ := hp; subst eR
    obtain ⟨N, hD0⟩ := qD_0 hS.n6 hS.cp hS.runs hS.q
    obtain ⟨g9, eg9⟩ : ∃ g, g = cf_ready f := ⟨_, rfl⟩
    rw [← eg9] at hM hD0
    have hN6 := hD0.2.1.2.1
    refine lv_astore_n (lv' := [(2, .ref (ad 17)), (0, .ref fo), (1, .int ix)]) hx hb dX0_readyAt_14 rfl hl (by decide) rfl (fun ls hl => ?_)
    refine lv_iload_n hx hb dX0_readyAt_15 rfl (lv_at hl 2 rfl) ?_
    refine mx_cast (z := nI ((tN ix))) ((nn_n c_1).1) ?_
    refine lv_aload_n hx hb dX0_readyAt_16 rfl (lv_at hl 0 rfl) ?_
    refine mx_bi w (va_runV (As := []) (rest := [.int (nI (tN ix))]) X (ct_qsize l G A ad np ng M0 _ g9 hM) (cwV 0 X.2.2.2.2 (lw_V q1578 q1579 q1580 q104 q1581) rfl rfl rfl (by decide +kernel) ⟨by rw [hRf]; decide, by rw [hRl]; decide⟩) (mx_preV w rfl hM.q17 rfl) rfl rfl hl.1 rfl (lv_room (Nat.le_of_ble_eq_true rfl)) dX0_readyAt_17 ⟨by rw [hRc]; omega, by rw [hRs]; omega⟩) (fun r M9 H locs hp w => ?_)
    obtain ⟨eR, eM⟩ := hp; subst M9
    have eR : r = nI N := eR.trans (show cf_qsize g9 = nI N from hD0.2.1.1)
    subst eR
    refine mx_nlt (u := (tN ix)) (v := N) (tgt := 26) hx hb rfl rfl (by omega) (by omega) dX0_readyAt_20 (by decide) (fun c_20 => ?_) (fun c_20 => ?_)
    · skip
      refine lv_aload_n hx hb dX0_readyAt_26 rfl (lv_at hl 0 rfl) ?_
      obtain ⟨m9, hm9⟩ : ∃ m, N = m + 1 := ⟨N - 1, by omega⟩
      have hD : qD np f (fun _ => false) 0 (m9 + 1) g9 := by rw [← hm9]; exact hD0
      refine mx_bq w (va_runV (As := []) (rest := []) X (ct_poll l G A ad np ng M0 g9 (m9 + 1) hD.2.1.1 hD.2.1.2.1 (by omega) hD.2.1.2.2.1) (cwV 0 X.2.2.2.2 (lw_V q1583 q1584 q1585 q104 q1586) rfl rfl rfl (by decide +kernel) ⟨by rw [hRf]; decide, by rw [hRl]; decide⟩) (mx_preV w hM hM.q17 rfl) rfl rfl hl.1 rfl (lv_room (Nat.le_of_ble_eq_true rfl)) dX0_readyAt_27 ⟨by rw [hRc]; omega, by rw [hRs]; omega⟩) (fun r M9 H locs hp w => ?_)
      obtain ⟨eR, hM⟩ := hp
      obtain ⟨x0, ep, hx9, hv, hD⟩ := poll_all hS hD
      have eR : r = some (ad (20 + x0)) := by rw [eR, ep]; rfl
      subst eR
      obtain ⟨g27, eg⟩ : ∃ y, y = (cf_poll g9).2 := ⟨_, rfl⟩
      rw [← eg] at hM hD
      refine st_castP X w hM (k := x0) hx9 q834 dX0_readyAt_30 ?_
      refine lv_astore_n (lv' := [(3, .ref (ad (20 + x0))), (2, .ref (ad 17)), (0, .ref fo), (1, .int ix)]) hx hb dX0_readyAt_33 rfl hl (by decide) rfl (fun ls hl => ?_)
      refine lv_iconst (v := (0 : Int32)) hx hb dX0_readyAt_34 (by decide) ?_
      refine lv_istore (lv' := [(4, .int (0 : Int32)), (3, .ref (ad (20 + x0))), (2, .ref (ad 17)), (0, .ref fo), (1, .int ix)]) hx hb dX0_readyAt_35 hl (by decide) rfl (fun ls hl => ?_)
      have L37 : ∀ (n_37 : Nat) (r3_37 : Nat) (n4_37 : Nat) (g_37 : (Nat → Int32)) (x_37 : Nat) (m_37 : Nat) (M : mh) (H : Heap) (locs : List Loc) (ls : Array Slot), (hk : n4_37 ≤ tN ix) → (hM : Sta G ad np ng M0 M g_37) → (hr3 : r3_37 = ad (20 + x_37)) → (hx9 : x_37 < np) → (hv : ∀ (w : Nat → Nat → Int32) (s : Int32), mf_ready (Vf w s f) (nI n4_37) = nI x_37) → (hI : ∃ D, qD np f D (n4_37 + 1) m_37 g_37) → (hs9 : n4_37 + 1 + m_37 = N) → (hm : tN ix < n4_37 + n_37) → lv_has ls 5 [(2, .ref (ad 17)), (1, .int ix), (3, .ref r3_37), (4, .int (nI n4_37))] → mW G A s M H locs → True → W p l e R s m av below meth c H locs 0 0 Q (F0 m 37 ls []) := by
        intro n_37
        induction n_37 with
        | zero =>
          intro r3_37 n4_37 g_37 x_37 m_37 M H locs ls hk hM hr3 hx9 hv hI hs9 hm hl w _hT
          exfalso; omega
        | succ n_37 ih_37 =>
          intro r3_37 n4_37 g_37 x_37 m_37 M H locs ls hk hM hr3 hx9 hv hI hs9 hm hl w _hT
          refine lv_iload hx hb dX0_readyAt_37 (lv_at hl 3 rfl) ?_
          refine lv_iload_n hx hb dX0_readyAt_39 rfl (lv_at hl 1 rfl) ?_
          refine mx_cast (z := nI ((tN ix))) ((nn_n c_1).1) ?_
          refine mx_nge (u := n4_37) (v := (tN ix)) (tgt := 57) hx hb rfl rfl (by omega) (by omega) dX0_readyAt_40 (by decide) (fun c_40 => ?_) (fun c_40 => ?_)
          · skip
            have hr := fun w s => readyAt_2 (w := w) (s := s) (k := n4_37) c_1 (by rw [(nn_n c_1).1]; exact congrArg nI (by omega)) (hv w s) (by omega)
            have hq9 := hI.choose_spec.si hS
            refine lv_aload_n hx hb dX0_readyAt_57 rfl (lv_at hl 2 rfl) ?_
            rw [hr3]
            refine st_getPN (v := .int (nI x_37)) X w hM (k := x_37) hx9 0 (by decide) q585 rfl dX0_readyAt_58 ?_
            refine W.widen (k := 0) (n := 0) (by omega) (by omega) ?_
            exact fin (nI x_37) _ H locs ls 61 dX0_readyAt_61 (⟨hr, _, hM, hq9⟩) w
          · skip
            refine lv_aload_n hx hb dX0_readyAt_43 rfl (lv_at hl 0 rfl) ?_
            obtain ⟨D8, hD⟩ := hI
            obtain ⟨m8, hm8⟩ : ∃ m, m_37 = m + 1 := ⟨m_37 - 1, by omega⟩
            rw [hm8] at hD
            refine mx_bq w (va_runV (As := []) (rest := []) X (ct_poll l G A ad np ng M0 g_37 (m8 + 1) hD.2.1.1 hD.2.1.2.1 (by omega) hD.2.1.2.2.1) (cwV 0 X.2.2.2.2 (lw_V q1583 q1584 q1585 q104 q1586) rfl rfl rfl (by decide +kernel) ⟨by rw [hRf]; decide, by rw [hRl]; decide⟩) (mx_preV w hM hM.q17 rfl) rfl rfl hl.1 rfl (lv_room (Nat.le_of_ble_eq_true rfl)) dX0_readyAt_44 ⟨by rw [hRc]; omega, by rw [hRs]; omega⟩) (fun r M9 H locs hp w => ?_)
            obtain ⟨eR, hM⟩ := hp
            obtain ⟨x1, ep, hx9, hv, hD⟩ := poll_all hS hD
            have eR : r = some (ad (20 + x1)) := by rw [eR, ep]; rfl
            subst eR
            obtain ⟨g44, eg⟩ : ∃ y, y = (cf_poll g_37).2 := ⟨_, rfl⟩
            rw [← eg] at hM hD
            refine st_castP X w hM (k := x1) hx9 q834 dX0_readyAt_47 ?_
            refine lv_astore_n (lv' := [(3, .ref (ad (20 + x1))), (2, .ref (ad 17)), (1, .int ix), (4, .int (nI n4_37))]) hx hb dX0_readyAt_50 rfl hl (by decide) rfl (fun ls hl => ?_)
            refine lv_iinc (v := (nI (n4_37 + 1))) (lv' := [(4, .int (nI (n4_37 + 1))), (3, .ref (ad (20 + x1))), (2, .ref (ad 17)), (1, .int ix)]) hx hb dX0_readyAt_51 hl (k := 3) rfl (nI_incr _ 1) (by decide) rfl (fun ls hl => ?_)
            refine lv_goto (tgt := 37) hx hb dX0_readyAt_54 (by decide) ?_
            exact ih_37 (ad (20 + x1)) (n4_37 + 1) g44 x1 m8 _ H locs ls (by first | omega | assumption | exact (by omega)) (by first | omega | assumption | exact hM) (by first | omega | assumption | exact rfl) (by first | omega | assumption | exact hx9) (by first | omega | assumption | exact hv) (by first | omega | assumption | exact ⟨_, hD⟩) (by first | omega | assumption | exact (by omega)) (by first | omega | assumption) (lv_sub hl [2, 3, 1, 0] rfl) w trivial
      exact L37 (tN ix + 1) (ad (20 + x0)) 0 g27 x0 m9 _ H locs ls (by first | omega | assumption | exact (Nat.zero_le _)) (by first | omega | assumption | exact hM) (by first | omega | assumption | exact rfl) (by first | omega | assumption | exact hx9) (by first | omega | assumption | exact hv) (by first | omega | assumption | exact ⟨_, hD⟩) (by first | omega | assumption | exact (by omega)) (by first | omega | assumption) (lv_sub hl [2, 4, 1, 0] rfl) w trivial
    · skip
      have hr := fun w s => readyAt_1 (w := w) (s := s) hS hD0 c_1 (by omega)
      have hq9 := hD0.si hS
      refine lv_ldc (v := (-1000004 : Int32)) hx hb X.2.2.2.1 (X.2.2.2.2 _ q1582) dX0_readyAt_23 ?_
      refine W.widen (k := 0) (n := 0) (by omega) (by omega) ?_
      exact fin (-1000004 : Int32) _ H locs ls 25 dX0_readyAt_25 (⟨hr, _, hM, hq9⟩) w
  · skip
    have hr := fun w s => readyAt_0 (w := w) (s := s) (f := f) c_1
    refine lv_ldc (v := (-1000001 : Int32)) hx hb X.2.2.2.1 (X.2.2.2.2 _ q505) dX0_readyAt_4 ?_
    refine W.widen (k := 0) (n := 0) (by omega) (by omega) ?_
    exact fin (-1000001 : Int32) _ H locs ls 6 dX0_readyAt_6 (⟨hr, _, hM, hq9⟩) w
