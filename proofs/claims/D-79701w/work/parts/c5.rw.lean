set_option maxRecDepth 100000
/-! RW: reading -/
/-! RW: the reading -/
def StepR (np nz ng : Nat) (tb : Nat → Int32) (tl : Nat) (num : Int32) (pl T : Nat) (g : Nat → Int32) (num' : Int32) (pl' T' : Nat) (g' : Nat → Int32) : Prop :=
  pl < tl ∧ ∃ k, sgK (tb pl) = some k ∧ ordP tb tl k num pl = some (num', pl') ∧ thB g k num' = true ∧ cf_can g (nI k) num' = true ∧ OrdR np nz ng T k num' g g' ∧ T' = (if k = 3 then T + tN num' else T) ∧ SI T' np nz ng g' ∧ T' ≤ 20000
def RunsR (np nz ng : Nat) (tb : Nat → Int32) (tl : Nat) (m0 : Int32) (T0 : Nat) (g0 : Nat → Int32) : Nat → Int32 → Nat → Nat → (Nat → Int32) → Prop
  | 0, num, pl, T, g => num = m0 ∧ pl = 0 ∧ T = T0 ∧ g = g0
  | n + 1, num, pl, T, g => ∃ num1 pl1 T1 g1, RunsR np nz ng tb tl m0 T0 g0 n num1 pl1 T1 g1 ∧ StepR np nz ng tb tl num1 pl1 T1 g1 num pl T g
def FailA (tb : Nat → Int32) (tl : Nat) (num : Int32) (pl : Nat) (g : Nat → Int32) (r : Int32) : Prop :=
  pl < tl ∧ ((r = 1 ∧ ∀ k, sgK (tb pl) = some k → ordP tb tl k num pl = none) ∨ ∃ k m p, sgK (tb pl) = some k ∧ ordP tb tl k num pl = some (m, p) ∧ ((thB g k m = false ∧ r = 2) ∨ (thB g k m = true ∧ cf_can g (nI k) m = false ∧ r = 3)))
def LoopR (np nz ng : Nat) (tb : Nat → Int32) (tl : Nat) (m0 : Int32) (T0 : Nat) (g0 : Nat → Int32) (num : Int32) (pl : Nat) (bg rs mn : Int32) (g : Nat → Int32) (n T : Nat) : Prop :=
  (rs = 0 ∧ RunsR np nz ng tb tl m0 T0 g0 n num pl T g ∧ mn = nI n ∧ pl ≤ tl ∧ n ≤ pl ∧ SI T np nz ng g ∧ T ≤ 20000) ∨
  (rs ≠ 0 ∧ ∃ num1 pl1, RunsR np nz ng tb tl m0 T0 g0 n num1 pl1 T g ∧ mn = nI n ∧ pl1 ≤ tl ∧ n ≤ pl1 ∧ (SI T np nz ng g ∧ T ≤ 20000) ∧ bg = nI pl1 ∧ FailA tb tl num1 pl1 g rs)
section RW3
variable {G : mg} {M1 M : mh} {rd fo a0 dq tx va tl cap np nz ng pl pl' T n : Nat} {ml num num' bg rs mn r m : Int32} {gb tb f g g' g0 : Nat → Int32} {ad1 : Nat → Nat} {m0 : Int32} {T0 k p : Nat}
theorem sgK_lt {x : Int32} (h : sgK x = some k) : k < 5 := by
  unfold sgK at h
  split at h
  · cases h; decide
  · split at h
    · cases h; decide
    · split at h
      · cases h; decide
      · split at h
        · cases h; decide
        · split at h
          · cases h; decide
          · cases h
theorem ordP_pl (h : ordP tb tl k num pl = some (m, p)) (hl : pl < tl) : pl + 2 ≤ p ∧ p ≤ tl := by
  unfold ordP at h
  by_cases c : k = 4
  · rw [if_pos c] at h
    by_cases d : accB tb tl (pl + 1) 59 = true
    · rw [if_pos d] at h
      have e := (of_decide_eq_true d).1
      have h2 := Option.some.inj h
      have h3 : pl + 2 = p := congrArg Prod.snd h2
      omega
    · rw [if_neg d] at h
      cases h
  · rw [if_neg c] at h
    by_cases d : 0 < (rdN tb tl 3 0 0 (pl + 1)).1 ∧ accB tb tl (rdN tb tl 3 0 0 (pl + 1)).2.2 59 = true
    · rw [if_pos d] at h
      have e := (of_decide_eq_true d.2).1
      have h2 := Option.some.inj h
      have h3 : (rdN tb tl 3 0 0 (pl + 1)).2.2 + 1 = p := congrArg Prod.snd h2
      have h4 := (rdN_pl tb tl 3 0 0 (pl + 1) (by omega)).2
      omega
    · rw [if_neg d] at h
      cases h
theorem isPumpS (hS : SI T np nz ng g) (c : cf_isPump g m = true) : m = nI (tN m) ∧ tN m < np := by
  have e : g 14 = nI np := hS.ip.enp
  exact isPump_n (v := fun _ => g) (n := np) e hS.n6 (by rw [← isPump_eq (n := np) e hS.n6 rfl]; exact c)
theorem OrdR.si (hS : SI T np nz ng g) (hT : T ≤ 20000) (hk : k < 5) (h1 : thB g k m = true) (h2 : cf_can g (nI k) m = true) (h : OrdR np nz ng T k m g g') : SI (if k = 3 then T + tN m else T) np nz ng g' ∧ (if k = 3 then T + tN m else T) ≤ 20000 := by
  obtain ⟨a0, a1, a2, a3, a4⟩ := h
  obtain rfl | rfl | rfl | rfl | rfl : k = 0 ∨ k = 1 ∨ k = 2 ∨ k = 3 ∨ k = 4 := by omega
  · have hz := isZoneC hS (show cf_isZone g m = true from h1)
    rw [if_neg (by decide), a0 rfl, cf_make0, cf_make0_46]
    exact ⟨hS.opx hz.2 ⟨1, by decide, rfl⟩, hT⟩
  · have hz := isZoneC hS (show cf_isZone g m = true from h1)
    rw [if_neg (by decide), a1 rfl, cf_make1, cf_make1_46]
    exact ⟨hS.opx hz.2 rg_0, hT⟩
  · have hz := isPumpS hS (show cf_isPump g m = true from h1)
    rw [if_neg (by decide), a2 rfl]
    exact ⟨(E_make2 (w := fun _ _ => 0) (s := 0) hS hz.2).2.2, hT⟩
  · have hz := can3_n hS (show cf_can g (3 : Int32) m = true from h2)
    rw [if_pos rfl]
    exact ⟨(a3 rfl).si hS, hz.2⟩
  · rw [if_neg (by decide), a4 rfl, cf_make4, cf_make4_c127]
    exact ⟨(E_make4 (w := fun _ _ => 0) (s := 0) hS).2.2, hT⟩
theorem WhyR.out (hS : SI T np nz ng g) (hT : T ≤ 20000) (hl : pl < tl) (h : WhyR G rd fo M1 ad1 np nz ng T tb tl num pl bg rs mn g r M (sgK (tb pl))) : ∃ num' pl' mn' g', RdP G rd fo M1 ad1 np ng num' pl' bg rs mn' g' M ∧ ((r = 0 ∧ mn' = mn + 1 ∧ ∃ T', StepR np nz ng tb tl num pl T g num' pl' T' g') ∨ (r ≠ 0 ∧ mn' = mn ∧ g' = g ∧ FailA tb tl num pl g r)) := by
  rcases h with ⟨e, h, num', pl', hR⟩ | ⟨k, m, p, e, h, h2⟩
  · exact ⟨num', pl', mn, g, hR, Or.inr ⟨by rw [e]; decide, rfl, rfl, hl, Or.inl ⟨e, h⟩⟩⟩
  · rcases h2 with ⟨h2, er, hR⟩ | ⟨h2, h3, er, hR⟩ | ⟨h2, h3, er, g', hO, hR⟩
    · exact ⟨m, p, mn, g, hR, Or.inr ⟨by rw [er]; decide, rfl, rfl, hl, Or.inr ⟨k, m, p, e, h, Or.inl ⟨h2, er⟩⟩⟩⟩
    · exact ⟨m, p, mn, g, hR, Or.inr ⟨by rw [er]; decide, rfl, rfl, hl, Or.inr ⟨k, m, p, e, h, Or.inr ⟨h2, h3, er⟩⟩⟩⟩
    · obtain ⟨s1, s2⟩ := hO.si hS hT (sgK_lt e) h2 h3
      exact ⟨m, p, mn + 1, g', hR, Or.inl ⟨er, rfl, _, hl, k, e, h, h2, h3, hO, rfl, s1, s2⟩⟩
theorem LoopR.start (hS : SI T np nz ng g) (hT : T ≤ 20000) : LoopR np nz ng tb tl 0 T g 0 0 0 0 0 g 0 T := Or.inl ⟨rfl, ⟨rfl, rfl, rfl, rfl⟩, rfl, Nat.zero_le _, Nat.le_refl _, hS, hT⟩
theorem LoopR.ok (h : LoopR np nz ng tb tl m0 T0 g0 num pl bg rs mn g n T) (c : rs = 0) : n ≤ pl ∧ SI T np nz ng g ∧ T ≤ 20000 := by
  rcases h with ⟨-, -, -, -, h1, h2, h3⟩ | ⟨h, -⟩
  · exact ⟨h1, h2, h3⟩
  · exact absurd c h
theorem LoopR.n (h : LoopR np nz ng tb tl m0 T0 g0 num pl bg rs mn g n T) : n ≤ tl := by
  rcases h with ⟨-, -, -, h0, h1, -, -⟩ | ⟨-, num1, pl1, -, -, h0, h1, -, -⟩
  · omega
  · omega
theorem LoopR.next {mn' : Int32} (h : LoopR np nz ng tb tl m0 T0 g0 num pl bg rs mn g n T) (c : rs = 0) (hl : pl < tl) (hN : (r = 0 ∧ mn' = mn + 1 ∧ ∃ T', StepR np nz ng tb tl num pl T g num' pl' T' g') ∨ (r ≠ 0 ∧ mn' = mn ∧ g' = g ∧ FailA tb tl num pl g r)) : ∃ n' T', LoopR np nz ng tb tl m0 T0 g0 num' pl' (nI pl) r mn' g' n' T' ∧ (n ≤ n' ∧ (r = 0 → n' = n + 1)) ∧ (r = 0 → pl < pl') := by
  rcases h with ⟨-, h1, h2, h3, h4, h5, h6⟩ | ⟨h, -⟩
  · rcases hN with ⟨e, em, T', hs⟩ | ⟨e, em, eg, hf⟩
    · obtain ⟨-, k, -, hp, -, -, -, -, s1, s2⟩ := id hs
      obtain ⟨p1, p2⟩ := ordP_pl hp hl
      exact ⟨n + 1, T', Or.inl ⟨e, ⟨num, pl, T, g, h1, hs⟩, by rw [em, h2, show (1 : Int32) = nI 1 from rfl, nI_add], p2, by omega, s1, s2⟩, ⟨by omega, fun _ => rfl⟩, fun _ => by omega⟩
    · exact ⟨n, T, Or.inr ⟨e, num, pl, by rw [eg]; exact h1, em.trans h2, h3, h4, by rw [eg]; exact ⟨h5, h6⟩, rfl, by rw [eg]; exact hf⟩, ⟨Nat.le_refl _, fun z => absurd z e⟩, fun z => absurd z e⟩
  · exact absurd c h
end RW3

theorem ct_rd_why (l : Launch) (G : mg) (A : Nat → Prop) (M1 : mh) (rd fo a0 dq tx va : Nat) (ml : Int32) (tl cap : Nat) (gb tb : Nat → Int32) (ad1 : Nat → Nat) (np ng : Nat) (F : RdF G M1 rd fo a0 dq tx va ml tl cap gb tb ad1) (num : Int32) (pl : Nat) (bg rs mn : Int32) (g : Nat → Int32) (T nz : Nat) (hS : SI T np nz ng g) (hT9 : T ≤ 20000) (hlt : pl < tl) : Met l yX10_why (ws_ yX10_why cX10_why 3 (some .int)) ({ frames := 13, cells := 66, slots := 171, locals := 286 }) (va_Pc [.ref rd] (mU G A (fun M => RdP G rd fo M1 ad1 np ng num pl bg rs mn g M))) (mQi G A (fun r M => WhyR G rd fo M1 ad1 np nz ng T tb tl num pl bg rs mn g r M (sgK (tb pl)))) 66 171 A := by
  by_cases c0 : tb pl = 111
  · rw [show sgK (tb pl) = some 0 by rw [c0]; rfl]
    exact Met_room (ct_rd_why0 l G A M1 rd fo a0 dq tx va ml tl cap gb tb ad1 np ng F num pl bg rs mn g T nz hS hT9 hlt c0) (by decide) (by decide) (by decide) (by decide) (by decide) (by decide)
  by_cases c1 : tb pl = 99
  · rw [show sgK (tb pl) = some 1 by rw [c1]; rfl]
    exact Met_room (ct_rd_why1 l G A M1 rd fo a0 dq tx va ml tl cap gb tb ad1 np ng F num pl bg rs mn g T nz hS hT9 hlt c1) (by decide) (by decide) (by decide) (by decide) (by decide) (by decide)
  by_cases c2 : tb pl = 115
  · rw [show sgK (tb pl) = some 2 by rw [c2]; rfl]
    exact Met_room (ct_rd_why2 l G A M1 rd fo a0 dq tx va ml tl cap gb tb ad1 np ng F num pl bg rs mn g T nz hS hT9 hlt c2) (by decide) (by decide) (by decide) (by decide) (by decide) (by decide)
  by_cases c3 : tb pl = 112
  · rw [show sgK (tb pl) = some 3 by rw [c3]; rfl]
    exact Met_room (ct_rd_why3 l G A M1 rd fo a0 dq tx va ml tl cap gb tb ad1 np ng F num pl bg rs mn g T nz hS hT9 hlt c3) (by decide) (by decide) (by decide) (by decide) (by decide) (by decide)
  by_cases c4 : tb pl = 114
  · rw [show sgK (tb pl) = some 4 by rw [c4]; rfl]
    exact Met_room (ct_rd_why4 l G A M1 rd fo a0 dq tx va ml tl cap gb tb ad1 np ng F num pl bg rs mn g T nz hS hT9 hlt c4) (by decide) (by decide) (by decide) (by decide) (by decide) (by decide)
  have e : sgK (tb pl) = none := by unfold sgK; rw [if_neg c0, if_neg c1, if_neg c2, if_neg c3, if_neg c4]
  rw [e]
  exact Met_room (ct_rd_whyX l G A M1 rd fo a0 dq tx va ml tl cap gb tb ad1 np ng F num pl bg rs mn g T nz hS hT9 hlt e) (by decide) (by decide) (by decide) (by decide) (by decide) (by decide)

set_option maxHeartbeats 4000000 in
set_option maxRecDepth 100000 in
theorem ct_rd_well (l : Launch) (G : mg) (A : Nat → Prop) (M1 : mh) (rd fo a0 dq tx va : Nat) (ml : Int32) (tl cap : Nat) (gb tb : Nat → Int32) (ad1 : Nat → Nat) (np ng : Nat) (F : RdF G M1 rd fo a0 dq tx va ml tl cap gb tb ad1) (g : Nat → Int32) (T nz : Nat) (hS : SI T np nz ng g) (hT9 : T ≤ 20000) : Met l yX10_isWell (ws_ yX10_isWell cX10_isWell 1 (some .boolean)) ({ frames := 14, cells := 4026, slots := 10431, locals := 308 }) (va_Pc [.ref rd] (mU G A (fun M => RdP G rd fo M1 ad1 np ng (0 : Int32) 0 (0 : Int32) (0 : Int32) (0 : Int32) g M))) (mQi G A (fun r M => ∃ (num pl : _) (bg rs mn : Int32) (g2 : Nat → Int32) (n2 T2 : Nat), r = bI (decide (rs = 0)) ∧ RdP G rd fo M1 ad1 np ng num pl bg rs mn g2 M ∧ LoopR np nz ng tb tl 0 T g num pl bg rs mn g2 n2 T2 ∧ (rs = 0 → tl ≤ pl))) 4026 10431 A := by
  refine mx_ofz (by decide) (Nat.le_of_ble_eq_true rfl) ?_
  intro p e R s m av below meth c M H Q ls X hRf hRl hRc hRs hin hPre w fin hl
  have X : CallFix p m c cX10_isWell 1 s av lw_all "FieldPumps$Reader" := X
  have hx := X.1
  have hb := X.2.1
  have hl : lv_has ls 1 [(0, .ref rd)] := hl
  have hRf : R.frames = 14 := hRf
  have hRl : R.locals = 308 := hRl
  have hRc : R.cells = 4026 := hRc
  have hRs : R.slots = 10431 := hRs
  generalize ([] : List Loc) = locs at w ⊢
  have hR := hPre
  have hk := hR.kp F
  have ht6 := F.2.2.2.2.1.1
  have L0 : ∀ (n_0 : Nat) (nm_0 : Int32) (pp_0 : Nat) (bb_0 : Int32) (rr_0 : Int32) (mm_0 : Int32) (gg_0 : (Nat → Int32)) (nn_0 : Nat) (TT_0 : Nat) (cc_0 : Nat) (M : mh) (H : Heap) (locs : List Loc) (ls : Array Slot), (hR : RdP G rd fo M1 ad1 np ng nm_0 pp_0 bb_0 rr_0 mm_0 gg_0 M) → (hk : ∀ q, M1 q ≠ none → M q = M1 q) → (hL : LoopR np nz ng tb tl 0 T g nm_0 pp_0 bb_0 rr_0 mm_0 gg_0 nn_0 TT_0) → (hcc : cc_0 ≤ nn_0 + 1 ∧ (rr_0 = 0 → cc_0 ≤ nn_0)) → (hm : rr_0 = 0 → tl + 1 < pp_0 + n_0) → (hm0 : 0 < n_0) → lv_has ls 1 [(0, .ref rd)] → mW G A s M H locs → True → W p l e R s m av below meth c H locs (66 * cc_0) (171 * cc_0) Q (F0 m 0 ls []) := by
    intro n_0
    induction n_0 with
    | zero =>
      intro nm_0 pp_0 bb_0 rr_0 mm_0 gg_0 nn_0 TT_0 cc_0 M H locs ls hR hk hL hcc hm hm0 hl w _hT
      exfalso; omega
    | succ n_0 ih_0 =>
      intro nm_0 pp_0 bb_0 rr_0 mm_0 gg_0 nn_0 TT_0 cc_0 M H locs ls hR hk hL hcc hm hm0 hl w _hT
      refine lv_aload_n hx hb dX10_isWell_0 rfl (lv_at hl 0 rfl) ?_
      refine mx_get (T := TX10) (v := .int rr_0) X w in_X10 (ci := 8) rfl 4 (by decide) q1882 (fun _ h => h) hR.1 rfl dX10_isWell_1 ?_
      refine lv_if_ne (tgt := 43) hx hb dX10_isWell_4 (by decide) (fun c_4 => ?_) (fun c_4 => ?_)
      · skip
        have hend : rr_0 = 0 → tl ≤ pp_0 := fun z => absurd z c_4
        refine lv_aload_n hx hb dX10_isWell_43 rfl (lv_at hl 0 rfl) ?_
        refine mx_get (T := TX10) (v := .int rr_0) X w in_X10 (ci := 8) rfl 4 (by decide) q1882 (fun _ h => h) hR.1 rfl dX10_isWell_44 ?_
        refine lv_if_ne (tgt := 54) hx hb dX10_isWell_47 (by decide) (fun c_47 => ?_) (fun c_47 => ?_)
        · skip
          have hb7 : decide (rr_0 = 0) = false := decide_eq_false c_47
          have hn61 := LoopR.n hL
          refine lv_iconst (v := (0 : Int32)) hx hb dX10_isWell_54 (by decide) ?_
          refine W.widen (k := 4026) (n := 10431) (by omega) (by omega) ?_
          exact fin false _ H locs ls 55 dX10_isWell_55 (⟨nm_0, pp_0, bb_0, rr_0, mm_0, gg_0, nn_0, TT_0, by rw [hb7], hR, hL, hend⟩) w
        · skip
          have hb7 : decide (rr_0 = 0) = true := decide_eq_true c_47
          have hn61 := LoopR.n hL
          refine lv_iconst (v := (1 : Int32)) hx hb dX10_isWell_50 (by decide) ?_
          refine lv_goto (tgt := 55) hx hb dX10_isWell_51 (by decide) ?_
          refine W.widen (k := 4026) (n := 10431) (by omega) (by omega) ?_
          exact fin true _ H locs ls 55 dX10_isWell_55 (⟨nm_0, pp_0, bb_0, rr_0, mm_0, gg_0, nn_0, TT_0, by rw [hb7], hR, hL, hend⟩) w
      · skip
        refine lv_aload_n hx hb dX10_isWell_7 rfl (lv_at hl 0 rfl) ?_
        refine mx_get (T := TX10) (v := .int (nI pp_0)) X w in_X10 (ci := 8) rfl 2 (by decide) q1879 (fun _ h => h) hR.1 rfl dX10_isWell_8 ?_
        refine lv_aload_n hx hb dX10_isWell_11 rfl (lv_at hl 0 rfl) ?_
        refine mx_get (T := TX10) (v := .ref fo) X w in_X10 (ci := 8) rfl 6 (by decide) q1886 (fun _ h => h) hR.1 rfl dX10_isWell_12 ?_
        refine mx_getN (T := TX0) (v := .ref tx) X w in_X0 (ci := 0) rfl 2 (by decide) (w.tblB q474 rfl rfl) (fun _ h => h) (ext_at hk F.2.1) rfl dX10_isWell_15 ?_
        refine mx_bi w (va_runV (As := []) (rest := [.int (nI pp_0)]) X (jt_sb_len l G A _ tx va ml tl (ext_at hk F.2.2.1)) (cwV 0 X.2.2.2.2 (lw_V q1906 q1747 q1748 q110 q1749) rfl rfl rfl (by decide +kernel) ⟨by rw [hRf]; decide, by rw [hRl]; decide⟩) (mx_preV w rfl (ext_at hk F.2.2.1) rfl) rfl rfl hl.1 rfl (lv_room (Nat.le_of_ble_eq_true rfl)) dX10_isWell_18 ⟨by rw [hRc]; omega, by rw [hRs]; omega⟩) (fun r M9 H locs hp w => ?_)
        obtain ⟨eR, eM⟩ := hp; subst M9; subst eR
        refine mx_nge (u := pp_0) (v := tl) (tgt := 43) hx hb rfl rfl (by omega) (by omega) dX10_isWell_21 (by decide) (fun c_21 => ?_) (fun c_21 => ?_)
        · skip
          have hend : rr_0 = 0 → tl ≤ pp_0 := fun _ => by omega
          refine lv_aload_n hx hb dX10_isWell_43 rfl (lv_at hl 0 rfl) ?_
          refine mx_get (T := TX10) (v := .int rr_0) X w in_X10 (ci := 8) rfl 4 (by decide) q1882 (fun _ h => h) hR.1 rfl dX10_isWell_44 ?_
          refine lv_if_ne (tgt := 54) hx hb dX10_isWell_47 (by decide) (fun c_47 => ?_) (fun c_47 => ?_)
          · skip
            have hb7 : decide (rr_0 = 0) = false := decide_eq_false c_47
            have hn61 := LoopR.n hL
            refine lv_iconst (v := (0 : Int32)) hx hb dX10_isWell_54 (by decide) ?_
            refine W.widen (k := 4026) (n := 10431) (by omega) (by omega) ?_
            exact fin false _ H locs ls 55 dX10_isWell_55 (⟨nm_0, pp_0, bb_0, rr_0, mm_0, gg_0, nn_0, TT_0, by rw [hb7], hR, hL, hend⟩) w
          · skip
            have hb7 : decide (rr_0 = 0) = true := decide_eq_true c_47
            have hn61 := LoopR.n hL
            refine lv_iconst (v := (1 : Int32)) hx hb dX10_isWell_50 (by decide) ?_
            refine lv_goto (tgt := 55) hx hb dX10_isWell_51 (by decide) ?_
            refine W.widen (k := 4026) (n := 10431) (by omega) (by omega) ?_
            exact fin true _ H locs ls 55 dX10_isWell_55 (⟨nm_0, pp_0, bb_0, rr_0, mm_0, gg_0, nn_0, TT_0, by rw [hb7], hR, hL, hend⟩) w
        · skip
          have hlt : pp_0 < tl := by omega
          obtain ⟨hnp, hS7, hT7⟩ := LoopR.ok hL c_4
          have hm1 := hm c_4
          refine lv_aload_n hx hb dX10_isWell_24 rfl (lv_at hl 0 rfl) ?_
          refine lv_aload_n hx hb dX10_isWell_25 rfl (lv_at hl 0 rfl) ?_
          refine mx_get (T := TX10) (v := .int (nI pp_0)) X w in_X10 (ci := 8) rfl 2 (by decide) q1879 (fun _ h => h) hR.1 rfl dX10_isWell_26 ?_
          refine mx_put (T := TX10) (v := .int (nI pp_0)) X w in_X10 tyX10 tyX10_ok nmX10 (ci := 8) rfl 3 (by decide) q1880 (fun _ h => h) rfl rfl rfl hR.1 (show 3 < 7 by decide) dX10_isWell_29 (fun H locs w => ?_)
          refine raw_gen (P := fun M => RdP G rd fo M1 ad1 np ng nm_0 pp_0 (nI pp_0) rr_0 mm_0 gg_0 M) w (hR.up F rfl) (fun M w hR => ?_)
          have hk := hR.kp F
          refine lv_aload_n hx hb dX10_isWell_32 rfl (lv_at hl 0 rfl) ?_
          refine lv_aload_n hx hb dX10_isWell_33 rfl (lv_at hl 0 rfl) ?_
          refine mx_bi w (va_runV (As := []) (rest := [.ref rd]) X (ct_rd_why l G A M1 rd fo a0 dq tx va ml tl cap gb tb ad1 np ng F nm_0 pp_0 (nI pp_0) rr_0 mm_0 gg_0 TT_0 nz hS7 hT7 hlt) (cwV 0 X.2.2.2.2 (lw_V q1907 q1909 qs42 q136 q1910) rfl rfl rfl (by decide +kernel) ⟨by rw [hRf]; exact Nat.le_of_ble_eq_true rfl, by rw [hRl]; exact Nat.le_of_ble_eq_true rfl⟩) (mx_preV w hR hR.1 rfl) rfl rfl hl.1 rfl (lv_room (Nat.le_of_ble_eq_true rfl)) dX10_isWell_34 ⟨by rw [hRc]; omega, by rw [hRs]; omega⟩) (fun r9 M9 H locs hp w => ?_)
          obtain ⟨num9, pl9, mn9, g9, hR, hN⟩ := WhyR.out hS7 hT7 hlt hp
          obtain ⟨n9, T9, hL2, hn9, hp9⟩ := LoopR.next hL c_4 hlt hN
          have hk := hR.kp F
          have hm2 : r9 = 0 → tl + 1 < pl9 + n_0 := fun z => by have := hp9 z; omega
          have hc2 : cc_0 + 1 ≤ n9 + 1 ∧ (r9 = 0 → cc_0 + 1 ≤ n9) := ⟨by have := hcc.2 c_4; omega, fun z => by have := hn9.2 z; have := hcc.2 c_4; omega⟩
          refine mx_put (T := TX10) (v := .int r9) X w in_X10 tyX10 tyX10_ok nmX10 (ci := 8) rfl 4 (by decide) q1882 (fun _ h => h) rfl rfl rfl hR.1 (show 4 < 7 by decide) dX10_isWell_37 (fun H locs w => ?_)
          refine raw_gen (P := fun M => RdP G rd fo M1 ad1 np ng num9 pl9 (nI pp_0) r9 mn9 g9 M) w (hR.up F rfl) (fun M w hR => ?_)
          have hk := hR.kp F
          refine lv_goto (tgt := 0) hx hb dX10_isWell_40 (by decide) ?_
          refine W.widen (k := (66 * (cc_0 + 1))) (n := (171 * (cc_0 + 1))) (by omega) (by omega) ?_
          exact ih_0 num9 pl9 (nI pp_0) r9 mn9 g9 n9 T9 (cc_0 + 1) _ H locs ls (by first | omega | assumption | exact hR) (by first | omega | assumption | exact hk) (by first | omega | assumption | exact hL2) (by first | omega | assumption | exact hc2) (by first | omega | assumption | exact hm2) (by first | omega | assumption) (lv_sub hl [0] rfl) w trivial
  refine W.widen (k := (66 * 0)) (n := (171 * 0)) (by omega) (by omega) ?_
  exact L0 (tl + 2) (0 : Int32) 0 (0 : Int32) (0 : Int32) (0 : Int32) g 0 T 0 _ H locs ls (by first | omega | assumption | exact hR) (by first | omega | assumption | exact hk) (by first | omega | assumption | exact (LoopR.start hS hT9)) (by first | omega | assumption | exact ⟨by omega, fun _ => Nat.le_refl _⟩) (by first | omega | assumption | exact (fun _ => by omega)) (by first | omega | assumption) (lv_sub hl [0] rfl) w trivial
