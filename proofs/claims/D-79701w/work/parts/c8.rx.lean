set_option maxRecDepth 100000
/-! RX: the readers: what is told does not matter -/
def A17 (v v' : Nat → Nat → Int32) : Prop := (∀ k, k ≠ 170 → v' 1 k = v 1 k) ∧ v' 0 = v 0
section RX
variable {v v' : Nat → Nat → Int32} {k o n np nz ng T hn tl : Nat} {x y z s : Int32} {f g tb : Nat → Int32} {fs : Nat → Nat → Int32}
theorem A17.n (h : A17 v v') {i : Nat} (hi : i < 127) : nC (v' 1) i = nC (v 1) i := by
  unfold nC; rw [h.1 i (by omega)]
theorem A17.of (h : A17 v v') (hk : k < 6) {j : Nat} (hj : j < 8) : mf_of v' k j = mf_of v k j := by
  rw [mf_of, mf_of, h.1 _ (by omega)]
theorem A17.runs (h : A17 v v') (hk : k < 6) : mf_runs v' k = mf_runs v k := by
  rw [mf_runs, mf_runs, h.of hk (by decide)]; rfl
theorem A17.isReady (h : A17 v v') (hk : k < 6) : mf_isReady v' k = mf_isReady v k := by
  rw [mf_isReady, mf_isReady, h.of hk (by decide), h.runs hk]; rfl
theorem A17.isOpen (h : A17 v v') (hk : k < 8) : mf_isOpen v' k = mf_isOpen v k := by
  rw [mf_isOpen, mf_isOpen, h.1 (87 + (2 * k) + 1) (by omega)]; rfl
theorem A17.takes (h : A17 v v') (hk : k < 8) : mf_takes v' k = mf_takes v k := by
  rw [mf_takes, mf_takes, h.isOpen hk, h.1 (87 + (2 * k)) (by omega), h.1 1 (by decide)]; rfl
theorem A17.running_4 (h : A17 v v') (h6 : nC (v 1) 14 ≤ 6) : ∀ (n : Nat) (i : Int32) (k : Nat), mf_running_4 v' n i k = mf_running_4 v n i k := by
  intro n
  induction n with
  | zero => intro i k; rfl
  | succ n ih =>
    intro i k
    rw [mf_running_4, mf_running_4, h.n (by decide)]
    by_cases c : nC (v 1) 14 ≤ k
    · rw [if_pos c, if_pos c]
    · rw [if_neg c, if_neg c, h.runs (k := k) (by omega)]
      by_cases d : mf_runs v k = true
      · rw [if_pos d, if_pos d]; exact ih _ _
      · rw [if_neg d, if_neg d]; exact ih _ _
theorem A17.running (h : A17 v v') (h6 : nC (v 1) 14 ≤ 6) : mf_running v' = mf_running v := by rw [mf_running, mf_running]; exact h.running_4 h6 _ _ _
theorem A17.rdyp_4 (h : A17 v v') (h6 : nC (v 1) 14 ≤ 6) : ∀ (n : Nat) (i : Int32) (k : Nat), mf_readyPumps_4 v' n i k = mf_readyPumps_4 v n i k := by
  intro n
  induction n with
  | zero => intro i k; rfl
  | succ n ih =>
    intro i k
    rw [mf_readyPumps_4, mf_readyPumps_4, h.n (by decide)]
    by_cases c : nC (v 1) 14 ≤ k
    · rw [if_pos c, if_pos c]
    · rw [if_neg c, if_neg c, h.isReady (k := k) (by omega)]
      by_cases d : mf_isReady v k = true
      · rw [if_pos d, if_pos d]; exact ih _ _
      · rw [if_neg d, if_neg d]; exact ih _ _
theorem A17.rdyp (h : A17 v v') (h6 : nC (v 1) 14 ≤ 6) : mf_readyPumps v' = mf_readyPumps v := by rw [mf_readyPumps, mf_readyPumps]; exact h.rdyp_4 h6 _ _ _
theorem A17.oz_4 (h : A17 v v') (h8 : nC (v 1) 15 ≤ 8) : ∀ (n : Nat) (i : Int32) (k : Nat), mf_openZones_4 v' n i k = mf_openZones_4 v n i k := by
  intro n
  induction n with
  | zero => intro i k; rfl
  | succ n ih =>
    intro i k
    rw [mf_openZones_4, mf_openZones_4, h.n (by decide)]
    by_cases c : nC (v 1) 15 ≤ k
    · rw [if_pos c, if_pos c]
    · rw [if_neg c, if_neg c, h.isOpen (k := k) (by omega)]
      by_cases d : mf_isOpen v k = true
      · rw [if_pos d, if_pos d]; exact ih _ _
      · rw [if_neg d, if_neg d]; exact ih _ _
theorem A17.oz (h : A17 v v') (h8 : nC (v 1) 15 ≤ 8) : mf_openZones v' = mf_openZones v := by rw [mf_openZones, mf_openZones]; exact h.oz_4 h8 _ _ _
theorem A17.dem_21 (h : A17 v v') (h8 : nC (v 1) 15 ≤ 8) : ∀ (n : Nat) (i : Int32) (k : Nat), mf_demand_21 v' n i k = mf_demand_21 v n i k := by
  intro n
  induction n with
  | zero => intro i k; rfl
  | succ n ih =>
    intro i k
    rw [mf_demand_21, mf_demand_21, h.n (by decide)]
    by_cases c : nC (v 1) 15 ≤ k
    · rw [if_pos c, if_pos c]
    · rw [if_neg c, if_neg c, h.takes (k := k) (by omega)]
      exact ih _ _
theorem A17.demand (h : A17 v v') (h8 : nC (v 1) 15 ≤ 8) : mf_demand v' = mf_demand v := by
  rw [mf_demand, mf_demand, h.1 17 (by decide), h.1 1 (by decide)]; exact h.dem_21 h8 _ _ _
theorem A17.ah31 (h : A17 v v') (h6 : nC (v 1) 14 ≤ 6) (hk : k < 6) (ho : o < 6) {b b' : Bool} : mf_isAhead_31 v' k o b b' = mf_isAhead_31 v k o b b' := by
  rw [mf_isAhead_31, mf_isAhead_31, h.of hk (by decide), h.of ho (by decide), h.running h6]; rfl
theorem A17.ah15 (h : A17 v v') (h6 : nC (v 1) 14 ≤ 6) (hk : k < 6) (ho : o < 6) {b : Bool} : mf_isAhead_15 v' k o b = mf_isAhead_15 v k o b := by
  rw [mf_isAhead_15, mf_isAhead_15, h.of ho (by decide), h.ah31 h6 hk ho, h.ah31 h6 hk ho]
theorem A17.isAhead (h : A17 v v') (h6 : nC (v 1) 14 ≤ 6) (hk : k < 6) (ho : o < 6) : mf_isAhead v' k o = mf_isAhead v k o := by
  rw [mf_isAhead, mf_isAhead, h.of hk (by decide), h.ah15 h6 hk ho, h.ah15 h6 hk ho]
theorem A17.rd18 (h : A17 v v') (h6 : nC (v 1) 14 ≤ 6) {rc rc' : Nat → Int32} (hrc : ∀ m, rc' m = rc m) (hk : k < 6) : ∀ (n : Nat) (i : Int32) (m : Nat), mf_ready_18 v' x rc' k n i m = mf_ready_18 v x rc k n i m := by
  intro n
  induction n with
  | zero => intro i m; rfl
  | succ n ih =>
    intro i m
    rw [mf_ready_18, mf_ready_18, h.n (by decide), h.isReady hk]
    by_cases c : nC (v 1) 14 ≤ m
    · rw [if_pos c, if_pos c]
      by_cases d : mf_isReady v k = true
      · rw [if_pos d, if_pos d]
        by_cases e : i = x
        · rw [if_pos e, if_pos e]
        · rw [if_neg e, if_neg e]; exact hrc _
      · rw [if_neg d, if_neg d]; exact hrc _
    · rw [if_neg c, if_neg c]
      by_cases d : m = k
      · rw [if_pos d, if_pos d]; exact ih _ _
      · rw [if_neg d, if_neg d, h.isReady (k := m) (by omega), h.isAhead h6 (k := m) (o := k) (by omega) hk]
        by_cases e : mf_isReady v m = true
        · rw [if_pos e, if_pos e]
          by_cases q : mf_isAhead v m k = true
          · rw [if_pos q, if_pos q]; exact ih _ _
          · rw [if_neg q, if_neg q]; exact ih _ _
        · rw [if_neg e, if_neg e]; exact ih _ _
theorem A17.rd2 (h : A17 v v') (h6 : nC (v 1) 14 ≤ 6) : ∀ (n k : Nat), mf_ready_2 v' x n k = mf_ready_2 v x n k := by
  intro n
  induction n with
  | zero => intro k; rfl
  | succ n ih =>
    intro k
    rw [mf_ready_2, mf_ready_2, h.n (by decide)]
    by_cases c : nC (v 1) 14 ≤ k
    · rw [if_pos c, if_pos c]
    · rw [if_neg c, if_neg c]
      exact h.rd18 h6 ih (by omega) _ _ _
theorem A17.readyAt (h : A17 v v') (h6 : nC (v 1) 14 ≤ 6) : mf_readyAt v' x = mf_readyAt v x := by
  have e : mf_ready v' x = mf_ready v x := by rw [mf_ready, mf_ready]; exact h.rd2 h6 _ _
  rw [mf_readyAt, mf_readyAt, e]; rfl
theorem A17.zo28 (h : A17 v v') (hg : nC (v 1) 16 ≤ 8) (hz : tN x < 8) (hw : tN y ≤ 3) : ∀ (n : Nat) (i : Int32) (k : Nat), mf_zoneOf_28 v' x y n i k = mf_zoneOf_28 v x y n i k := by
  intro n
  induction n with
  | zero => intro i k; rfl
  | succ n ih =>
    intro i k
    rw [mf_zoneOf_28, mf_zoneOf_28, h.n (by decide)]
    by_cases c : nC (v 1) 16 ≤ k
    · rw [if_pos c, if_pos c, h.takes hz, h.1 (87 + 2 * (tN x) + (tN y)) (by omega)]; rfl
    · rw [if_neg c, if_neg c, h.1 (103 + (3 * k)) (by omega)]
      by_cases d : v 1 (103 + (3 * k)) = x
      · rw [if_pos d, if_pos d]; exact ih _ _
      · rw [if_neg d, if_neg d]; exact ih _ _
theorem A17.zoneOf (h : A17 v v') (e : v 1 15 = nI n) (hn : n ≤ 8) (hg : nC (v 1) 16 ≤ 8) : mf_zoneOf v' x y = mf_zoneOf v x y := by
  have ez : mf_isZone v' x = mf_isZone v x := by rw [mf_isZone, mf_isZone, h.1 15 (by decide)]
  rw [mf_zoneOf, mf_zoneOf, ez]
  by_cases c : mf_isZone v x = true
  · rw [if_pos c, if_pos c]
    by_cases d : mf_in y.toInt64 (0 : Int64) (3 : Int64) = true
    · rw [if_pos d, if_pos d]
      have h1 := (isZone_n e hn c).2
      exact h.zo28 hg (by omega) (in_n (a := 0) (b := 3) (by decide) d).2.2 _ _ _
    · rw [if_neg d, if_neg d]; rfl
  · rw [if_neg c, if_neg c]; rfl
theorem A17.station (h : A17 v v') (h6 : nC (v 1) 14 ≤ 6) (h8 : nC (v 1) 15 ≤ 8) : mf_station v' x = mf_station v x := by
  rw [mf_station, mf_station, h.demand h8, h.running h6]
  by_cases c : mf_in x.toInt64 (0 : Int64) (14 : Int64) = true
  · have hx := (in_n (a := 0) (b := 14) (by decide) c).2.2
    rw [if_pos c, if_pos c, h.1 (5 + (tN x) - 6) (by omega), h.1 1 (by decide), h.1 2 (by decide), h.1 3 (by decide), h.1 4 (by decide), h.1 13 (by decide)]
    rw [h.1 ((5 + 6) - 6) (by decide), h.1 ((5 + 7) - 6) (by decide), h.1 ((5 + 8) - 6) (by decide), h.1 ((5 + 9) - 6) (by decide), h.1 ((5 + 10) - 6) (by decide), h.1 ((5 + 11) - 6) (by decide), h.1 ((5 + 12) - 6) (by decide), h.1 ((5 + 13) - 6) (by decide)]
    rfl
  · rw [if_neg c, if_neg c]
theorem A17.count (h : A17 v v') (h6 : nC (v 1) 14 ≤ 6) (h8 : nC (v 1) 15 ≤ 8) : mf_count v' x = mf_count v x := by
  have em : mf_minuteOfDay v' = mf_minuteOfDay v := by rw [mf_minuteOfDay, mf_minuteOfDay, h.1 0 (by decide)]
  rw [mf_count, mf_count, h.oz h8, h.rdyp h6, em, h.2, h.1 (14 + 0) (by decide), h.1 (14 + 1) (by decide), h.1 (14 + 2) (by decide), h.1 ((18 + 5) - 5) (by decide), h.1 ((18 + 6) - 5) (by decide), h.1 0 (by decide)]
  by_cases c : mf_in x.toInt64 (20 : Int64) (38 : Int64) = true
  · have hx := (in_n (a := 20) (b := 38) (by decide) c).2.2
    have es : mf_setting v' ((tN x) - 20) = mf_setting v ((tN x) - 20) := by rw [mf_setting, mf_setting, h.1 _ (by omega)]
    rw [if_pos c, if_pos c, es]; rfl
  · rw [if_neg c, if_neg c]; rfl
theorem A17.nightAt (h : A17 v v') (e : v 1 18 = nI n) (hn : n ≤ 7) : mf_nightAt v' x = mf_nightAt v x := by
  rw [mf_nightAt, mf_nightAt, h.1 18 (by decide)]
  by_cases c : 0 ≤ x
  · rw [if_pos c, if_pos c]
    by_cases d : v 1 18 ≤ x
    · rw [if_pos d, if_pos d]; rfl
    · have hx := ix_n c (by rw [← e]; exact d) (by omega)
      rw [if_neg d, if_neg d, h.1 (127 + (tN x)) (by omega)]; rfl
  · rw [if_neg c, if_neg c]; rfl
theorem RelV.a17 (h : RelV v s f hn fs tl tb) : A17 v (Vf v s f) := by
  refine ⟨fun k hk => ?_, Vf_r (by decide)⟩
  by_cases c : k < 170
  · rw [h.at c]
    unfold Vf
    rw [if_pos rfl, if_pos c]
  · unfold Vf
    rw [if_pos rfl, if_neg c, if_neg hk]
theorem RelV.c14 (h : RelV v s f hn fs tl tb) (hS : SI T np nz ng f) : nC (v 1) 14 ≤ 6 ∧ nC (v 1) 15 ≤ 8 ∧ nC (v 1) 16 ≤ 8 := by
  have a := hS.n6
  have b := hS.ip.z8
  have c := hS.ip.g8
  rw [nC_of ((h.a (by decide)).trans (show f 14 = nI np from hS.ip.enp)) (by omega), nC_of ((h.a (by decide)).trans (show f 15 = nI nz from hS.ip.enz)) (by omega), nC_of ((h.a (by decide)).trans (show f 16 = nI ng from hS.ip.eng)) (by omega)]
  exact ⟨a, b, c⟩
theorem curve_ref (h : RelV v s f hn fs tl tb) (hS : SI T np nz ng f) : cf_curveP f x y z = mf_curve v x y z := by
  rw [cf_curveP, mf_curve, serv_e h hS, btw_in, btw_in]
  by_cases c : mf_isPump v x = true
  · rw [if_pos c, if_pos c]
    by_cases d : mf_in y.toInt64 (300 : Int64) (1000 : Int64) = true
    · rw [if_pos d, if_pos d]
      by_cases e : mf_in z.toInt64 (0 : Int64) (2000 : Int64) = true
      · rw [if_pos e, if_pos e]
        have hx := isPumpS hS (by rw [serv_e h hS]; exact c)
        have hn6 := hS.n6
        obtain ⟨d1, -, d2⟩ := in_n (a := 300) (b := 1000) (by decide) d
        obtain ⟨e1, -, e2⟩ := in_n (a := 0) (b := 2000) (by decide) e
        have hF0 : FlowOk (Vf v s f) (tN x) y z := IP.flow (IP_Vf hS.ip) hx.2 ⟨tN y, d2, d1⟩ ⟨tN z, e2, e1⟩
        have hF : FlowOk v (tN x) y z := by
          obtain ⟨a1, a2, a3, a4, b1, b2, b3, b4, b5, b6, b7, b8, b9⟩ := hF0
          exact ⟨a1, a2, a3, a4, b1, b2, b3, b4, by rw [h.a (by omega), ← b5]; exact (Vf_at (by omega)).symm, b6, by rw [h.a (by omega), ← b7]; exact (Vf_at (by omega)).symm, b8, b9⟩
        have ec := E_curve hF
        rw [mf_of, mf_of, h.a (by omega), h.a (by omega)] at ec
        rw [ec]; rfl
      · rw [if_neg e, if_neg e]; rfl
    · rw [if_neg d, if_neg d]; rfl
  · rw [if_neg c, if_neg c]; rfl
theorem eventAt_ref (h : RelV v s f hn fs tl tb) (hS : SI T np nz ng f) : cf_eventAt f x y = mf_eventAt v x y := by
  obtain ⟨ne, hne, e19⟩ := hS.ne
  have v19 : v 1 19 = f 19 := h.a (by decide)
  rw [cf_eventAt, mf_eventAt, btw_in, v19]
  by_cases c : x < 0
  · rw [if_pos c, if_pos c]; rfl
  · rw [if_neg c, if_neg c]
    by_cases d : mf_in y.toInt64 (0 : Int64) (2 : Int64) = true
    · rw [if_pos d, if_pos d]
      by_cases e : x < f 19
      · rw [if_pos e, if_pos e]
        obtain ⟨hx1, hx2⟩ := hS.evN c e
        have hlt : tN x < nC f 19 := by
          rw [nC_of e19 (by omega)]
          rw [hx1, e19] at e
          exact (nI_ltI (by omega) (by omega)).mp e
        have at9 : ∀ j, j < 3 → v 1 (134 + 3 * (tN x) + j) = f (134 + (3 * (tN x)) + j) := fun j hj => by
          rw [h.at (by omega)]
          unfold Rf
          rw [if_neg (by omega), if_neg (by omega), if_pos (show 134 + 3 * tN x + j < 170 by omega), if_pos (show 134 + 3 * tN x + j - 134 < 3 * nC f 19 by omega)]
        obtain ⟨y1, -, y2⟩ := in_n (a := 0) (b := 2) (by decide) d
        obtain ⟨j, hj, ej⟩ : ∃ j, j ≤ 2 ∧ y = nI j := ⟨tN y, y2, y1⟩
        subst ej
        clear y1 y2 d
        have a0 := at9 0 (by decide)
        have a1 := at9 1 (by decide)
        have a2 := at9 2 (by decide)
        obtain rfl | rfl | rfl : j = 0 ∨ j = 1 ∨ j = 2 := by omega
        · rw [if_pos (show nI 0 = 0 by decide), if_neg (show ¬ nI 0 = 2 by decide), mf_eventAt_63, show tN (nI 0) = 0 from rfl, a0]; rfl
        · rw [if_neg (show ¬ nI 1 = 0 by decide), if_pos (show nI 1 = 1 by decide), if_neg (show ¬ nI 1 = 2 by decide), mf_eventAt_63, show tN (nI 1) = 1 from rfl, a1]; rfl
        · rw [if_neg (show ¬ nI 2 = 0 by decide), if_neg (show ¬ nI 2 = 1 by decide), if_pos (show nI 2 = 2 by decide), mf_eventAt_63, show tN (nI 2) = 2 from rfl, a2]; rfl
      · rw [if_neg e, if_neg e]
    · rw [if_neg d, if_neg d]; rfl
def cP (f : Nat → Int32) (x y : Int32) : Int32 := (if y = (0 : Int32) then (f (39 + (8 * (tN x)))) else (if y = (1 : Int32) then (f (39 + (8 * (tN x)) + 1)) else (if y = (2 : Int32) then (f (39 + (8 * (tN x)) + 2)) else (if y = (3 : Int32) then (if (1 - (f (39 + (8 * (tN x)) + 3))) = 0 then (cf_pumpOf_119 f x y true) else (cf_pumpOf_119 f x y false)) else (if y = (4 : Int32) then (f (39 + (8 * (tN x)) + 4)) else (if y = (5 : Int32) then (if (f 4) = x then (cf_pumpOf_141 f x y true) else (cf_pumpOf_141 f x y false)) else (if y = (6 : Int32) then (f (39 + (8 * (tN x)) + 5)) else (if y = (7 : Int32) then (f (39 + (8 * (tN x)) + 6)) else (if y = (8 : Int32) then (f (39 + (8 * (tN x)) + 7)) else (cf_flowOf f (tN x)))))))))))
def mP (v : Nat → Nat → Int32) (x y : Int32) : Int32 := (if y = (5 : Int32) then (if (v 1 4) = x then (mf_pumpOf_75 v x y true) else (mf_pumpOf_75 v x y false)) else (if y = (6 : Int32) then (mf_of v (tN x) (tN ((6 : Int32) - (1 : Int32)))) else (if y = (7 : Int32) then (mf_of v (tN x) (tN ((7 : Int32) - (1 : Int32)))) else (if y = (8 : Int32) then (mf_of v (tN x) (tN ((8 : Int32) - (1 : Int32)))) else (if y = (9 : Int32) then (if (mf_runs v (tN x)) = true then (mf_pumpOf_114 v x y (mf_flow v (tN x) (mf_of v (tN x) 4) (v 1 1))) else (mf_pumpOf_114 v x y (0 : Int32))) else (mf_of v (tN x) (tN y)))))))
theorem cP_0 {f : Nat → Int32} {x : Int32} : cP f x (nI 0) = (f (39 + (8 * (tN x)))) := by
  rw [cP, if_pos (show nI 0 = (0 : Int32) by decide)]
theorem mP_0 {v : Nat → Nat → Int32} {x : Int32} : mP v x (nI 0) = mf_of v (tN x) 0 := by
  rw [mP, if_neg (show ¬ nI 0 = (5 : Int32) by decide), if_neg (show ¬ nI 0 = (6 : Int32) by decide), if_neg (show ¬ nI 0 = (7 : Int32) by decide), if_neg (show ¬ nI 0 = (8 : Int32) by decide), if_neg (show ¬ nI 0 = (9 : Int32) by decide), show tN (nI 0) = 0 from rfl]
theorem cP_1 {f : Nat → Int32} {x : Int32} : cP f x (nI 1) = (f (39 + (8 * (tN x)) + 1)) := by
  rw [cP, if_neg (show ¬ nI 1 = (0 : Int32) by decide), if_pos (show nI 1 = (1 : Int32) by decide)]
theorem mP_1 {v : Nat → Nat → Int32} {x : Int32} : mP v x (nI 1) = mf_of v (tN x) 1 := by
  rw [mP, if_neg (show ¬ nI 1 = (5 : Int32) by decide), if_neg (show ¬ nI 1 = (6 : Int32) by decide), if_neg (show ¬ nI 1 = (7 : Int32) by decide), if_neg (show ¬ nI 1 = (8 : Int32) by decide), if_neg (show ¬ nI 1 = (9 : Int32) by decide), show tN (nI 1) = 1 from rfl]
theorem cP_2 {f : Nat → Int32} {x : Int32} : cP f x (nI 2) = (f (39 + (8 * (tN x)) + 2)) := by
  rw [cP, if_neg (show ¬ nI 2 = (0 : Int32) by decide), if_neg (show ¬ nI 2 = (1 : Int32) by decide), if_pos (show nI 2 = (2 : Int32) by decide)]
theorem mP_2 {v : Nat → Nat → Int32} {x : Int32} : mP v x (nI 2) = mf_of v (tN x) 2 := by
  rw [mP, if_neg (show ¬ nI 2 = (5 : Int32) by decide), if_neg (show ¬ nI 2 = (6 : Int32) by decide), if_neg (show ¬ nI 2 = (7 : Int32) by decide), if_neg (show ¬ nI 2 = (8 : Int32) by decide), if_neg (show ¬ nI 2 = (9 : Int32) by decide), show tN (nI 2) = 2 from rfl]
theorem cP_3 {f : Nat → Int32} {x : Int32} : cP f x (nI 3) = (if (1 - (f (39 + (8 * (tN x)) + 3))) = 0 then (cf_pumpOf_119 f x (nI 3) true) else (cf_pumpOf_119 f x (nI 3) false)) := by
  rw [cP, if_neg (show ¬ nI 3 = (0 : Int32) by decide), if_neg (show ¬ nI 3 = (1 : Int32) by decide), if_neg (show ¬ nI 3 = (2 : Int32) by decide), if_pos (show nI 3 = (3 : Int32) by decide)]
theorem mP_3 {v : Nat → Nat → Int32} {x : Int32} : mP v x (nI 3) = mf_of v (tN x) 3 := by
  rw [mP, if_neg (show ¬ nI 3 = (5 : Int32) by decide), if_neg (show ¬ nI 3 = (6 : Int32) by decide), if_neg (show ¬ nI 3 = (7 : Int32) by decide), if_neg (show ¬ nI 3 = (8 : Int32) by decide), if_neg (show ¬ nI 3 = (9 : Int32) by decide), show tN (nI 3) = 3 from rfl]
theorem cP_4 {f : Nat → Int32} {x : Int32} : cP f x (nI 4) = (f (39 + (8 * (tN x)) + 4)) := by
  rw [cP, if_neg (show ¬ nI 4 = (0 : Int32) by decide), if_neg (show ¬ nI 4 = (1 : Int32) by decide), if_neg (show ¬ nI 4 = (2 : Int32) by decide), if_neg (show ¬ nI 4 = (3 : Int32) by decide), if_pos (show nI 4 = (4 : Int32) by decide)]
theorem mP_4 {v : Nat → Nat → Int32} {x : Int32} : mP v x (nI 4) = mf_of v (tN x) 4 := by
  rw [mP, if_neg (show ¬ nI 4 = (5 : Int32) by decide), if_neg (show ¬ nI 4 = (6 : Int32) by decide), if_neg (show ¬ nI 4 = (7 : Int32) by decide), if_neg (show ¬ nI 4 = (8 : Int32) by decide), if_neg (show ¬ nI 4 = (9 : Int32) by decide), show tN (nI 4) = 4 from rfl]
theorem cP_5 {f : Nat → Int32} {x : Int32} : cP f x (nI 5) = (if (f 4) = x then (cf_pumpOf_141 f x (nI 5) true) else (cf_pumpOf_141 f x (nI 5) false)) := by
  rw [cP, if_neg (show ¬ nI 5 = (0 : Int32) by decide), if_neg (show ¬ nI 5 = (1 : Int32) by decide), if_neg (show ¬ nI 5 = (2 : Int32) by decide), if_neg (show ¬ nI 5 = (3 : Int32) by decide), if_neg (show ¬ nI 5 = (4 : Int32) by decide), if_pos (show nI 5 = (5 : Int32) by decide)]
theorem mP_5 {v : Nat → Nat → Int32} {x : Int32} : mP v x (nI 5) = (if (v 1 4) = x then (mf_pumpOf_75 v x (nI 5) true) else (mf_pumpOf_75 v x (nI 5) false)) := by
  rw [mP, if_pos (show nI 5 = (5 : Int32) by decide)]
theorem cP_6 {f : Nat → Int32} {x : Int32} : cP f x (nI 6) = (f (39 + (8 * (tN x)) + 5)) := by
  rw [cP, if_neg (show ¬ nI 6 = (0 : Int32) by decide), if_neg (show ¬ nI 6 = (1 : Int32) by decide), if_neg (show ¬ nI 6 = (2 : Int32) by decide), if_neg (show ¬ nI 6 = (3 : Int32) by decide), if_neg (show ¬ nI 6 = (4 : Int32) by decide), if_neg (show ¬ nI 6 = (5 : Int32) by decide), if_pos (show nI 6 = (6 : Int32) by decide)]
theorem mP_6 {v : Nat → Nat → Int32} {x : Int32} : mP v x (nI 6) = mf_of v (tN x) 5 := by
  rw [mP, if_neg (show ¬ nI 6 = (5 : Int32) by decide), if_pos (show nI 6 = (6 : Int32) by decide), show tN ((6 : Int32) - (1 : Int32)) = 5 from rfl]
theorem cP_7 {f : Nat → Int32} {x : Int32} : cP f x (nI 7) = (f (39 + (8 * (tN x)) + 6)) := by
  rw [cP, if_neg (show ¬ nI 7 = (0 : Int32) by decide), if_neg (show ¬ nI 7 = (1 : Int32) by decide), if_neg (show ¬ nI 7 = (2 : Int32) by decide), if_neg (show ¬ nI 7 = (3 : Int32) by decide), if_neg (show ¬ nI 7 = (4 : Int32) by decide), if_neg (show ¬ nI 7 = (5 : Int32) by decide), if_neg (show ¬ nI 7 = (6 : Int32) by decide), if_pos (show nI 7 = (7 : Int32) by decide)]
theorem mP_7 {v : Nat → Nat → Int32} {x : Int32} : mP v x (nI 7) = mf_of v (tN x) 6 := by
  rw [mP, if_neg (show ¬ nI 7 = (5 : Int32) by decide), if_neg (show ¬ nI 7 = (6 : Int32) by decide), if_pos (show nI 7 = (7 : Int32) by decide), show tN ((7 : Int32) - (1 : Int32)) = 6 from rfl]
theorem cP_8 {f : Nat → Int32} {x : Int32} : cP f x (nI 8) = (f (39 + (8 * (tN x)) + 7)) := by
  rw [cP, if_neg (show ¬ nI 8 = (0 : Int32) by decide), if_neg (show ¬ nI 8 = (1 : Int32) by decide), if_neg (show ¬ nI 8 = (2 : Int32) by decide), if_neg (show ¬ nI 8 = (3 : Int32) by decide), if_neg (show ¬ nI 8 = (4 : Int32) by decide), if_neg (show ¬ nI 8 = (5 : Int32) by decide), if_neg (show ¬ nI 8 = (6 : Int32) by decide), if_neg (show ¬ nI 8 = (7 : Int32) by decide), if_pos (show nI 8 = (8 : Int32) by decide)]
theorem mP_8 {v : Nat → Nat → Int32} {x : Int32} : mP v x (nI 8) = mf_of v (tN x) 7 := by
  rw [mP, if_neg (show ¬ nI 8 = (5 : Int32) by decide), if_neg (show ¬ nI 8 = (6 : Int32) by decide), if_neg (show ¬ nI 8 = (7 : Int32) by decide), if_pos (show nI 8 = (8 : Int32) by decide), show tN ((8 : Int32) - (1 : Int32)) = 7 from rfl]
theorem cP_9 {f : Nat → Int32} {x : Int32} : cP f x (nI 9) = (cf_flowOf f (tN x)) := by
  rw [cP, if_neg (show ¬ nI 9 = (0 : Int32) by decide), if_neg (show ¬ nI 9 = (1 : Int32) by decide), if_neg (show ¬ nI 9 = (2 : Int32) by decide), if_neg (show ¬ nI 9 = (3 : Int32) by decide), if_neg (show ¬ nI 9 = (4 : Int32) by decide), if_neg (show ¬ nI 9 = (5 : Int32) by decide), if_neg (show ¬ nI 9 = (6 : Int32) by decide), if_neg (show ¬ nI 9 = (7 : Int32) by decide), if_neg (show ¬ nI 9 = (8 : Int32) by decide)]
theorem mP_9 {v : Nat → Nat → Int32} {x : Int32} : mP v x (nI 9) = (if (mf_runs v (tN x)) = true then (mf_pumpOf_114 v x (nI 9) (mf_flow v (tN x) (mf_of v (tN x) 4) (v 1 1))) else (mf_pumpOf_114 v x (nI 9) (0 : Int32))) := by
  rw [mP, if_neg (show ¬ nI 9 = (5 : Int32) by decide), if_neg (show ¬ nI 9 = (6 : Int32) by decide), if_neg (show ¬ nI 9 = (7 : Int32) by decide), if_neg (show ¬ nI 9 = (8 : Int32) by decide), if_pos (show nI 9 = (9 : Int32) by decide)]
theorem pumpOf_ref (h : RelV v s f hn fs tl tb) (hS : SI T np nz ng f) : cf_pumpOf f x y = mf_pumpOf v x y := by
  rw [cf_pumpOf, mf_pumpOf, serv_e h hS, btw_in]
  by_cases c : mf_isPump v x = true
  · rw [if_pos c, if_pos c]
    by_cases d : mf_in y.toInt64 (0 : Int64) (9 : Int64) = true
    · rw [if_pos d, if_pos d]
      have hx := isPumpS hS (by rw [serv_e h hS]; exact c)
      have hn6 := hS.n6
      have of : ∀ j, j < 8 → mf_of v (tN x) j = f (39 + (8 * (tN x)) + j) := fun j hj => by rw [mf_of]; exact h.a (by omega)
      obtain ⟨y1, -, y2⟩ := in_n (a := 0) (b := 9) (by decide) d
      obtain ⟨j, hj, ej⟩ : ∃ j, j ≤ 9 ∧ y = nI j := ⟨tN y, y2, y1⟩
      subst ej
      clear y1 y2 d
      obtain rfl | rfl | rfl | rfl | rfl | rfl | rfl | rfl | rfl | rfl : j = 0 ∨ j = 1 ∨ j = 2 ∨ j = 3 ∨ j = 4 ∨ j = 5 ∨ j = 6 ∨ j = 7 ∨ j = 8 ∨ j = 9 := by omega
      · have e1 : cP f x (nI 0) = _ := cP_0
        have e2 : mP v x (nI 0) = _ := mP_0
        refine Eq.trans e1 (Eq.trans ?_ e2.symm)
        exact (of 0 (by decide)).symm
      · have e1 : cP f x (nI 1) = _ := cP_1
        have e2 : mP v x (nI 1) = _ := mP_1
        refine Eq.trans e1 (Eq.trans ?_ e2.symm)
        rw [of 1 (by decide)]
      · have e1 : cP f x (nI 2) = _ := cP_2
        have e2 : mP v x (nI 2) = _ := mP_2
        refine Eq.trans e1 (Eq.trans ?_ e2.symm)
        rw [of 2 (by decide)]
      · have e1 : cP f x (nI 3) = _ := cP_3
        have e2 : mP v x (nI 3) = _ := mP_3
        refine Eq.trans e1 (Eq.trans ?_ e2.symm)
        rw [of 3 (by decide)]
        obtain ⟨j, hj, ej⟩ := hS.io hx.2
        rw [ej]
        obtain rfl | rfl : j = 0 ∨ j = 1 := by omega
        · rw [if_neg (show ¬ 1 - nI 0 = 0 by decide)]; rfl
        · rw [if_pos (show 1 - nI 1 = 0 by decide)]; rfl
      · have e1 : cP f x (nI 4) = _ := cP_4
        have e2 : mP v x (nI 4) = _ := mP_4
        refine Eq.trans e1 (Eq.trans ?_ e2.symm)
        rw [of 4 (by decide)]
      · have e1 : cP f x (nI 5) = _ := cP_5
        have e2 : mP v x (nI 5) = _ := mP_5
        refine Eq.trans e1 (Eq.trans ?_ e2.symm)
        rw [h.a (p := 4) (by decide)]
        by_cases z : f 4 = x
        · rw [if_pos z, if_pos z]; rfl
        · rw [if_neg z, if_neg z]; rfl
      · have e1 : cP f x (nI 6) = _ := cP_6
        have e2 : mP v x (nI 6) = _ := mP_6
        refine Eq.trans e1 (Eq.trans ?_ e2.symm)
        rw [of 5 (by decide)]
      · have e1 : cP f x (nI 7) = _ := cP_7
        have e2 : mP v x (nI 7) = _ := mP_7
        refine Eq.trans e1 (Eq.trans ?_ e2.symm)
        rw [of 6 (by decide)]
      · have e1 : cP f x (nI 8) = _ := cP_8
        have e2 : mP v x (nI 8) = _ := mP_8
        refine Eq.trans e1 (Eq.trans ?_ e2.symm)
        rw [of 7 (by decide)]
      · have e1 : cP f x (nI 9) = _ := cP_9
        have e2 : mP v x (nI 9) = _ := mP_9
        refine Eq.trans e1 (Eq.trans ?_ e2.symm)
        have er : cf_runs f (tN x) = mf_runs v (tN x) := by
          rw [h.2.1, ← E_runs (f := z7 f) (by omega)]
          exact (E7_z f).runs.symm
        have hI := hS.ip
        have hF : FlowOk v (tN x) (f (39 + (8 * (tN x)) + 4)) (f 1) := by
          obtain ⟨a1, a2, a3, a4, b1, b2, b3, b4, b5, b6, b7, b8, b9⟩ := flowOk_Vf (w := v) (s := s) hI hx.2
          exact ⟨a1, a2, a3, a4, b1, b2, b3, b4, by rw [h.a (by omega), ← b5]; exact (Vf_at (by omega)).symm, b6, by rw [h.a (by omega), ← b7]; exact (Vf_at (by omega)).symm, b8, b9⟩
        have ec := E_curve hF
        rw [of 1 (by decide), of 2 (by decide)] at ec
        rw [cf_flowOf, cf_flowOf_33, cf_flowOf_33, er, of 4 (by decide), h.a (p := 1) (by decide), ec]
    · rw [if_neg d, if_neg d]; rfl
  · rw [if_neg c, if_neg c]; rfl
theorem bal_29 (h : RelV v s f hn fs tl tb) (hS : SI T np nz ng f) : ∀ (n k : Nat), 1 ≤ k → k ≤ np → np < k + n → mf_balance_29 v n (mxR f k) (mnR f k) k = mxR f np - mnR f np := by
  have hn6 := hS.n6
  have e14 : nC (v 1) 14 = np := nC_of ((h.a (by decide)).trans (show f 14 = nI np from hS.ip.enp)) (by omega)
  intro n
  induction n with
  | zero => intro k h1 h2 h3; omega
  | succ n ih =>
    intro k h1 h2 h3
    rw [mf_balance_29, e14]
    by_cases c : np ≤ k
    · rw [if_pos c, show k = np by omega]
    · have of : mf_of v k 5 = f (39 + (8 * k) + 5) := by rw [mf_of]; exact h.a (by omega)
      have ih' := ih (k + 1) (by omega) (by omega) (by omega)
      rw [mxR, mnR, jmax, jmin] at ih'
      have key : ∀ a, mf_balance_60 v (mf_balance_29 v n) (mxR f k) (mnR f k) k a = mf_balance_29 v n a (if f (39 + (8 * k) + 5) < mnR f k then f (39 + (8 * k) + 5) else mnR f k) (k + 1) := fun a => by
        rw [mf_balance_60, of]
        by_cases d : mnR f k ≤ f (39 + (8 * k) + 5)
        · rw [if_pos d, if_neg (Int32.not_lt.mpr d)]; rfl
        · rw [if_neg d, if_pos (Int32.not_le.mp d)]; rfl
      rw [if_neg c, of, key, key]
      by_cases d : f (39 + (8 * k) + 5) ≤ mxR f k
      · rw [if_neg (Int32.not_lt.mpr d)] at ih'
        rw [if_pos d]; exact ih'
      · rw [if_pos (Int32.not_le.mp d)] at ih'
        rw [if_neg d]; exact ih'
theorem balance_ref (h : RelV v s f hn fs tl tb) (hS : SI T np nz ng f) (hT : T ≤ 20000) : balR f np = mf_balance v := by
  have hn6 := hS.n6
  rw [mf_balance, h.a (p := 14) (by decide), show f 14 = nI np from hS.ip.enp]
  by_cases c : np = 0
  · rw [balR, if_pos c, c, if_pos nI_0]
  · have c' : ¬ nI np = 0 := fun z => by
      have := congrArg tN z
      rw [tN_nI (by omega)] at this
      exact c this
    rw [if_neg c', balR, if_neg c, show mf_of v 0 5 = f (39 + (8 * 0) + 5) by rw [mf_of]; exact h.a (by decide)]
    obtain ⟨a, ha, ea⟩ := hS.2.1 0 (by omega)
    have x1 : mxR f 1 = f (39 + (8 * 0) + 5) := by
      show jmax 0 (f (39 + (8 * 0) + 5)) = _
      rw [ea, jmax]
      by_cases d : (0 : Int32) < nI a
      · rw [if_pos d]
      · rw [if_neg d]
        have d2 := Int32.not_lt.mp d
        rw [show (0 : Int32) = nI 0 from rfl, nI_leq (by omega) (by decide)] at d2
        rw [show a = 0 by omega]; rfl
    have x2 : mnR f 1 = f (39 + (8 * 0) + 5) := by
      show jmin 20000 (f (39 + (8 * 0) + 5)) = _
      rw [ea, jmin]
      by_cases d : nI a < (20000 : Int32)
      · rw [if_pos d]
      · rw [if_neg d]
        have d2 := Int32.not_lt.mp d
        rw [show (20000 : Int32) = nI 20000 from rfl, nI_leq (by decide) (by omega)] at d2
        rw [show a = 20000 by omega]; rfl
    have := bal_29 h hS 7 1 (by decide) (by omega) (by omega)
    rw [x1, x2] at this
    exact this.symm
theorem RelV.vf (h : RelV v s f hn fs tl tb) (hg : ∀ (w : Nat → Nat → Int32) (s : Int32), Vf w s g = Vf w s f) : RelV v s g hn fs tl tb := by
  refine h.of1 (v2 := v) (s2 := s) ?_ fun _ _ => rfl
  have e := congrFun h.2.1 1
  rw [e]
  funext k
  have r0 := congrFun (congrFun (hg (fun _ _ => 0) 0) 1) k
  unfold Vf at r0 ⊢
  rw [if_pos rfl, if_pos rfl] at r0 ⊢
  by_cases c : k < 170
  · rw [if_pos c, if_pos c] at r0 ⊢
    rw [Rf_z7 c, Rf_z7 c, r0]
  · rw [if_neg c, if_neg c]
    by_cases d : k = 170
    · rw [if_pos d, if_pos d, show z7 f 177 = 0 from pk_us, show z7 g 177 = 0 from pk_us]
    · rw [if_neg d, if_neg d]
end RX
/-! CWR: the readers over the whole -/

