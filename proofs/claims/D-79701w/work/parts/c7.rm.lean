set_option maxRecDepth 100000
/-! RM: orders done: the law -/
section RM
variable {hn tl hn2 tl2 : Nat} {f g g0 g' : Nat → Int32} {fs fs2 : Nat → Nat → Int32} {tb tb2 : Nat → Int32} {v w u w2 v0 : Nat → Nat → Int32} {s num m r m0 : Int32} {np nz ng T T0 k p pl n d : Nat}
/-- why an order can't be done -/
theorem reason_ref (h : RelV v s g hn fs tl tb) (hS : SI T np nz ng g) (hT : T ≤ 20000) (hk : k < 5) (h8 : v 0 8 = sgn k) (h9 : k ≠ 4 → v 0 9 = m) : mf_reasonOfOrder v = if thB g k m = true then (if cf_can g (nI k) m = true then 0 else 3) else 2 := by
  obtain rfl | rfl | rfl | rfl | rfl : k = 0 ∨ k = 1 ∨ k = 2 ∨ k = 3 ∨ k = 4 := by omega
  · have e8 : v 0 8 = 111 := h8
    have e9 := h9 (by decide)
    rw [mf_reasonOfOrder, e8, e9, if_neg (by decide), if_pos rfl, if_pos rfl, show thB g 0 m = cf_isZone g m from rfl, zone_e h hS]
    by_cases c : mf_isZone v m = true
    · rw [if_pos c, if_pos c]
      obtain ⟨o1, j, hj, ej⟩ := open_is h hS (by rw [zone_e h hS]; exact c)
      rw [mf_reasonOfOrder_85b, e9, o1, show cf_can g (nI 0) m = cf_can g (0 : Int32) m from rfl, cf_can, if_pos rfl]
      obtain rfl | rfl : j = 0 ∨ j = 1 := by omega
      · rw [ej, show decide (nI 0 = 1) = false from by decide, if_neg (by decide), if_pos (show nI 0 = 0 from nI_0), cf_can_46, if_pos rfl, mf_reasonOfOrder_93b]
      · rw [ej, show decide (nI 1 = 1) = true from by decide, if_pos rfl, if_neg (show ¬ nI 1 = 0 from by decide), cf_can_46, if_neg (by decide), mf_reasonOfOrder_93b]
    · rw [if_neg c, if_neg c, mf_reasonOfOrder_93b]
  · have e8 : v 0 8 = 99 := h8
    have e9 := h9 (by decide)
    rw [mf_reasonOfOrder, e8, e9, if_pos rfl, if_neg (by decide), show thB g 1 m = cf_isZone g m from rfl, zone_e h hS]
    by_cases c : mf_isZone v m = true
    · rw [if_pos c, if_pos c]
      obtain ⟨o1, j, hj, ej⟩ := open_is h hS (by rw [zone_e h hS]; exact c)
      rw [mf_reasonOfOrder_85, e9, o1, show cf_can g (nI 1) m = cf_can g (1 : Int32) m from rfl, cf_can, if_neg (by decide), if_pos rfl]
      obtain rfl | rfl : j = 0 ∨ j = 1 := by omega
      · rw [ej, show decide (nI 0 = 1) = false from by decide, if_pos rfl, if_neg (by decide), mf_reasonOfOrder_93]
      · rw [ej, show decide (nI 1 = 1) = true from by decide, if_neg (by decide), if_pos rfl, mf_reasonOfOrder_93]
    · rw [if_neg c, if_neg c, mf_reasonOfOrder_93]
  · have e8 : v 0 8 = 115 := h8
    have e9 := h9 (by decide)
    rw [mf_reasonOfOrder, e8, e9, if_neg (by decide), if_neg (by decide), if_neg (by decide), if_pos rfl, show thB g 2 m = cf_isPump g m from rfl, serv_e h hS]
    by_cases c : mf_isPump v m = true
    · rw [if_pos c, if_pos c]
      have hz := isPumpS hS (by rw [serv_e h hS]; exact c)
      have n6 := hS.n6
      obtain ⟨j, hj, ej⟩ := hS.io hz.2
      have e : mf_of v (tN m) 3 = g (39 + (8 * tN m) + 3) := by
        rw [h.2.1]; exact (E_of (by omega) (by decide)).trans (pk_un (by omega))
      rw [e, show cf_can g (nI 2) m = cf_can g (2 : Int32) m from rfl, cf_can, if_neg (by decide), if_neg (by decide), if_pos rfl]
      obtain rfl | rfl : j = 0 ∨ j = 1 := by omega
      · rw [ej, if_pos (show nI 0 = 0 from nI_0), if_neg (show ¬ 1 - nI 0 = 0 from by decide), cf_can_76, if_neg (by decide), mf_reasonOfOrder_126]
      · rw [ej, if_neg (show ¬ nI 1 = 0 from by decide), if_pos (show 1 - nI 1 = 0 from by decide), cf_can_76, if_pos rfl, mf_reasonOfOrder_126]
    · rw [if_neg c, if_neg c, mf_reasonOfOrder_126]
  · have e8 : v 0 8 = 112 := h8
    have e9 := h9 (by decide)
    rw [mf_reasonOfOrder, e8, e9, if_neg (by decide), if_neg (by decide), if_pos rfl, if_pos (show thB g 3 m = true from rfl), show cf_can g (nI 3) m = cf_can g (3 : Int32) m from rfl]
    by_cases c : cf_isBetween m.toInt64 (1 : Int64) (240 : Int64) = true
    · have c' : mf_in m.toInt64 (1 : Int64) (240 : Int64) = true := c
      rw [mf_passFault, if_pos c', h.a (by decide)]
      by_cases d : (20000 : Int32) < g 0 + m
      · rw [if_neg (Int32.not_le.mpr d), mf_passFault_37, if_neg (by decide), if_neg (fun z => ((can3 c).mp z) d), mf_reasonOfOrder_143]
      · rw [if_pos (Int32.not_lt.mp d), mf_passFault_37, if_pos rfl, if_pos ((can3 c).mpr d), mf_reasonOfOrder_143]
    · have c' : ¬ mf_in m.toInt64 (1 : Int64) (240 : Int64) = true := c
      rw [mf_passFault, if_neg c', mf_passFault_37, if_neg (by decide), mf_reasonOfOrder_143, cf_can, if_neg (by decide), if_neg (by decide), if_neg (by decide), if_pos rfl, if_neg c, cf_can_105, if_neg (by decide)]
  · have e8 : v 0 8 = 114 := h8
    rw [mf_reasonOfOrder, e8, if_neg (by decide), if_neg (by decide), if_neg (by decide), if_neg (by decide), if_pos (show thB g 4 m = true from rfl), show cf_can g (nI 4) m = cf_can g (4 : Int32) m from rfl, h.a (by decide)]
    by_cases c : g 6 = 0
    · rw [if_pos c, if_neg (fun z => (can4.mp z) ((trips0 hS).mpr c)), mf_reasonOfOrder_159]
    · rw [if_neg c, if_pos (can4.mpr fun z => c ((trips0 hS).mp z)), mf_reasonOfOrder_159]
/-- an order done -/
theorem does_ref (h : RelV v s g hn fs tl tb) (hS : SI T np nz ng g) (hk : k < 5) (h8 : v 0 8 = sgn k) (h9 : k ≠ 4 → v 0 9 = m) (h1 : thB g k m = true) (h2 : cf_can g (nI k) m = true) (hO : OrdR np nz ng T k m g g') : (∃ s', RelV (mf_does v) s' g' hn fs tl tb) ∧ ∀ r, r ≠ 1 → mf_does v r = v r := by
  obtain ⟨a0, a1, a2, a3, a4⟩ := hO
  obtain rfl | rfl | rfl | rfl | rfl : k = 0 ∨ k = 1 ∨ k = 2 ∨ k = 3 ∨ k = 4 := by omega
  · have e8 : v 0 8 = 111 := h8
    have hz := isZoneC hS (show cf_isZone g m = true from h1)
    have z8 := hS.ip.z8
    rw [mf_does, e8, if_pos rfl, mf_does_18, e8, if_pos rfl, mf_does_47, mf_does_98, h9 (by decide), a0 rfl, cf_make0, cf_make0_46]
    exact ⟨⟨s, h.up1 (p := 87 + (2 * tN m) + 1) (by omega) (by omega) (by omega)⟩, fun r hr => u2_r hr⟩
  · have e8 : v 0 8 = 99 := h8
    have hz := isZoneC hS (show cf_isZone g m = true from h1)
    have z8 := hS.ip.z8
    rw [mf_does, e8, if_neg (by decide), if_pos rfl, mf_does_18, e8, if_neg (by decide), mf_does_47, mf_does_98, h9 (by decide), a1 rfl, cf_make1, cf_make1_46]
    exact ⟨⟨s, h.up1 (p := 87 + (2 * tN m) + 1) (by omega) (by omega) (by omega)⟩, fun r hr => u2_r hr⟩
  · have e8 : v 0 8 = 115 := h8
    have hz := isPumpS hS (show cf_isPump g m = true from h1)
    have n6 := hS.n6
    rw [mf_does, e8, if_neg (by decide), if_neg (by decide), if_pos rfl, mf_does_c66, mf_does_98, h9 (by decide), a2 rfl]
    obtain ⟨-, m2, -⟩ := E_make2 (w := v) (s := s) (f := z7 g) (SI_0 hS) hz.2
    rw [← h.2.1] at m2
    obtain ⟨-, q2⟩ := (E7_z g).make2 (k := tN m) hS.ne (by omega)
    exact ⟨h.of7 (v2 := (mf_serves v (tN m) 0).2) (by rw [← m2]) q2 (fun r hr => serves_row hr), fun r hr => serves_row hr⟩
  · have e8 : v 0 8 = 112 := h8
    rw [mf_does, e8, if_neg (by decide), if_neg (by decide), if_neg (by decide), if_pos rfl, mf_does_c87, mf_does_98, h9 (by decide), minutes_eq]
    obtain ⟨s', h2, -⟩ := h.mins (a3 rfl)
    exact ⟨⟨s', h2⟩, fun r hr => minsV_row hr _ _⟩
  · have e8 : v 0 8 = 114 := h8
    rw [mf_does, e8, if_neg (by decide), if_neg (by decide), if_neg (by decide), if_neg (by decide), mf_does_c94, mf_does_98, a4 rfl, cf_make4, cf_make4_c127]
    obtain ⟨-, b, -⟩ := E_make4 (w := v) (s := s) (f := z7 g) (SI_0 hS)
    rw [← h.2.1] at b
    exact ⟨h.of7 (g0 := cf_clearTrips (z7 g)) (by rw [← b]) ((E7_z g).clear hS.ne) (fun r hr => resets_row hr), fun r hr => resets_row hr⟩
/-- at the loop's head -/
def HeadR (w : Nat → Nat → Int32) (g : Nat → Int32) (hn : Nat) (fs : Nat → Nat → Int32) (tl : Nat) (tb : Nat → Int32) (pl n : Nat) : Prop := (∃ s, RelV w s g hn fs tl tb) ∧ w 0 7 = nI pl ∧ w 0 11 = 0 ∧ w 0 12 = nI n
theorem RelV.tx (h : RelV v s f hn fs tl tb) : v 0 6 = nI tl ∧ (∀ i, i < tl → v 4 i = tb i) ∧ tl ≤ 60 := ⟨h.2.2.2.2.1, fun i hi => (h.2.2.2.2.2 i hi).1, h.1.2⟩
theorem okW.rel (o : okW v w) (h : RelV v s f hn fs tl tb) : RelV w s f hn fs tl tb := h.rw0 (fun r hr => funext fun k => o r k (Or.inl hr)) (o 0 2 (Or.inr ⟨by decide, by decide, by decide⟩)) (o 0 6 (Or.inr ⟨by decide, by decide, by decide⟩))
/-- an order read from the loop's head -/
theorem read_ref (h : HeadR w g hn fs tl tb pl n) (hl : pl < tl) (num : Int32) : ∃ b w2, mf_readsOrder (u2 w 0 10 (w 0 7)) = (b, w2) ∧ (∃ s, RelV w2 s g hn fs tl tb) ∧ w2 0 10 = nI pl ∧ w2 0 12 = nI n ∧ w2 0 11 = 0 ∧ (sgK (tb pl) = none → b = false) ∧ ∀ k, sgK (tb pl) = some k → (ordP tb tl k num pl = none → b = false) ∧ ∀ m p, ordP tb tl k num pl = some (m, p) → b = true ∧ w2 0 7 = nI p ∧ w2 0 8 = sgn k ∧ (k ≠ 4 → w2 0 9 = m) := by
  obtain ⟨⟨s, hr⟩, h7, h11, h12⟩ := h
  have h1 : RelV (u2 w 0 10 (w 0 7)) s g hn fs tl tb := hr.rw0 (fun r hr => u2_r hr) (u2_k (by decide)) (u2_k (by decide))
  obtain ⟨t6, t4, t60⟩ := h1.tx
  obtain ⟨b, w2, e, ok, z0, z1⟩ := reads_ref (num := num) t6 (by rw [u2_k (by decide)]; exact h7) t60 hl t4
  exact ⟨b, w2, e, ⟨s, ok.rel h1⟩, (ok 0 10 (Or.inr ⟨by decide, by decide, by decide⟩)).trans (by rw [u2_s]; exact h7), (ok 0 12 (Or.inr ⟨by decide, by decide, by decide⟩)).trans (by rw [u2_k (by decide)]; exact h12), (ok 0 11 (Or.inr ⟨by decide, by decide, by decide⟩)).trans (by rw [u2_k (by decide)]; exact h11), z0, z1⟩
/-- one order done -/
theorem step_ref (h : HeadR w g hn fs tl tb pl n) (hS : SI T np nz ng g) (hT : T ≤ 20000) {num' : Int32} {pl' T' : Nat} (hs : StepR np nz ng tb tl num pl T g num' pl' T' g') (q : Nat) : ∃ w', mf_doOrders_15 v0 (q + 1) w = mf_doOrders_15 v0 q w' ∧ HeadR w' g' hn fs tl tb pl' (n + 1) := by
  obtain ⟨hl, k, e, hp, h1, h2, hO, -, -, -⟩ := hs
  obtain ⟨b, w2, e2, ⟨s, hr⟩, w10, w12, w11, -, z⟩ := read_ref h hl num
  obtain ⟨-, z⟩ := z k e
  obtain ⟨eb, w7, w8, w9⟩ := z _ _ hp
  obtain ⟨⟨s0, hr0⟩, h7, h11, h12⟩ := h
  obtain ⟨t6, -, t60⟩ := hr0.tx
  have hk := sgK_lt e
  have er := reason_ref (m := num') hr hS hT hk w8 w9
  rw [if_pos h1, if_pos h2] at er
  have hr3 : RelV (u2 w2 0 11 0) s g hn fs tl tb := hr.rw0 (fun r hr => u2_r hr) (u2_k (by decide)) (u2_k (by decide))
  obtain ⟨⟨s4, hr4⟩, rows⟩ := does_ref (m := num') hr3 hS hk (by rw [u2_k (by decide)]; exact w8) (fun c => by rw [u2_k (by decide)]; exact w9 c) h1 h2 hO
  refine ⟨u2 (mf_does (u2 w2 0 11 0)) 0 12 (mf_does (u2 w2 0 11 0) 0 12 + 1), ?_, ⟨s4, hr4.rw0 (fun r hr => u2_r hr) (u2_k (by decide)) (u2_k (by decide))⟩, ?_, ?_, ?_⟩
  · rw [mf_doOrders_15, t6, h7, if_neg (by rw [nI_leq (by omega) (by omega)]; omega), if_pos h11, ← h7, e2]
    dsimp only
    rw [eb, mf_doOrders_c43, if_pos rfl, er, mf_doOrders_57, u2_s, if_pos rfl, mf_doOrders_c68]
  · rw [u2_k (by decide), rows 0 (by decide), u2_k (by decide)]; exact w7
  · rw [u2_k (by decide), rows 0 (by decide), u2_s]
  · rw [u2_s, rows 0 (by decide), u2_k (by decide), w12, show (1 : Int32) = nI 1 from rfl, nI_add]
theorem RunsR.pl (h : RunsR np nz ng tb tl m0 T0 g0 n num pl T g) : n ≤ pl ∧ (SI T0 np nz ng g0 → T0 ≤ 20000 → SI T np nz ng g ∧ T ≤ 20000) := by
  induction n generalizing num pl T g with
  | zero => obtain ⟨-, -, rfl, rfl⟩ := h; exact ⟨Nat.zero_le _, fun a b => ⟨a, b⟩⟩
  | succ n ih =>
    obtain ⟨num1, pl1, T1, g1, h1, hs⟩ := h
    obtain ⟨i1, -⟩ := ih h1
    obtain ⟨hl, k, e, hp, -, -, -, -, s1, s2⟩ := hs
    have := (ordP_pl hp hl).1
    exact ⟨by omega, fun _ _ => ⟨s1, s2⟩⟩
/-- the orders done, from the start -/
theorem run_ref (h : HeadR w g0 hn fs tl tb 0 0) (hS : SI T0 np nz ng g0) (hT : T0 ≤ 20000) (hR : RunsR np nz ng tb tl m0 T0 g0 n num pl T g) (q : Nat) : ∃ w', mf_doOrders_15 v0 (q + n) w = mf_doOrders_15 v0 q w' ∧ HeadR w' g hn fs tl tb pl n := by
  induction n generalizing num pl T g q with
  | zero => obtain ⟨-, rfl, -, rfl⟩ := hR; exact ⟨w, rfl, h⟩
  | succ n ih =>
    obtain ⟨num1, pl1, T1, g1, h1, hs⟩ := hR
    obtain ⟨w1, e1, hw1⟩ := ih h1 (q + 1)
    obtain ⟨s1, s2⟩ := h1.pl.2 hS hT
    obtain ⟨w2, e2, hw2⟩ := step_ref (v0 := v0) hw1 s1 s2 hs q
    exact ⟨w2, by rw [show q + (n + 1) = q + 1 + n by omega, e1, e2], hw2⟩
/-- the end: no order is left -/
theorem end_ref (h : HeadR w g hn fs tl tb pl n) (hl : tl ≤ pl) (hp : pl ≤ 60) (q : Nat) : mf_doOrders_15 v0 (q + 1) w = w := by
  obtain ⟨⟨s0, hr0⟩, h7, h11, h12⟩ := h
  obtain ⟨t6, -, t60⟩ := hr0.tx
  rw [mf_doOrders_15, t6, h7, if_pos (by rw [nI_leq (by omega) (by omega)]; omega), mf_doOrders_84]
/-- the end: an order that is not possible -/
theorem fail_ref (h : HeadR w g hn fs tl tb pl n) (hS : SI T np nz ng g) (hT : T ≤ 20000) (hf : FailA tb tl num pl g r) (q : Nat) : ∃ w', mf_doOrders_15 v0 (q + 2) w = w' ∧ (∃ s, RelV w' s g hn fs tl tb) ∧ w' 0 10 = nI pl ∧ w' 0 11 = r ∧ w' 0 12 = nI n := by
  obtain ⟨hl, hf⟩ := hf
  obtain ⟨b, w2, e2, ⟨s, hr⟩, w10, w12, w11, z0, z⟩ := read_ref h hl num
  obtain ⟨⟨s0, hr0⟩, h7, h11, h12⟩ := h
  obtain ⟨t6, -, t60⟩ := hr0.tx
  have key : ∀ x : Int32, ¬ x = 0 → mf_doOrders_57 v0 (mf_doOrders_15 v0 (q + 1)) w w2 b x = u2 w2 0 11 x := fun x hx => by
    rw [mf_doOrders_57, u2_s, if_neg hx, mf_doOrders_15, u2_s]
    split
    · rw [mf_doOrders_84]
    · rw [if_neg hx, mf_doOrders_84]
  have st : mf_doOrders_15 v0 (q + 2) w = mf_doOrders_c43 v0 (mf_doOrders_15 v0 (q + 1)) w w2 b := by
    rw [show q + 2 = (q + 1) + 1 from rfl, mf_doOrders_15, t6, h7, if_neg (by rw [nI_leq (by omega) (by omega)]; omega), if_pos h11, ← h7, e2]
  have fin : ∀ x : Int32, ¬ x = 0 → mf_doOrders_15 v0 (q + 2) w = u2 w2 0 11 x → r = x → ∃ w', mf_doOrders_15 v0 (q + 2) w = w' ∧ (∃ s, RelV w' s g hn fs tl tb) ∧ w' 0 10 = nI pl ∧ w' 0 11 = r ∧ w' 0 12 = nI n := fun x hx e er =>
    ⟨_, e, ⟨s, hr.rw0 (fun r hr => u2_r hr) (u2_k (by decide)) (u2_k (by decide))⟩, by rw [u2_k (by decide)]; exact w10, by rw [u2_s, er], by rw [u2_k (by decide)]; exact w12⟩
  rcases hf with ⟨er, hn⟩ | ⟨k, m, p, e, hp, hf⟩
  · have eb : b = false := by
      cases hk : sgK (tb pl) with
      | none => exact z0 hk
      | some k => exact (z k hk).1 (hn k hk)
    refine fin 1 (by decide) ?_ er
    rw [st, mf_doOrders_c43, eb, if_neg (by decide)]
    rw [eb] at key
    exact key 1 (by decide)
  · obtain ⟨eb, w7, w8, w9⟩ := (z k e).2 m p hp
    have eq := reason_ref (m := m) hr hS hT (sgK_lt e) w8 w9
    have st2 : mf_doOrders_15 v0 (q + 2) w = mf_doOrders_57 v0 (mf_doOrders_15 v0 (q + 1)) w w2 b (mf_reasonOfOrder w2) := by
      rw [st, mf_doOrders_c43, eb, if_pos rfl]
    rcases hf with ⟨h1, er⟩ | ⟨h1, h2, er⟩
    · rw [if_neg (by rw [h1]; decide)] at eq
      exact fin 2 (by decide) (by rw [st2, eq]; exact key 2 (by decide)) er
    · rw [if_pos h1, if_neg (by rw [h2]; decide)] at eq
      exact fin 3 (by decide) (by rw [st2, eq]; exact key 3 (by decide)) er
/-- the reference does the orders as the reader does -/
theorem orders_ref (h : RelV v s g0 hn fs tl tb) {mn bg rs : Int32} {g2 : Nat → Int32} {n2 T2 : Nat} (hS : SI T0 np nz ng g0) (hT : T0 ≤ 20000) (hL : LoopR np nz ng tb tl 0 T0 g0 num pl bg rs mn g2 n2 T2) (he : rs = 0 → tl ≤ pl) : (∃ s, RelV (mf_doOrders v) s g2 hn fs tl tb) ∧ mf_doOrders v 0 11 = rs ∧ mf_doOrders v 0 12 = mn ∧ (rs ≠ 0 → mf_doOrders v 0 10 = bg) := by
  have t60 := h.1.2
  have h0 : HeadR (u2 (u2 (u2 v 0 11 (0 : Int32)) 0 12 (0 : Int32)) 0 7 (0 : Int32)) g0 hn fs tl tb 0 0 := ⟨⟨s, h.rw0 (fun r hr => by rw [u2_r hr, u2_r hr, u2_r hr]) (by rw [u2_k (by decide), u2_k (by decide), u2_k (by decide)]) (by rw [u2_k (by decide), u2_k (by decide), u2_k (by decide)])⟩, by rw [u2_s]; rfl, by rw [u2_k (by decide), u2_k (by decide), u2_s], by rw [u2_k (by decide), u2_s]; rfl⟩
  rcases hL with ⟨er, hR, em, hp, hnp, hS2, hT2⟩ | ⟨er, num1, pl1, hR, em, hp, hnp, ⟨hS2, hT2⟩, eb, hf⟩
  · obtain ⟨w', e, hw⟩ := run_ref (v0 := v) h0 hS hT hR (70 - n2 + 1)
    have e9 : mf_doOrders v = w' := by
      rw [mf_doOrders, show 71 = 70 - n2 + 1 + n2 by omega, e]
      exact end_ref hw (he er) (by omega) _
    rw [e9]
    obtain ⟨a, b, c, d⟩ := hw
    exact ⟨a, c.trans er.symm, d.trans em.symm, fun z => absurd er z⟩
  · obtain ⟨w', e, hw⟩ := run_ref (v0 := v) h0 hS hT hR (69 - n2 + 2)
    obtain ⟨w2, e2, a, b, c, d⟩ := fail_ref (v0 := v) hw hS2 hT2 hf (69 - n2)
    have e9 : mf_doOrders v = w2 := by
      rw [mf_doOrders, show 71 = 69 - n2 + 2 + n2 by omega, e, e2]
    rw [e9]
    exact ⟨a, c, d.trans em.symm, fun _ => b.trans eb.symm⟩
end RM

