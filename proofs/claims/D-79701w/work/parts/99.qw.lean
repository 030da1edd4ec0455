set_option maxRecDepth 100000
/-! QW: the water's two stages are the reference's -/
section QW
variable {w : Nat → Nat → Int32} {s : Int32} {f g : Nat → Int32} {T np nz ng : Nat}
theorem go3_o2 (f0 : Nat → Int32) {p : Nat} (hp : ∀ k, k < np → p ≠ 39 + (8 * k) + 5 ∧ p ≠ 39 + (8 * k) + 6) : ∀ (n k : Nat) (g : Nat → Int32), nC g 14 = np → cf_go3_2 f0 n k g p = g p := by
  intro n
  induction n with
  | zero => intro k g _; rfl
  | succ n ih =>
    intro k g hc
    by_cases c : nC g 14 ≤ k
    · rw [cf_go3_2, if_pos c]
    · rw [go3_step f0 n k c, ih _ _ (by rw [← hc]; unfold nC; rw [runK_o (by omega) (by omega)])]
      exact runK_o (hp k (by omega)).1 (hp k (by omega)).2
theorem demandOf_cong {k : Nat} {x : Int32} (h1 : g (87 + (2 * k)) = f (87 + (2 * k))) (h2 : g (87 + (2 * k) + 1) = f (87 + (2 * k) + 1)) : cf_demandOf g k x = cf_demandOf f k x := by
  unfold cf_demandOf cf_demandOf_25
  rw [h1, h2]
theorem demand_13_cong {x : Int32} (hz : nC f 15 ≤ 8) (h15 : g 15 = f 15) (h : ∀ k, k < 8 → g (87 + (2 * k)) = f (87 + (2 * k)) ∧ g (87 + (2 * k) + 1) = f (87 + (2 * k) + 1)) : ∀ (n : Nat) (i : Int32) (k : Nat), cf_demand_13 g x n i k = cf_demand_13 f x n i k := by
  intro n
  induction n with
  | zero => intro i k; rfl
  | succ n ih =>
    intro i k
    rw [cf_demand_13, cf_demand_13, show nC g 15 = nC f 15 from congrArg tN h15]
    by_cases c : nC f 15 ≤ k
    · rw [if_pos c, if_pos c]
    · rw [if_neg c, if_neg c, ih, demandOf_cong (h k (by omega)).1 (h k (by omega)).2]
theorem demand_cong {x : Int32} (hz : nC f 15 ≤ 8) (h15 : g 15 = f 15) (h17 : g 17 = f 17) (h : ∀ k, k < 8 → g (87 + (2 * k)) = f (87 + (2 * k)) ∧ g (87 + (2 * k) + 1) = f (87 + (2 * k) + 1)) : cf_demand g x = cf_demand f x := by
  rw [cf_demand, cf_demand, h17, demand_13_cong hz h15 h]
theorem flowOk_Vf (hI : IP T np nz ng (Rf f)) {k : Nat} (hk : k < np) : FlowOk (Vf w s f) k (f (39 + (8 * k) + 4)) (f 1) := by
  have hn := hI.n6
  have h := IP_Vf (w := w) (s := s) hI
  have h4 := (h.pump hk (w := 4) (by decide)).2.2.2.2 rfl
  have h1 := h.press
  rw [Vf_at (by omega)] at h4 h1
  exact h.flow hk h4 h1
theorem flow_4_rg (hI : IP T np nz ng (Rf f)) : ∀ (n : Nat) (i : Int32) (k : Nat), np < n + k → k ≤ np → rg i (k * 1415) → rg (cf_flow_4 f n i k) (np * 1415) := by
  have hn := hI.n6
  have hp : nC f 14 = np := nC_of (show f 14 = nI np from hI.enp) (by omega)
  intro n
  induction n with
  | zero => intro i k h1 h2; omega
  | succ n ih =>
    intro i k h1 h2 hi
    rw [cf_flow_4, hp]
    by_cases c : np ≤ k
    · rw [if_pos c]
      have : k = np := by omega
      subst this
      exact hi
    · rw [if_neg c]
      refine ih _ _ (by omega) (by omega) ?_
      obtain ⟨a, a1, a2⟩ := hi
      have hF := flowOk_Vf (w := fun _ _ => 0) (s := 0) hI (show k < np by omega)
      have e := E_curve hF
      obtain ⟨q, q1, q2⟩ := flow_rg hF
      rw [E_of (by omega) (by decide), E_of (by omega) (by decide), q2] at e
      unfold cf_flowOf cf_flowOf_33
      by_cases d : cf_runs f k = true
      · rw [if_pos d, e, a2, nI_add]
        exact ⟨a + q, by omega, rfl⟩
      · rw [if_neg d, a2, Int32.add_zero]
        exact ⟨a, by omega, rfl⟩
theorem water_nn (hI : IP T np nz ng (Rf f)) : (0 : Int32) ≤ f 2 - jmin (f 2) (cf_flow f) + f 34 := by
  have hn := hI.n6
  obtain ⟨a, a1, a2⟩ := hI.level
  have f2 : f 2 = nI a := a2
  obtain ⟨c, _, c1, c2⟩ := hI.set (k := 14) (by decide)
  have f34 : f 34 = nI c := c2
  have c1' : c ≤ 1000 := c1
  obtain ⟨b, b1, b2⟩ := flow_4_rg hI 7 0 0 (by omega) (Nat.zero_le _) rg_0
  have ef : cf_flow f = nI b := b2
  have b3 : b ≤ 6 * 1415 := by omega
  have e0 : (0 : Int32) = nI 0 := rfl
  rw [f2, f34, ef]
  unfold jmin
  by_cases d : nI b < nI a
  · have := (nI_ltI (a := b) (b := a) (by omega) (by omega)).mp d
    rw [if_pos d, nI_sub (by omega), nI_add, e0]
    exact (nI_leI (by omega) (by omega)).mpr (by omega)
  · rw [if_neg d, nI_sub (Nat.le_refl _), nI_add, e0]
    exact (nI_leI (by omega) (by omega)).mpr (by omega)
theorem E_go23 (hI : IP T np nz ng (Rf f)) : Vf w s (cf_go3 (cf_go2 f)) = mf_water (Vf w s f) := by
  have hn := hI.n6
  have hp : nC f 14 = np := nC_of (show f 14 = nI np from hI.enp) (by omega)
  have hz8 := hI.z8
  have hz : nC f 15 = nz := nC_of (show f 15 = nI nz from hI.enz) (by omega)
  have o : ∀ p, (∀ k, k < np → p ≠ 39 + (8 * k) + 5 ∧ p ≠ 39 + (8 * k) + 6) → cf_go3 f p = f p := fun p h => go3_o2 (np := np) f h 7 0 f hp
  have hb : ∀ k, k < 8 → rg (f (87 + (2 * k) + 1)) 1 := fun k hk => by
    have := (hI.opn hk).1
    rwa [Rf_at (by omega)] at this
  have hw : mf_water (Vf w s f) = wat (Vf w s (cf_go3 f)) (cf_flow f) :=
    E_water_4 (w := w) (s := s) (np := np) (Vf w s f) f (a := fun k => f (39 + (8 * k) + 1)) (b := fun k => f (39 + (8 * k) + 2)) (c := fun k => f (39 + (8 * k) + 4)) (pr := f 1) hn (fun k hk v h1 h2 => by
      obtain ⟨sp, pr, sh, st, x1, x2, x3, x4, x5, x6, x7, x8, x9⟩ := flowOk_Vf (w := w) (s := s) hI hk
      have y1 : f (39 + (8 * k) + 1) = nI sh := (Vf_at (w := w) (s := s) (by omega)).symm.trans x5
      have y2 : f (39 + (8 * k) + 2) = nI st := (Vf_at (w := w) (s := s) (by omega)).symm.trans x7
      have e := E_curve (v := v) (k := k) (speed := f (39 + (8 * k) + 4)) (pressure := f 1) ⟨sp, pr, sh, st, x1, x2, x3, x4, h1.trans y1, x6, h2.trans y2, x8, x9⟩
      rw [h1, h2] at e
      exact e.symm) 7 0 0 f (by omega) (Nat.zero_le _) hp (fun j hj => ⟨rfl, rfl, rfl⟩) rfl
  have o2 := o 2 (fun k _ => by omega)
  have o1 := o 1 (fun k _ => by omega)
  have o13 := o 13 (fun k _ => by omega)
  have o34 := o 34 (fun k _ => by omega)
  have o30 := o 30 (fun k _ => by omega)
  have eA : ∀ A, watA (cf_go3 f) A = upd (upd (upd (cf_go3 f) 3 A) 13 (f 13 + A)) 2 (jmin (20000 : Int32) (f 2 - A + f 34)) := fun A => by
    unfold watA
    rw [o2, o13, o34]
  have ew : ∀ (G : Nat → Int32) (A : Int32) (p : Nat), p ≠ 3 → p ≠ 13 → p ≠ 2 → watA G A p = G p := fun G A p h3 h13 h2 => by
    unfold watA
    rw [pk_un h2, pk_un h13, pk_un h3]
  have eD : ∀ A, cf_demand (watA (cf_go3 f) A) (f 1) = cf_demand (watA f A) (f 1) := fun A => by
    refine demand_cong ?_ ?_ ?_ (fun k hk => ⟨?_, ?_⟩)
    · show tN (watA f A 15) ≤ 8
      rw [ew _ _ _ (by decide) (by decide) (by decide)]
      exact (show tN (f 15) = nz from hz) ▸ hz8
    · rw [ew _ _ _ (by decide) (by decide) (by decide), ew _ _ _ (by decide) (by decide) (by decide), o 15 (fun k _ => by omega)]
    · rw [ew _ _ _ (by decide) (by decide) (by decide), ew _ _ _ (by decide) (by decide) (by decide), o 17 (fun k _ => by omega)]
    · rw [ew _ _ _ (by omega) (by omega) (by omega), ew _ _ _ (by omega) (by omega) (by omega), o _ (fun j hj => by omega)]
    · rw [ew _ _ _ (by omega) (by omega) (by omega), ew _ _ _ (by omega) (by omega) (by omega), o _ (fun j hj => by omega)]
  rw [hw, wat_A, o2, E_wat (by rw [o2, o34]; exact water_nn hI) (by show tN (cf_go3 f 15) ≤ 8; rw [o 15 (fun k _ => by omega)]; exact (show tN (f 15) = nz from hz) ▸ hz8) (fun k hk => by rw [o _ (fun j hj => by omega)]; exact hb k hk), o1, o30, eD, eA, go2_eq]
  rw [show upd (watA f (jmin (f 2) (cf_flow f))) 1 (jmax (0 : Int32) (jmin (2000 : Int32) (f 1 + (jmin (f 2) (cf_flow f) - cf_demand (watA f (jmin (f 2) (cf_flow f))) (f 1)) / f 30))) = upd (upd (upd (upd f 3 (jmin (f 2) (cf_flow f))) 13 (f 13 + jmin (f 2) (cf_flow f))) 2 (jmin (20000 : Int32) (f 2 - jmin (f 2) (cf_flow f) + f 34))) 1 (jmax (0 : Int32) (jmin (2000 : Int32) (f 1 + (jmin (f 2) (cf_flow f) - cf_demand (watA f (jmin (f 2) (cf_flow f))) (f 1)) / f 30))) from rfl, go3_put]
end QW

