set_option maxRecDepth 100000
/-! QT: the water's loop is the two stages' loops -/
section QT
variable {w : Nat → Nat → Int32} {s : Int32} {f g : Nat → Int32} {np : Nat}
theorem flow_4_cong {g' : Nat → Int32} (h14 : g' 14 = g 14) (h1 : g' 1 = g 1) (h : ∀ k j, k < np → (j = 1 ∨ j = 2 ∨ j = 4) → g' (39 + (8 * k) + j) = g (39 + (8 * k) + j)) (hp : nC g 14 = np) : ∀ (n : Nat) (i : Int32) (k : Nat), cf_flow_4 g' n i k = cf_flow_4 g n i k := by
  intro n
  induction n with
  | zero => intro i k; rfl
  | succ n ih =>
    intro i k
    rw [cf_flow_4, cf_flow_4, show nC g' 14 = np from by rw [← hp]; unfold nC; rw [h14], hp]
    by_cases c : np ≤ k
    · rw [if_pos c, if_pos c]
    · rw [if_neg c, if_neg c, ih]
      have e : cf_flowOf g' k = cf_flowOf g k := by
        unfold cf_flowOf cf_flowOf_33
        rw [show cf_runs g' k = cf_runs g k from runs_cong (h k 4 (by omega) (Or.inr (Or.inr rfl))), h k 1 (by omega) (Or.inl rfl), h k 2 (by omega) (Or.inr (Or.inl rfl)), h k 4 (by omega) (Or.inr (Or.inr rfl)), h1]
      rw [e]
def wat (v : Nat → Nat → Int32) (t : Int32) : Nat → Nat → Int32 := if t ≤ v 1 2 then mf_water_99 v (fun _ _ z => z) 0 0 v t else mf_water_99 v (fun _ _ z => z) 0 0 v (v 1 2)
/-- one pump's minute -/
def runK (g : Nat → Int32) (k : Nat) : Nat → Int32 := upd (upd g (39 + (8 * k) + 5) (g (39 + (8 * k) + 5) + bI (cf_runs g k))) (39 + (8 * k) + 6) (g (39 + (8 * k) + 6) + bI (cf_runs g k))
theorem runK_o {k p : Nat} (h5 : p ≠ 39 + (8 * k) + 5) (h6 : p ≠ 39 + (8 * k) + 6) : runK g k p = g p := by unfold runK; rw [pk_un h6, pk_un h5]
theorem go3_step (f0 : Nat → Int32) (n k : Nat) (h : ¬ nC g 14 ≤ k) : cf_go3_2 f0 (n + 1) k g = cf_go3_2 f0 n (k + 1) (runK g k) := by
  have er : ∀ x, cf_runs (upd g (39 + (8 * k) + 5) x) k = cf_runs g k := fun x => runs_cong (pk_un (by omega))
  rw [cf_go3_2, if_neg h]
  unfold runK cf_go3_42 cf_go3_63
  by_cases d : cf_runs g k = true
  · rw [if_pos d, er, if_pos d, pk_un (by omega), d]
  · rw [if_neg d, er, if_neg d, pk_un (by omega), show cf_runs g k = false from by simpa using d]
theorem Vf_runK {k : Nat} (hk : k < 6) : Vf w s (runK g k) = if cf_runs g k = true then mf_put (mf_put (Vf w s g) k 5 (mf_of (Vf w s g) k 5 + (1 : Int32))) k 6 (mf_of (mf_put (Vf w s g) k 5 (mf_of (Vf w s g) k 5 + (1 : Int32))) k 6 + (1 : Int32)) else Vf w s g := by
  unfold runK
  rw [E_put hk (by decide), E_put hk (by decide)]
  by_cases d : cf_runs g k = true
  · rw [if_pos d, d, E_of hk (by decide), bI_1]
    have e6 : mf_of (mf_put (Vf w s g) k 5 (g (39 + (8 * k) + 5) + (1 : Int32))) k 6 = g (39 + (8 * k) + 6) := by
      unfold mf_of mf_put
      rw [u2_k (by omega)]
      exact Vf_at (by omega)
    rw [e6]
  · rw [if_neg d, show cf_runs g k = false from by simpa using d, bI_0, Int32.add_zero, Int32.add_zero]
    unfold mf_put
    rw [show g (39 + (8 * k) + 5) = Vf w s g 1 (39 + (8 * k) + 5) from (Vf_at (by omega)).symm, u2_same, show g (39 + (8 * k) + 6) = Vf w s g 1 (39 + (8 * k) + 6) from (Vf_at (by omega)).symm, u2_same]
theorem E_water_4 (v0 : Nat → Nat → Int32) (f0 : Nat → Int32) {a b c : Nat → Int32} {pr : Int32} (hn6 : np ≤ 6) (hE : ∀ k, k < np → ∀ v, mf_of v k 1 = a k → mf_of v k 2 = b k → mf_flow v k (c k) pr = cf_curve (a k) (b k) (c k) pr) :
    ∀ (n k : Nat) (i : Int32) (g : Nat → Int32), np < n + k → k ≤ np → nC g 14 = np → (∀ j, j < np → g (39 + (8 * j) + 1) = a j ∧ g (39 + (8 * j) + 2) = b j ∧ g (39 + (8 * j) + 4) = c j) → g 1 = pr →
      mf_water_4 v0 n i k (Vf w s g) = wat (Vf w s (cf_go3_2 f0 n k g)) (cf_flow_4 g n i k) := by
  intro n
  induction n with
  | zero => intro k i g h1 h2; omega
  | succ n ih =>
    intro k i g h1 h2 hp hg hr
    rw [mf_water_4, Vf_n (by decide), hp, cf_flow_4, hp]
    by_cases d : np ≤ k
    · rw [if_pos d, if_pos d, show cf_go3_2 f0 (n + 1) k g = g from by rw [cf_go3_2, hp, if_pos d]]
      rfl
    · have hk : k < 6 := by omega
      rw [if_neg d, if_neg d, go3_step f0 n k (by rw [hp]; exact d)]
      have hcg : ∀ n i k', cf_flow_4 (runK g k) n i k' = cf_flow_4 g n i k' := flow_4_cong (np := np) (runK_o (by omega) (by omega)) (runK_o (by omega) (by omega)) (fun k' j _ hj => runK_o (by omega) (by omega)) hp
      have ih' := ih (k + 1) (i + cf_flowOf g k) (runK g k) (by omega) (by omega) (by rw [← hp]; unfold nC; rw [runK_o (by omega) (by omega)]) (fun j hj => ⟨(runK_o (by omega) (by omega)).trans (hg j hj).1, (runK_o (by omega) (by omega)).trans (hg j hj).2.1, (runK_o (by omega) (by omega)).trans (hg j hj).2.2⟩) ((runK_o (by omega) (by omega)).trans hr)
      rw [hcg] at ih'
      rw [← ih', Vf_runK hk, ← E_runs hk]
      obtain ⟨g1, g2, g4⟩ := hg k (by omega)
      unfold cf_flowOf cf_flowOf_33 mf_water_c54 mf_water_c70 mf_water_73
      by_cases e : cf_runs g k = true
      · rw [if_pos e, if_pos e, if_pos e, g1, g2, g4, hr, E_of (j := 4) hk (by decide), g4, Vf_at (p := 1) (by decide), hr, hE k (by omega) (Vf w s g) ((E_of hk (by decide)).trans g1) ((E_of hk (by decide)).trans g2)]
      · rw [if_neg e, if_neg e, if_neg e, Int32.add_zero]
end QT

