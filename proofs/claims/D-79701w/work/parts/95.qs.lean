set_option maxRecDepth 100000
/-! QS: dryness is the reference's -/
section QS
variable {w : Nat → Nat → Int32} {s : Int32} {f g : Nat → Int32} {T np nz ng : Nat}
theorem trip_2_5 (f0 : Nat → Int32) (hn6 : np ≤ 6) : ∀ (n k : Nat) (f : Nat → Int32), np < n + k → nC f 14 = np → rg (f 19) 12 → k ≤ np → cf_trip_2 f0 n k f 5 = 1 := by
  intro n
  induction n with
  | zero => intro k f h1 _ _ h2; omega
  | succ n ih =>
    intro k f h1 hp he h2
    rw [cf_trip_2, hp]
    by_cases c : np ≤ k
    · rw [if_pos c]
      unfold cf_trip_c78
      rw [tell1_eq, tell_fr (by rw [pk_un (by decide), pk_un (by decide), pk_un (by decide)]; exact he) _ _ (by decide) (by decide), pk_un (by decide), pk_ue]
    · rw [if_neg c]
      by_cases d : cf_runs f k = true
      · rw [if_pos d]
        unfold cf_trip_c41 cf_trip_c47 cf_trip_50
        have he1 : rg (cf_pstop f k 19) 12 := pstop_19 he
        refine ih _ _ (by omega) ?_ (tell_rg he1 _ _) (by omega)
        rw [← hp]
        unfold nC
        rw [tell_fr he1 _ _ (by decide) (by decide), pstop_fr (by omega) (by omega)]
      · rw [if_neg d]
        unfold cf_trip_50
        exact ih _ _ (by omega) hp he (by omega)
theorem E_116 {v0 : Nat → Nat → Int32} {f0 : Nat → Int32} {x y : Int32} (he : rg (g 19) 12) (h5 : rg (g 5) 1) : mf_dryness_116 v0 x (Vf w s g) = Vf w s (cf_go5_53 f0 y g) := by
  unfold mf_dryness_116 cf_go5_53 mf_dryness_165 mf_dryness_c162 cf_go5_c69 cf_go5_72 mf_setting
  rw [Vf_at (p := 2) (by decide), Vf_at (p := 20 + 12) (by decide), Vf_at (p := 5) (by decide), Vf_at (p := 6) (by decide)]
  have hc : cf_canGoOn g = true ↔ ¬ g 5 = 0 ∧ ¬ g 2 < g 32 := by
    unfold cf_canGoOn cf_canGoOn_25 cf_canGoOn_26
    by_cases a : g 5 = 0
    · rw [if_pos a]
      exact ⟨fun z => (by cases z), fun z => absurd a z.1⟩
    · rw [if_neg a]
      by_cases b : g 2 < g 32
      · rw [if_pos b]
        exact ⟨fun z => (by cases z), fun z => absurd b z.2⟩
      · rw [if_neg b]
        exact ⟨fun _ => ⟨a, b⟩, fun _ => rfl⟩
  have h01 : g 5 = 1 ↔ ¬ g 5 = 0 := by
    obtain ⟨j, hj, e⟩ := h5
    have : j = 0 ∨ j = 1 := by omega
    rcases this with rfl | rfl
    · rw [e]; decide
    · rw [e]; decide
  by_cases b : g 2 < g (20 + 12)
  · rw [if_pos b, if_neg (fun z => (hc.mp z).2 b)]
  · rw [if_neg b]
    by_cases a : g 5 = 1
    · rw [if_pos a, if_pos (hc.mpr ⟨h01.mp a, b⟩)]
      by_cases d : (3 : Int32) ≤ g 6
      · rw [if_pos d, if_pos d]
      · rw [if_neg d, if_neg d]
        exact (E_goOn he).symm
    · rw [if_neg a, if_neg (fun z => a (h01.mpr (hc.mp z).1))]
theorem E_go5_34 {y : Int32} (hS : SI T np nz ng f) : mf_dryness_34 (Vf w s f) y = Vf w s (cf_go5_25 f y) := by
  have hI := hS.1
  have he : rg (f 19) 12 := hI.ne
  have h5 : rg (f 5) 1 := hI.dry
  have hp : f 14 = nI np := hI.enp
  have eg : u2 (Vf w s f) 1 7 y = Vf w s (upd f 7 y) := (Vf_up (by decide) (by decide) (by decide)).symm
  have he7 : rg (upd f 7 y 19) 12 := by rw [pk_un (by decide)]; exact he
  have h57 : rg (upd f 7 y 5) 1 := by rw [pk_un (by decide)]; exact h5
  have hn7 : nC (upd f 7 y) 14 = np := by
    unfold nC
    rw [pk_un (by decide), hp]
    exact nI_clamp (by have := hI.n6; omega)
  unfold mf_dryness_34 cf_go5_25 mf_setting
  rw [eg, Vf_at (p := 7) (by decide), Vf_at (p := 20 + 13) (by decide), Vf_at (p := 5) (by decide)]
  by_cases a : upd f 7 y 7 < upd f 7 y (20 + 13)
  · rw [if_pos a, if_pos (show upd f 7 y 7 < upd f 7 y 33 from a)]
    exact E_116 he7 h57
  · rw [if_neg a, if_neg (show ¬ upd f 7 y 7 < upd f 7 y 33 from a)]
    by_cases b : upd f 7 y 5 = 0
    · rw [if_pos b, if_pos b]
      unfold cf_go5_c50 cf_trip
      have ex : u2 (Vf w s (upd f 7 y)) 1 5 1 = Vf w s (upd (upd (upd f 7 y) 5 1) 4 (f 4)) := by
        rw [Vf_54, show f 4 = u2 (Vf w s (upd f 7 y)) 1 5 1 1 4 from by rw [u2_k (by decide), Vf_at (by decide), pk_un (by decide)], u2_same]
      have hx : f 4 = -1 ∨ ∃ j, j < np ∧ f 4 = nI j ∧ cf_runs (upd f 7 y) j = true := by
        rcases hS.2.2.2 with z | ⟨z1, z2⟩
        · exact Or.inl z
        · rcases hI.var with z | ⟨j, j1, j2⟩
          · exact Or.inl z
          · refine Or.inr ⟨j, j1, j2, ?_⟩
            have j2' : f 4 = nI j := j2
            have hn := hI.n6
            rw [j2', tN_nI (by omega)] at z1
            exact (runs_cong (pk_un (by omega))).trans z1
      rw [ex, E_trip_2 (np := np) (Vf w s f) y (upd f 7 y) hI.n6 7 0 (upd f 7 y) (f 4) (Nat.zero_le _) (by have := hI.n6; omega) hn7 he7 (fun j hj => by omega) hx]
      refine E_116 (trip_19 he7) ?_
      show rg (cf_trip_2 (upd f 7 y) 7 0 (upd f 7 y) 5) 1
      rw [trip_2_5 (np := np) (upd f 7 y) hI.n6 7 0 _ (by have := hI.n6; omega) hn7 he7 (Nat.zero_le _)]
      exact ⟨1, by omega, rfl⟩
    · rw [if_neg b, if_neg b]
      exact E_116 he7 h57
theorem E_go5 (hS : SI T np nz ng f) : Vf w s (cf_go5 f) = mf_dryness (Vf w s f) := by
  unfold mf_dryness cf_go5 mf_setting
  rw [Vf_at (p := 20 + 11) (by decide), Vf_at (p := 2) (by decide), Vf_at (p := 7) (by decide)]
  by_cases c : f 31 ≤ f 2
  · rw [if_pos c, if_pos (show f (20 + 11) ≤ f 2 from c)]
    exact (E_go5_34 hS).symm
  · rw [if_neg c, if_neg (show ¬ f (20 + 11) ≤ f 2 from c)]
    exact (E_go5_34 hS).symm
end QS

