set_option maxRecDepth 100000
/-! QR: the trip is the reference's -/
section QR
variable {w : Nat → Nat → Int32} {s : Int32} {f g : Nat → Int32} {np : Nat}
theorem u2_swap {z : Nat → Nat → Int32} {a b : Nat} {x y : Int32} (h : a ≠ b) : u2 (u2 z 1 a x) 1 b y = u2 (u2 z 1 b y) 1 a x := by
  funext i j
  unfold u2
  by_cases c : i = 1
  · rw [if_pos c, if_pos c, if_pos c, if_pos c]
    by_cases d : j = b
    · rw [if_pos d, if_pos d, if_neg (fun e => h (e.symm.trans d))]
    · rw [if_neg d, if_neg d]
  · rw [if_neg c, if_neg c, if_neg c, if_neg c]
theorem u2_over {z : Nat → Nat → Int32} {a : Nat} {x y : Int32} : u2 (u2 z 1 a x) 1 a y = u2 z 1 a y := by
  funext i j
  unfold u2
  by_cases c : i = 1
  · by_cases d : j = a <;> simp [c, d]
  · simp [c]
theorem upd_swap {z : Nat → Int32} {a b : Nat} {x y : Int32} (h : a ≠ b) : upd (upd z a x) b y = upd (upd z b y) a x := by
  funext j
  by_cases c : j = a
  · subst c
    rw [pk_un h, pk_ue, pk_ue]
  · by_cases d : j = b
    · subst d
      rw [pk_ue, pk_un c, pk_ue]
    · rw [pk_un d, pk_un c, pk_un c, pk_un d]
theorem Vf_54 {x : Int32} : Vf w s (upd (upd f 5 1) 4 x) = u2 (u2 (Vf w s f) 1 5 1) 1 4 x := by
  rw [Vf_up (by decide) (by decide) (by decide), Vf_up (by decide) (by decide) (by decide)]
theorem pstop_54 {k : Nat} {x : Int32} : cf_pstop (upd (upd f 5 1) 4 x) k = upd (upd (cf_pstop f k) 5 1) 4 x := by
  unfold cf_pstop
  rw [upd_swap (a := 4) (by omega), upd_swap (a := 4) (by omega), upd_swap (a := 5) (by omega), upd_swap (a := 5) (by omega)]
theorem E_trip_2 (v0 : Nat → Nat → Int32) (is0 : Int32) (f0 : Nat → Int32) (hn6 : np ≤ 6) : ∀ (n k : Nat) (f : Nat → Int32) (x : Int32), k ≤ np → np < n + k → nC f 14 = np → rg (f 19) 12 → (∀ j, j < k → ¬ cf_runs f j = true) → (x = -1 ∨ ∃ j, j < np ∧ x = nI j ∧ cf_runs f j = true) →
    mf_dryness_69 v0 is0 n k (Vf w s (upd (upd f 5 1) 4 x)) = mf_dryness_116 v0 is0 (Vf w s (cf_trip_2 f0 n k f)) := by
  intro n
  induction n with
  | zero => intro k f x h1 h2; omega
  | succ n ih =>
    intro k f x h1 h2 hp he hr hx
    have e14 : nC (Vf w s (upd (upd f 5 1) 4 x) 1) 14 = np := by
      rw [Vf_n (by decide), ← hp]
      unfold nC
      rw [pk_un (by decide), pk_un (by decide)]
    rw [mf_dryness_69, cf_trip_2, e14, hp]
    by_cases c : np ≤ k
    · rw [if_pos c, if_pos c]
      have ex : x = -1 := by
        rcases hx with hx | ⟨j, j1, -, j3⟩
        · exact hx
        · exact absurd j3 (hr j (by omega))
      subst ex
      unfold mf_dryness_c113 cf_trip_c78
      have he3 : rg (upd (upd (upd f 4 (-1 : Int32)) 5 (1 : Int32)) 6 ((upd (upd f 4 (-1 : Int32)) 5 (1 : Int32)) 6 + (1 : Int32)) 19) 12 := by rw [pk_un (by decide), pk_un (by decide), pk_un (by decide)]; exact he
      rw [E_tell1 he3, Vf_54, Vf_up (p := 6) (by decide) (by decide) (by decide), Vf_up (p := 5) (by decide) (by decide) (by decide), Vf_up (p := 4) (by decide) (by decide) (by decide), u2_swap (a := 4) (b := 5) (by decide)]
      rw [show u2 (u2 (Vf w s f) 1 5 1) 1 4 (-1 : Int32) 1 6 = (upd (upd f 4 (-1 : Int32)) 5 (1 : Int32)) 6 from by rw [u2_k (by decide), u2_k (by decide), Vf_at (by decide), pk_un (by decide), pk_un (by decide)]]
    · rw [if_neg c, if_neg c]
      have er : mf_runs (Vf w s (upd (upd f 5 1) 4 x)) k = cf_runs f k := by
        rw [← E_runs (by omega)]
        exact runs_cong (by rw [pk_un (by omega), pk_un (by omega)])
      rw [er]
      by_cases d : cf_runs f k = true
      · rw [if_pos d, if_pos d]
        unfold mf_dryness_c90 mf_dryness_93 cf_trip_c41 cf_trip_c47 cf_trip_50
        obtain ⟨e1, x', e2, e3⟩ := E_cstop (w := w) (s := s) (f := upd (upd f 5 1) 4 x) (k := k) (np := np) (by omega) hn6 (by rw [← hp]; unfold nC; rw [pk_un (by decide), pk_un (by decide)]) (by rw [pk_un (by decide), pk_un (by decide)]; exact he)
        have he1 : rg (cf_pstop f k 19) 12 := pstop_19 he
        have he2 : rg (upd (upd (cf_pstop f k) 5 1) 4 x 19) 12 := by rw [pk_un (by decide), pk_un (by decide)]; exact he1
        rw [← e1, e2, pstop_54]
        have ev : Vf w s (upd (cf_tell (upd (upd (cf_pstop f k) 5 1) 4 x) 1 (nI k)) 4 x') = Vf w s (upd (upd (cf_tell (cf_pstop f k) 1 (nI k)) 5 1) 4 x') := by
          rw [Vf_54, Vf_up (p := 4) (by decide) (by decide) (by decide), E_tell he2, E_tell he1, Vf_54, event_up (q := 4) (by decide) (by decide) (by decide), event_up (q := 5) (by decide) (by decide) (by decide), u2_over]
        rw [ev]
        have hrt : ∀ j, j < 6 → cf_runs (cf_tell (cf_pstop f k) 1 (nI k)) j = cf_runs (cf_pstop f k) j := fun j hj => runs_cong (tell_fr he1 _ _ (by omega) (by omega))
        have hrun : ∀ j, j < 6 → j ≠ k → cf_runs (cf_tell (cf_pstop f k) 1 (nI k)) j = cf_runs f j := fun j hj hk => (hrt j hj).trans (runs_cong (pstop_fr (by omega) (by omega)))
        have hF4 : upd (upd f 5 1) 4 x 4 = x := pk_ue
        rw [hF4] at e3
        refine ih (k + 1) _ x' (by omega) (by omega) ?_ (tell_rg he1 _ _) (fun j hj z => ?_) ?_
        · rw [← hp]
          unfold nC
          rw [tell_fr he1 _ _ (by decide) (by decide), pstop_fr (by omega) (by omega)]
        · by_cases ej : j = k
          · subst ej
            rw [hrt j (by omega)] at z
            refine runs_iff.mp z ?_
            unfold cf_pstop
            rw [pk_un (by omega), pk_ue]
            exact Int32.le_refl 0
          · rw [hrun j (by omega) ej] at z
            exact hr j (by omega) z
        · by_cases ex : x = nI k
          · rw [if_pos ex] at e3
            obtain ⟨o, o1, o2, o3⟩ := e3
            cases o with
            | none => exact Or.inl o3
            | some j =>
              refine Or.inr ⟨j, o1 j rfl, o3, ?_⟩
              have oj := o1 j rfl
              rw [hrt j (by omega)]
              have := (o2 j rfl).1
              rw [pstop_54] at this
              exact (runs_cong (by rw [pk_un (by omega), pk_un (by omega)])).symm.trans this
          · rw [if_neg ex] at e3
            rcases hx with hx | ⟨j, j1, j2, j3⟩
            · exact Or.inl (e3.trans hx)
            · refine Or.inr ⟨j, j1, e3.trans j2, ?_⟩
              rw [hrun j (by omega) (fun z => ex (by rw [j2, z]))]
              exact j3
      · rw [if_neg d, if_neg d]
        unfold mf_dryness_93 cf_trip_50
        refine ih (k + 1) f x (by omega) (by omega) hp he (fun j hj => ?_) hx
        rcases Nat.lt_or_ge j k with z | z
        · exact hr j z
        · rw [show j = k by omega]
          exact d
end QR

