set_option maxRecDepth 100000
set_option maxRecDepth 100000
/-! QE: trip -/
section QE
variable {w : Nat → Nat → Int32} {s : Int32} {f g : Nat → Int32} {T np nz ng : Nat}
theorem trip_2_19 (f0 : Nat → Int32) : ∀ (n k : Nat) (f : Nat → Int32), rg (f 19) 12 → rg (cf_trip_2 f0 n k f 19) 12 := by
  intro n
  induction n with
  | zero => intro k f h; exact h
  | succ n ih =>
    intro k f h
    rw [cf_trip_2]
    by_cases c : nC f 14 ≤ k
    · rw [if_pos c, cf_trip_c78, tell1_eq]
      exact tell_rg (by rw [pk_un (by decide), pk_un (by decide), pk_un (by decide)]; exact h) _ _
    · rw [if_neg c]
      by_cases d : cf_runs f k = true
      · rw [if_pos d, cf_trip_c41, cf_trip_c47, cf_trip_50]
        exact ih _ _ (tell_rg (pstop_19 h) _ _)
      · rw [if_neg d, cf_trip_50]
        exact ih _ _ h
theorem trip_19 (h : rg (f 19) 12) : rg (cf_trip f 19) 12 := trip_2_19 f 7 0 f h
theorem rg1_bI {x : Int32} (h : rg x 1) : x = bI (decide (x = 1)) := by
  obtain ⟨j, hj, rfl⟩ := h
  have : j = 0 ∨ j = 1 := by omega
  rcases this with rfl | rfl <;> rfl
end QE

