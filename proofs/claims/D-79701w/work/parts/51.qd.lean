set_option maxRecDepth 100000
set_option maxRecDepth 100000
/-! QD: what the stages ask -/
section QD
variable {w : Nat → Nat → Int32} {s : Int32} {f g : Nat → Int32} {T np nz ng : Nat}
theorem cap_nz (hI : IP T np nz ng (Rf f)) : ¬ f 30 = 0 := by
  obtain ⟨a, a1, a2, a3⟩ := hI.set (k := 10) (by decide)
  have a1' : 1 ≤ a := a1
  have a2' : a ≤ 200 := a2
  rw [show f 30 = nI a from a3]
  exact nI_ne0 (by omega) (by omega)
theorem cv_all (hI : IP T np nz ng (Rf f)) : ∀ k, k < np → CvOk (f (39 + (8 * k) + 1)) (f (39 + (8 * k) + 2)) (f (39 + (8 * k) + 4)) (f 1) := fun k hk => by
  have hn := hI.n6
  have h1 := (hI.pump hk (w := 1) (by decide)).2.1 rfl
  have h2 := (hI.pump hk (w := 2) (by decide)).2.2.1 rfl
  have h4 := (hI.pump hk (w := 4) (by decide)).2.2.2.2 rfl
  rw [Rf_at (by omega)] at h1 h2 h4
  obtain ⟨a, _, a2, a3⟩ := h1
  obtain ⟨b, b1, b2, b3⟩ := h2
  obtain ⟨c, c1, c2⟩ := h4
  obtain ⟨d, d1, d2⟩ := hI.press
  exact ⟨a, b, c, d, a3, a2, b3, b1, b2, c2, c1, d2, d1⟩
def zOk (ng : Nat) (f : Nat → Int32) : Prop := ∀ k, k < ng → ∃ j, j < 8 ∧ f (103 + (3 * k)) = nI j
theorem z_ok (hI : IP T np nz ng (Rf f)) : zOk ng f := fun k hk => by
  have hg := hI.g8
  have hz := hI.z8
  obtain ⟨j, h1, h2⟩ := hI.pz hk
  rw [Rf_at (by omega)] at h2
  exact ⟨j, by omega, h2⟩
theorem ze {x : Int32} (h : ∃ j, j < 8 ∧ x = nI j) : x = nI (tN x) := by
  obtain ⟨j, hj, rfl⟩ := h
  rw [tN_nI (by omega)]
theorem zl {x : Int32} (h : ∃ j, j < 8 ∧ x = nI j) : tN x < 8 := by
  obtain ⟨j, hj, rfl⟩ := h
  rw [tN_nI (by omega)]
  exact hj
theorem zOk.up (h : zOk ng f) {p : Nat} {x : Int32} (hp : p < 103) : zOk ng (upd f p x) := fun k hk => by
  rw [pk_un (by omega)]
  exact h k hk
end QD

