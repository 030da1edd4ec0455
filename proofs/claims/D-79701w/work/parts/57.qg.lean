set_option maxRecDepth 100000
set_option maxRecDepth 100000
/-! QG: the stages as the reference's -/
section QG
variable {w : Nat → Nat → Int32} {s : Int32} {f g : Nat → Int32} {T np nz ng : Nat}
theorem E_go1_21 (f0 : Nat → Int32) (u : Nat → Nat → Int32) (hu : mf_minuteOfDay u = ((upd f0 0 ((f0 0) + (1 : Int32))) 0) - ((upd f0 0 ((f0 0) + (1 : Int32))) 0) / (1440 : Int32) * (1440 : Int32)) (hg : ng ≤ 8) : ∀ (n k : Nat) (f : Nat → Int32), nC f 16 = ng → zOk ng f →
    Vf w s (cf_go1_21 f0 n k f) = mf_programmes_7 u n k (Vf w s f) ∧ ∀ p, (p < 87 ∨ 103 ≤ p) → cf_go1_21 f0 n k f p = f p := by
  intro n
  induction n with
  | zero => intro k f _ _; exact ⟨rfl, fun _ _ => rfl⟩
  | succ n ih =>
    intro k f hc hz
    rw [cf_go1_21, mf_programmes_7, Vf_n (by decide), hc]
    by_cases c : ng ≤ k
    · rw [if_pos c, if_pos c]
      exact ⟨rfl, fun _ _ => rfl⟩
    · have hz1 := zl (hz k (by omega))
      have v0 : Vf w s f 1 (103 + (3 * k)) = f (103 + (3 * k)) := Vf_at (by omega)
      have v1 : Vf w s f 1 (103 + (3 * k) + 1) = f (103 + (3 * k) + 1) := Vf_at (by omega)
      have v2 : Vf w s f 1 (103 + (3 * k) + 2) = f (103 + (3 * k) + 2) := Vf_at (by omega)
      have go : ∀ x : Int32, Vf w s (cf_go1_21 f0 n (k + 1) (upd f (87 + 2 * tN (f (103 + (3 * k))) + 1) x)) = mf_programmes_7 u n (k + 1) (u2 (Vf w s f) 1 (87 + 2 * tN (f (103 + (3 * k))) + 1) x) ∧ ∀ p, (p < 87 ∨ 103 ≤ p) → cf_go1_21 f0 n (k + 1) (upd f (87 + 2 * tN (f (103 + (3 * k))) + 1) x) p = f p := fun x => by
        obtain ⟨h1, h2⟩ := ih (k + 1) (upd f (87 + 2 * tN (f (103 + (3 * k))) + 1) x) ((congrArg tN (pk_un (by omega))).trans hc) (hz.up (by omega))
        rw [Vf_up (by omega) (by omega) (by omega)] at h1
        exact ⟨h1, fun p hp => (h2 p hp).trans (pk_un (by omega))⟩
      rw [if_neg c, if_neg c, hu, v1, v2]
      by_cases c1 : f (103 + (3 * k) + 1) = ((upd f0 0 ((f0 0) + (1 : Int32))) 0) - ((upd f0 0 ((f0 0) + (1 : Int32))) 0) / (1440 : Int32) * (1440 : Int32)
      · rw [if_pos c1, if_pos c1, cf_go1_63, if_pos c1, cf_go1_86, cf_go1_87, mf_programmes_85, v0]
        exact go 1
      · rw [if_neg c1, if_neg c1]
        by_cases c2 : f (103 + (3 * k) + 2) = ((upd f0 0 ((f0 0) + (1 : Int32))) 0) - ((upd f0 0 ((f0 0) + (1 : Int32))) 0) / (1440 : Int32) * (1440 : Int32)
        · rw [if_pos c2, if_pos c2, cf_go1_63, if_neg c1, cf_go1_86, cf_go1_87, mf_programmes_85, v0]
          exact go 0
        · rw [if_neg c2, if_neg c2, cf_go1_87, mf_programmes_85, v0, u2_same]
          exact ih (k + 1) f hc hz
theorem E_go1 (hI : IP T np nz ng (Rf f)) : Vf w s (cf_go1 f) = mf_programmes (u2 (Vf w s f) 1 0 (Vf w s f 1 0 + 1)) ∧ ∀ p, p ≠ 0 → (p < 87 ∨ 103 ≤ p) → cf_go1 f p = f p := by
  have v0 : Vf w s f 1 0 = f 0 := Vf_at (by decide)
  have hg := hI.g8
  have hc : nC (upd f 0 (f 0 + 1)) 16 = ng := (congrArg tN (pk_un (by decide))).trans (nC_of (show f 16 = nI ng from hI.eng) (by omega))
  have hm : mf_minuteOfDay (u2 (Vf w s f) 1 0 (Vf w s f 1 0 + 1)) = ((upd f 0 ((f 0) + (1 : Int32))) 0) - ((upd f 0 ((f 0) + (1 : Int32))) 0) / (1440 : Int32) * (1440 : Int32) := by
    rw [mf_minuteOfDay, u2_s, pk_us, v0]
  obtain ⟨h1, h2⟩ := E_go1_21 (w := w) (s := s) f _ hm hg 9 0 (upd f 0 (f 0 + 1)) hc ((z_ok hI).up (by decide))
  rw [Vf_up (by decide) (by decide) (by decide)] at h1
  rw [cf_go1, mf_programmes, h1, v0]
  exact ⟨rfl, fun p h0 hp => (h2 p hp).trans (pk_un h0)⟩
theorem E_go6 (hS : SI T np nz ng f) : Vf w s (cf_go6 f) = (if Vf w s f 1 5 = 1 then mf_beginAnew (Vf w s f) else mf_rotate (mf_cascade (mf_countAll (ctlW (mf_regulate (Vf w s f)))))) ∧ SI T np nz ng (cf_go6 f) := by
  have v5 : Vf w s f 1 5 = f 5 := Vf_at (by decide)
  obtain ⟨j, j1, j2⟩ := hS.ip.dry
  have f5 : f 5 = nI j := j2
  have hj : j = 0 ∨ j = 1 := by omega
  rw [v5]
  rcases hj with rfl | rfl
  · have e0 : f 5 = 0 := f5.trans nI_0
    have e : cf_go6 f = cf_control f := by rw [cf_go6, if_pos e0, cf_go6_c15, cf_go6_18]
    rw [e, if_neg (show ¬ f 5 = 1 by rw [e0]; decide)]
    exact E_control hS
  · have e1 : f 5 = 1 := f5.trans (by rfl)
    have e : cf_go6 f = cf_forget f := by rw [cf_go6, if_neg (show ¬ f 5 = 0 by rw [e1]; decide), cf_go6_c8, cf_go6_18]
    rw [e, if_pos e1]
    exact ⟨E_forget, SI_forget hS⟩
end QG

