set_option maxRecDepth 100000
/-! T2: the small methods and the turns, as the tree's law has them -/
section T2
variable {np m : Nat} {f g : tT} {lo hi ps : Nat → Nat}
theorem tcol_n : cf_tcol f none = true := rfl
theorem tcol_s {i : Nat} : cf_tcol f (some i) = (f i 3).isSome := by
  rw [cf_tcol, if_neg (show ¬ (some i : Option Nat) = none by simp)]; rfl
theorem tpar_n : cf_tpar f none = none := rfl
theorem tpar_s {i : Nat} : cf_tpar f (some i) = f i 2 := by
  rw [cf_tpar, if_neg (show ¬ (some i : Option Nat) = none by simp)]; rfl
theorem tlef_n : cf_tlef f none = none := rfl
theorem tlef_s {i : Nat} : cf_tlef f (some i) = f i 0 := by
  rw [cf_tlef, if_neg (show ¬ (some i : Option Nat) = none by simp)]; rfl
theorem trig_n : cf_trig f none = none := rfl
theorem trig_s {i : Nat} : cf_trig f (some i) = f i 1 := by
  rw [cf_trig, if_neg (show ¬ (some i : Option Nat) = none by simp)]; rfl
theorem tset_n {b : Bool} : cf_tset f none b = f := rfl
theorem tset_s {i : Nat} {b : Bool} : cf_tset f (some i) b = t2 f i 3 (bO b) := by
  rw [cf_tset, if_neg (show ¬ (some i : Option Nat) = none by simp)]; rfl
/-- a colour set changes no other field -/
theorem tset_j {o : Option Nat} {b : Bool} {k j : Nat} (h : j ≠ 3) : cf_tset f o b k j = f k j := by
  cases o with
  | none => rfl
  | some i => rw [tset_s, t2_j h]
theorem TI.tset (h : TI np m f lo hi ps) (o : Option Nat) (b : Bool) : TI np m (cf_tset f o b) lo hi ps :=
  h.cong (fun _ => tset_j (by decide)) (fun _ => tset_j (by decide)) (fun _ => tset_j (by decide)) (tset_j (by decide))
theorem RL_b (h : TI np m f lo hi ps) {p r : Nat} (hp : lo p < hi p) (hr : f p 1 = some r) : p ≠ r ∧ (∀ b, f r 0 = some b → b ≠ p ∧ b ≠ r) ∧ (∀ g, f p 2 = some g → g ≠ p ∧ g ≠ r) := by
  obtain ⟨r1, r2, r3, r4⟩ := h.right hp hr
  have bp := h.b hp
  have br := h.b r1
  have npr : p ≠ r := fun e => by subst e; omega
  refine ⟨npr, fun b e => ?_, fun g e => ?_⟩
  · have e1 := h.left r1 e
    have e2 := h.b e1.1
    exact ⟨fun z => by subst z; omega, fun z => by subst z; omega⟩
  · obtain ⟨a, b⟩ := h.par hp e
    constructor
    · rintro rfl
      rcases b with b | b
      · have := h.left hp b; omega
      · rw [hr] at b; cases b; exact npr rfl
    · rintro rfl
      rcases b with b | b
      · have := h.left r1 b; omega
      · have := h.right r1 b; omega
theorem E_rotL (h : TI np m f lo hi ps) {p r : Nat} (hp : lo p < hi p) (hr : f p 1 = some r) : cf_rotL f (some p) = RL f p r := by
  obtain ⟨n1, n2, n3⟩ := RL_b h hp hr
  rw [cf_rotL, if_neg (show ¬ (some p : Option Nat) = none by simp)]
  simp only [Option.getD_some, hr]
  cases eb : f r 0 with
  | none =>
    rw [if_pos rfl]
    cases eg : f p 2 with
    | none =>
      rw [if_pos rfl]
      funext k j
      simp only [t2, RL, eb, eg]
      by_cases k0 : k = 0 <;> by_cases k1 : k = p <;> by_cases k2 : k = r <;> by_cases j6 : j = 6 <;> by_cases j0 : j = 0 <;> by_cases j1 : j = 1 <;> by_cases j2 : j = 2 <;> simp_all
    | some g =>
      obtain ⟨g1, g2⟩ := n3 g eg
      rw [if_neg (show ¬ (some g : Option Nat) = none by simp)]
      simp only [Option.getD_some]
      by_cases c : f g 0 = some p
      · rw [if_pos c]
        funext k j
        simp only [t2, RL, eb, eg]
        by_cases k3g : k = g
        · subst k3g
          by_cases k0 : k = 0 <;> by_cases k1 : k = p <;> by_cases k2 : k = r <;> by_cases j6 : j = 6 <;> by_cases j0 : j = 0 <;> by_cases j1 : j = 1 <;> by_cases j2 : j = 2 <;> simp_all
        · have k5g : ¬ g = k := fun e => k3g e.symm
          by_cases k0 : k = 0 <;> by_cases k1 : k = p <;> by_cases k2 : k = r <;> by_cases j6 : j = 6 <;> by_cases j0 : j = 0 <;> by_cases j1 : j = 1 <;> by_cases j2 : j = 2 <;> simp_all
      · rw [if_neg c]
        funext k j
        simp only [t2, RL, eb, eg]
        by_cases k3g : k = g
        · subst k3g
          by_cases k0 : k = 0 <;> by_cases k1 : k = p <;> by_cases k2 : k = r <;> by_cases j6 : j = 6 <;> by_cases j0 : j = 0 <;> by_cases j1 : j = 1 <;> by_cases j2 : j = 2 <;> simp_all
        · have k5g : ¬ g = k := fun e => k3g e.symm
          by_cases k0 : k = 0 <;> by_cases k1 : k = p <;> by_cases k2 : k = r <;> by_cases j6 : j = 6 <;> by_cases j0 : j = 0 <;> by_cases j1 : j = 1 <;> by_cases j2 : j = 2 <;> simp_all
  | some b =>
    obtain ⟨b1, b2⟩ := n2 b eb
    rw [if_neg (show ¬ (some b : Option Nat) = none by simp)]
    simp only [Option.getD_some]
    cases eg : f p 2 with
    | none =>
      rw [if_pos rfl]
      funext k j
      simp only [t2, RL, eb, eg]
      by_cases k3b : k = b
      · subst k3b
        by_cases k0 : k = 0 <;> by_cases k1 : k = p <;> by_cases k2 : k = r <;> by_cases j6 : j = 6 <;> by_cases j0 : j = 0 <;> by_cases j1 : j = 1 <;> by_cases j2 : j = 2 <;> simp_all
      · have k5b : ¬ b = k := fun e => k3b e.symm
        by_cases k0 : k = 0 <;> by_cases k1 : k = p <;> by_cases k2 : k = r <;> by_cases j6 : j = 6 <;> by_cases j0 : j = 0 <;> by_cases j1 : j = 1 <;> by_cases j2 : j = 2 <;> simp_all
    | some g =>
      obtain ⟨g1, g2⟩ := n3 g eg
      rw [if_neg (show ¬ (some g : Option Nat) = none by simp)]
      simp only [Option.getD_some]
      by_cases c : f g 0 = some p
      · rw [if_pos c]
        funext k j
        simp only [t2, RL, eb, eg]
        by_cases k3g : k = g
        · subst k3g
          by_cases k3b : k = b
          · subst k3b
            by_cases k0 : k = 0 <;> by_cases k1 : k = p <;> by_cases k2 : k = r <;> by_cases j6 : j = 6 <;> by_cases j0 : j = 0 <;> by_cases j1 : j = 1 <;> by_cases j2 : j = 2 <;> simp_all
          · have k5b : ¬ b = k := fun e => k3b e.symm
            by_cases k0 : k = 0 <;> by_cases k1 : k = p <;> by_cases k2 : k = r <;> by_cases j6 : j = 6 <;> by_cases j0 : j = 0 <;> by_cases j1 : j = 1 <;> by_cases j2 : j = 2 <;> simp_all
        · have k5g : ¬ g = k := fun e => k3g e.symm
          by_cases k3b : k = b
          · subst k3b
            by_cases k0 : k = 0 <;> by_cases k1 : k = p <;> by_cases k2 : k = r <;> by_cases j6 : j = 6 <;> by_cases j0 : j = 0 <;> by_cases j1 : j = 1 <;> by_cases j2 : j = 2 <;> simp_all
          · have k5b : ¬ b = k := fun e => k3b e.symm
            by_cases k0 : k = 0 <;> by_cases k1 : k = p <;> by_cases k2 : k = r <;> by_cases j6 : j = 6 <;> by_cases j0 : j = 0 <;> by_cases j1 : j = 1 <;> by_cases j2 : j = 2 <;> simp_all
      · rw [if_neg c]
        funext k j
        simp only [t2, RL, eb, eg]
        by_cases k3g : k = g
        · subst k3g
          by_cases k3b : k = b
          · subst k3b
            by_cases k0 : k = 0 <;> by_cases k1 : k = p <;> by_cases k2 : k = r <;> by_cases j6 : j = 6 <;> by_cases j0 : j = 0 <;> by_cases j1 : j = 1 <;> by_cases j2 : j = 2 <;> simp_all
          · have k5b : ¬ b = k := fun e => k3b e.symm
            by_cases k0 : k = 0 <;> by_cases k1 : k = p <;> by_cases k2 : k = r <;> by_cases j6 : j = 6 <;> by_cases j0 : j = 0 <;> by_cases j1 : j = 1 <;> by_cases j2 : j = 2 <;> simp_all
        · have k5g : ¬ g = k := fun e => k3g e.symm
          by_cases k3b : k = b
          · subst k3b
            by_cases k0 : k = 0 <;> by_cases k1 : k = p <;> by_cases k2 : k = r <;> by_cases j6 : j = 6 <;> by_cases j0 : j = 0 <;> by_cases j1 : j = 1 <;> by_cases j2 : j = 2 <;> simp_all
          · have k5b : ¬ b = k := fun e => k3b e.symm
            by_cases k0 : k = 0 <;> by_cases k1 : k = p <;> by_cases k2 : k = r <;> by_cases j6 : j = 6 <;> by_cases j0 : j = 0 <;> by_cases j1 : j = 1 <;> by_cases j2 : j = 2 <;> simp_all
end T2

