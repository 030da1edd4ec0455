set_option maxRecDepth 100000
/-! CW: the component whole: stations apart, each by its owner -/
def ImG (G : mg) (own : Nat → Option Nat) (M : mh) (ad : Nat → Nat) (np ng : Nat) (f : Nat → Int32) : Prop :=
  Sta G ad np ng M M f ∧ adN np ng ad ∧ (f 18 = 0 → ad 9 = ad 0) ∧ (∀ r, r < 32 → own (ad r) = some (ad 0)) ∧ ∃ T nz, T ≤ 20000 ∧ SI T np nz ng f
section CW
variable {G : mg} {own own' : Nat → Option Nat} {M M0 M1 M2 : mh} {ad ad' adm : Nat → Nat} {np ng np' ng' nn : Nat} {f g : Nat → Int32} {b9 : Nat} {bx : Nat → Nat}
theorem adN.un (hN : adN np ng ad) (hn : np ≤ 6) {r : Nat} (hr : r < 32) (h9 : r ≠ 9) (hu : ¬ stU np ng nn r) : ad r = ad 0 := by
  by_cases c2 : r = 2
  · subst c2
    refine hN.2.1 (Classical.byContradiction fun c => hu ⟨by decide, fun _ => c, fun z => by omega, fun z => by omega, fun z => by omega, fun z => by omega⟩)
  · by_cases c4 : r = 4
    · subst c4
      refine hN.2.2 (Classical.byContradiction fun c => hu ⟨by decide, fun z => by omega, fun _ => c, fun z => by omega, fun z => by omega, fun z => by omega⟩)
    · by_cases c20 : r < 20
      · exact absurd (stU_p c20 c2 c4 h9) hu
      · by_cases c26 : r < 26
        · obtain ⟨k, rfl⟩ : ∃ k, r = 20 + k := ⟨r - 20, by omega⟩
          by_cases c : k < np
          · exact absurd (stU_pm hn c) hu
          · exact (hN.1 k (by omega) (by omega)).1
        · obtain ⟨k, rfl⟩ : ∃ k, r = 26 + k := ⟨r - 26, by omega⟩
          by_cases c : k < np
          · exact absurd (stU_cv hn c) hu
          · exact (hN.1 k (by omega) (by omega)).2
/-- every role's address is one that is used -/
theorem roleB (h : StaB G ad b9 bx np ng nn M M f) (hN : adN np ng ad) (h9 : nn = 0 → ad 9 = ad 0) : (nn ≠ 0 → ad 9 = b9) ∧ ∀ r, r < 32 → ∃ r', stU np ng nn r' ∧ ad r = adr ad b9 r' := by
  have n6 := h.1.2.1
  have s0 : stU np ng nn 0 := stU_p (by decide) (by decide) (by decide) (by decide)
  have e9 : nn ≠ 0 → ad 9 = b9 := fun n0 => by
    have s9 : stU np ng nn 9 := ⟨by decide, fun z => by omega, fun z => by omega, fun _ => n0, fun z => by omega, fun z => by omega⟩
    rcases h.2.2.2.2.2.2.2.1 n0 with ⟨r, hr, e⟩ | z
    · by_cases c : r = 9
      · rw [← c]; exact e.symm
      · exfalso
        by_cases u : stU np ng nn r
        · have := h.2.2.2.1 r 9 u s9 ((adr_n c).trans (e.symm.trans (if_pos rfl).symm))
          exact c this
        · rw [hN.un n6 hr c u] at e
          have := h.2.2.2.1 0 9 s0 s9 ((adr_n (by decide)).trans (e.symm.trans (if_pos rfl).symm))
          omega
    · exfalso
      have := h.2.2.1 9 s9
      rw [show adr ad b9 9 = b9 from if_pos rfl, z] at this
      cases this
  refine ⟨e9, fun r hr => ?_⟩
  by_cases c : r = 9
  · subst c
    by_cases n0 : nn = 0
    · exact ⟨0, s0, (h9 n0).trans (adr_n (by decide)).symm⟩
    · exact ⟨9, ⟨by decide, fun z => by omega, fun z => by omega, fun _ => n0, fun z => by omega, fun z => by omega⟩, (e9 n0).trans (if_pos rfl).symm⟩
  · by_cases u : stU np ng nn r
    · exact ⟨r, u, (adr_n c).symm⟩
    · exact ⟨0, s0, (hN.un n6 hr c u).trans (adr_n (by decide)).symm⟩
theorem ImG.toB (h : ImG G own M ad np ng f) : ∃ nn b9 bx, nn ≤ 7 ∧ f 18 = nI nn ∧ StaB G ad b9 bx np ng nn M M f ∧ (nn ≠ 0 → ad 9 = b9) ∧ ∀ r, r < 32 → ∃ r', stU np ng nn r' ∧ ad r = adr ad b9 r' := by
  obtain ⟨hS, hN, h9, -, T, nz, hT, hI⟩ := h
  obtain ⟨nn, hn, e⟩ := hI.ip.nn
  rw [Rf_at (by decide)] at e
  obtain ⟨b9, bx, hB⟩ := hS.toB e (by omega)
  exact ⟨nn, b9, bx, hn, e, hB, roleB hB hN (fun z => h9 (by rw [e, z]; exact nI_0))⟩
/-- a role's cell: never none, never of another class -/
theorem ImG.cl (h : ImG G own M ad np ng f) {r : Nat} (hr : r < 32) {c : Nat} (hc : c ≠ 1 ∧ c ≠ 2 ∧ c ≠ 4 ∧ c ≠ 5 ∧ c ≠ 6 ∧ c ≠ 9 ∧ c ≠ 10) (fs : List Value) : M (ad r) ≠ some (.inr (c, fs)) := by
  obtain ⟨nn, b9, bx, -, -, hB, -, hr'⟩ := h.toB
  obtain ⟨r', u, e⟩ := hr' r hr
  rw [e, hB.2.2.1 r' u]
  exact fun z => stC_cl hc u hB.2.1 fs (Option.some.inj z)
theorem ImG.ne (h : ImG G own M ad np ng f) {r : Nat} (hr : r < 32) : M (ad r) ≠ none := by
  obtain ⟨nn, b9, bx, -, -, hB, -, hr'⟩ := h.toB
  obtain ⟨r', u, e⟩ := hr' r hr
  rw [e, hB.2.2.1 r' u]
  exact fun z => by cases z
/-- other cells are written -/
theorem ImG.keep (h : ImG G own M1 ad np ng f) {W : Nat → Prop} (hk : ∀ q, M1 q ≠ none → ¬ W q → M2 q = M1 q) (hr : ∀ r, r < 32 → ¬ W (ad r)) (h7 : ∀ q fs, W q → M1 q ≠ some (.inr (7, fs))) (h14 : ∀ q fs, W q → M1 q ≠ some (.inr (14, fs))) (ho : ∀ r, r < 32 → own' (ad r) = own (ad r)) : ImG G own' M2 ad np ng f := by
  obtain ⟨nn, b9, bx, hn7, e18, hB, e9, hrr⟩ := h.toB
  obtain ⟨hS, hN, h9, hw, hI⟩ := h
  obtain ⟨b1, b2, b3, b4, b5, b6, b7, b8, hqq⟩ := hB
  have kr : ∀ r, r < 32 → M2 (ad r) = M1 (ad r) := fun r hlt => hk _ (by
    obtain ⟨r', u, e⟩ := hrr r hlt
    rw [e, b3 r' u]; exact fun z => by cases z) (hr r hlt)
  refine ⟨⟨nn, b9, bx, b1, b2, fun r u => ?_, b4, fun k hk9 => ?_, fun k hk9 => ?_, fun _ _ _ => rfl, fun n0 => Or.inl ⟨9, by decide, (e9 n0).symm⟩, hqq⟩, hN, h9, fun r hlt => (ho r hlt).trans (hw r hlt), hI⟩
  · by_cases c : r = 9
    · have n0 : nn ≠ 0 := u.2.2.2.1 c
      rw [c, show adr ad b9 9 = b9 from if_pos rfl, ← e9 n0, kr 9 (by decide)]
      have := b3 r u
      rw [c, show adr ad b9 9 = b9 from if_pos rfl, ← e9 n0] at this
      exact this
    · rw [adr_n c, kr r u.1]
      have := b3 r u
      rwa [adr_n c] at this
  · have := b5 k hk9
    rw [hk _ (by rw [this]; exact fun z => by cases z) (fun w => h7 _ _ w this)]
    exact this
  · rcases b6 k hk9 with b | b
    · refine Or.inl ?_
      rw [hk _ (by rw [b]; exact fun z => by cases z) (fun w => h14 _ _ w b)]
      exact b
    · exact Or.inr b
theorem ImG.ext (h : ImG G own M1 ad np ng f) (hE : ∀ q, M1 q ≠ none → M2 q = M1 q) : ImG G own M2 ad np ng f :=
  h.keep (W := fun _ => False) (fun q hq _ => hE q hq) (fun _ _ z => z) (fun _ _ z => z.elim) (fun _ _ z => z.elim) (fun _ _ => rfl)
/-- the station's own cells are changed: its addresses anew -/
def reA (ad : Nat → Nat) (b9 nn : Nat) : Nat → Nat := fun r => if r = 9 then (if nn = 0 then ad 0 else b9) else ad r
theorem reA_o {r : Nat} (h : r ≠ 9) : reA ad b9 nn r = ad r := if_neg h
/-- who owns what, a station anew -/
noncomputable def reO (own : Nat → Option Nat) (ad : Nat → Nat) : Nat → Option Nat := fun q => @ite _ (∃ r, r < 32 ∧ ad r = q) (Classical.propDecidable _) (some (ad 0)) (own q)
theorem reO_s {r : Nat} (h : r < 32) : reO own ad (ad r) = some (ad 0) := by
  unfold reO
  exact if_pos ⟨r, h, rfl⟩
theorem reO_n {q : Nat} (h : ∀ r, r < 32 → ad r ≠ q) : reO own ad q = own q := by
  unfold reO
  exact if_neg fun ⟨r, hr, e⟩ => h r hr e
theorem Sta.renew (h : Sta G ad np ng M1 M2 g) (hN : adN np ng ad) (hI : ∃ T nz, T ≤ 20000 ∧ SI T np nz ng g) : ∃ ad', ImG G (reO own ad') M2 ad' np ng g ∧ ad' 0 = ad 0 ∧ ∀ r, r < 32 → (∃ r', r' < 32 ∧ ad' r = ad r') ∨ M1 (ad' r) = none := by
  obtain ⟨T, nz, hT, hS⟩ := hI
  obtain ⟨nn, hn7, e18⟩ := hS.ip.nn
  rw [Rf_at (by decide)] at e18
  obtain ⟨b9, bx, hB⟩ := h.toB e18 (by omega)
  have s0 : stU np ng nn 0 := stU_p (by decide) (by decide) (by decide) (by decide)
  obtain ⟨b1, b2, b3, b4, b5, b6, b7, b8, hqq⟩ := hB
  have ea : ∀ r, stU np ng nn r → adr (reA ad b9 nn) b9 r = adr ad b9 r := fun r u => by
    unfold adr
    by_cases c : r = 9
    · rw [if_pos c, if_pos c]
    · rw [if_neg c, if_neg c, reA_o c]
  have ec : ∀ r, stC G (reA ad b9 nn) b9 bx np ng nn g r = stC G ad b9 bx np ng nn g r := fun r => by
    have z : ∀ k, k ≠ 9 → reA ad b9 nn k = ad k := fun k hk => reA_o hk
    have zz : ∀ j k, 20 ≤ j → reA ad b9 nn (j + k) = ad (j + k) := fun j k hj => reA_o (by omega)
    have zq : qrf (reA ad b9 nn) = qrf ad := by
      funext x
      unfold qrf
      rw [zz 20 _ (by decide)]
    unfold stC
    by_cases c : r < 20
    · rw [if_pos c, if_pos c]
      unfold stT stF
      rw [z 0 (by decide), z 1 (by decide), z 2 (by decide), z 3 (by decide), z 4 (by decide), z 5 (by decide), z 6 (by decide), z 7 (by decide), z 8 (by decide), z 10 (by decide), z 11 (by decide), z 12 (by decide), z 13 (by decide), z 14 (by decide), z 15 (by decide), z 16 (by decide), z 17 (by decide), z 18 (by decide), z 19 (by decide), zq]
      simp only [zz 20 _ (by decide), zz 26 _ (by decide), zz 32 _ (by decide)]
    · rw [if_neg c, if_neg c]
  refine ⟨reA ad b9 nn, ⟨⟨nn, b9, bx, b1, b2, fun r u => ?_, fun r r' u u' e => ?_, fun k hk => ?_, b6, fun _ _ _ => rfl, fun n0 => Or.inl ⟨9, by decide, ?_⟩, hqq⟩, ?_, fun z => ?_, fun r hr => ?_, T, nz, hT, hS⟩, reA_o (by decide), fun r hr => ?_⟩
  · rw [ea r u, ec r]; exact b3 r u
  · rw [ea r u, ea r' u'] at e; exact b4 r r' u u' e
  · rw [reA_o (by omega)]; exact b5 k hk
  · unfold reA; rw [if_pos rfl, if_neg n0]
  · refine ⟨fun k h1 h2 => ?_, fun z => ?_, fun z => ?_⟩
    · rw [reA_o (by omega), reA_o (by omega), reA_o (by omega)]; exact hN.1 k h1 h2
    · rw [reA_o (by decide), reA_o (by decide)]; exact hN.2.1 z
    · rw [reA_o (by decide), reA_o (by decide)]; exact hN.2.2 z
  · rw [e18] at z
    have n0 : nn = 0 := Classical.byContradiction fun c => by
      have := congrArg tN z
      rw [tN_nI (by omega)] at this
      exact c this
    unfold reA; rw [if_pos rfl, if_pos n0, if_neg (by decide)]
  · exact reO_s hr
  · by_cases c : r = 9
    · subst c
      by_cases n0 : nn = 0
      · exact Or.inl ⟨0, by decide, by unfold reA; rw [if_pos rfl, if_pos n0]⟩
      · rcases b8 n0 with ⟨r', h3, e⟩ | e
        · exact Or.inl ⟨r', h3, by unfold reA; rw [if_pos rfl, if_neg n0]; exact e⟩
        · exact Or.inr (by unfold reA; rw [if_pos rfl, if_neg n0]; exact e)
    · exact Or.inl ⟨r, hr, reA_o c⟩
end CW

