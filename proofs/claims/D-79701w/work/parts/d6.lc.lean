set_option maxRecDepth 100000
/-! LC: facts for the law -/
theorem vz_X4 : ∀ j, j < 13 → defaultValue (tyX4 j) = vp_V mdZ j := by
  intro j hj
  rcases (show j = 0 ∨ j = 1 ∨ j = 2 ∨ j = 3 ∨ j = 4 ∨ j = 5 ∨ j = 6 ∨ j = 7 ∨ j = 8 ∨ j = 9 ∨ j = 10 ∨ j = 11 ∨ j = 12 by omega) with rfl | rfl | rfl | rfl | rfl | rfl | rfl | rfl | rfl | rfl | rfl | rfl | rfl <;> rfl
theorem rg_tN {x : Int32} {n : Nat} (h : rg x n) (hn : n < 2 ^ 31) : x = nI (tN x) ∧ tN x ≤ n := by
  obtain ⟨j, hj, rfl⟩ := h
  rw [tN_nI (by omega)]
  exact ⟨rfl, hj⟩
theorem law_le {L n : Nat} (c : ¬ (nI L - (4 : Int32)) < nI n) (hL : L ≤ 256) (hn : n ≤ 260) : n + 4 ≤ L := by
  by_cases h4 : 4 ≤ L
  · rw [show (4 : Int32) = nI 4 from rfl, nI_sub (by omega), Int32.not_lt, nI_leq (by omega) (by omega)] at c
    omega
  · exfalso
    apply c
    rw [Int32.lt_iff_toInt_lt, nI_toInt (show n < 2 ^ 31 by omega)]
    have h0 : L = 0 ∨ L = 1 ∨ L = 2 ∨ L = 3 := by omega
    rcases h0 with rfl | rfl | rfl | rfl
    · rw [show (nI 0 - (4 : Int32)).toInt = -4 by decide]; omega
    · rw [show (nI 1 - (4 : Int32)).toInt = -3 by decide]; omega
    · rw [show (nI 2 - (4 : Int32)).toInt = -2 by decide]; omega
    · rw [show (nI 3 - (4 : Int32)).toInt = -1 by decide]; omega
section LCX
variable {G : mg} {fo : Nat} {M M0 M1 M3 M4 M5 : mh} {v v0 v2 : Nat → Nat → Int32} {pp : Nat → Nat} {own : Nat → Option Nat} {adt : Nat → Nat} {Z : Nat → Prop}
theorem CWP.facts (h : CWP G fo Z M v) : ∃ T np nz ng, T ≤ 20000 ∧ IP T np nz ng (v 1) ∧ rg (v 0 2) 4 ∧ rg (v 0 6) 60 := by
  obtain ⟨own, ad, np, ng, f, hn, ads, nps, ngs, fs, tl, tb, s, hX, hV, hZ⟩ := h
  obtain ⟨T, nz, hT, hS⟩ := hX.2.1.2.2.2.2
  refine ⟨T, np, nz, ng, hT, ?_, ⟨hn, hV.1.1, hV.2.2.1⟩, ⟨tl, hV.1.2, hV.2.2.2.2.1⟩⟩
  have h9 : IP T np nz ng (Vf v s (z7 f) 1) := IP_Vf (SI_0 hS).ip
  rwa [← hV.2.1] at h9
theorem CWP.cell (h : CWP G fo Z M v) : ∃ fs, M fo = some (.inr (0, fs)) := by
  obtain ⟨own, ad, np, ng, f, hn, ads, nps, ngs, fs, tl, tb, s, hX, hV, hZ⟩ := h
  obtain ⟨⟨dq, tx, da, va, h, t, cap, gq, gb, ml, hfo, -⟩, -⟩ := hX
  exact ⟨_, hfo⟩
theorem Mdl.keep (hD : Mdl G pp M0 M1 v) (hZ : ∀ q, (∃ i, i < 5 ∧ q = pp i) → M q = M1 q) : Mdl G pp M M v :=
  ⟨hD.1, (hZ _ ⟨0, by decide, rfl⟩).trans hD.2.1, fun r h1 h5 => by
    obtain ⟨g, g1, g2⟩ := hD.2.2.1 r h1 h5
    exact ⟨g, (hZ _ ⟨r, h5, rfl⟩).trans g1, g2⟩, fun _ _ => rfl⟩
theorem Mdl.self (hD : Mdl G pp M0 M v) : Mdl G pp M M v := ⟨hD.1, hD.2.1, hD.2.2.1, fun _ _ => rfl⟩
theorem Mdl.no (hD : Mdl G pp M0 M v) {i : Nat} (hi : i < 5) {c : Nat} {fs : List Value} (hc : c ≠ 3) : M (pp i) ≠ some (.inr (c, fs)) := fun z => by
  by_cases h0 : i = 0
  · rw [h0, hD.2.1] at z
    cases z
    exact hc rfl
  · obtain ⟨g, g1, -⟩ := hD.2.2.1 i (by omega) hi
    rw [g1] at z
    cases z
theorem Mdl.ne (hD : Mdl G pp M0 M v) {i : Nat} (hi : i < 5) : M (pp i) ≠ none := fun z => by
  by_cases h0 : i = 0
  · rw [h0, hD.2.1] at z
    cases z
  · obtain ⟨g, g1, -⟩ := hD.2.2.1 i (by omega) hi
    rw [g1] at z
    cases z
theorem CWP.keepZ (h : CWP G fo (fun q => ∃ i, i < 5 ∧ q = pp i) M1 v) (hD0 : Mdl G pp M1 M1 v0) (hD : Mdl G pp M1 M v2) : CWP G fo (fun q => ∃ i, i < 5 ∧ q = pp i) M v := by
  obtain ⟨own, ad, np, ng, f, hn, ads, nps, ngs, fs, tl, tb, s, hX, hV, hZ⟩ := h
  have hk : ∀ q, ¬ (∃ i, i < 5 ∧ q = pp i) → M q = M1 q := fun q hq => hD.2.2.2 q (fun i hi e => hq ⟨i, hi, e⟩)
  have ko : ∀ q, own q ≠ none → M q = M1 q := fun q hq => hk q (fun z => hq (hZ q z).2)
  have img : ∀ {a3 : Nat → Nat} {n3 g3 : Nat} {f3 : Nat → Int32}, ImG G own M1 a3 n3 g3 f3 → ImG G own M a3 n3 g3 f3 := fun {a3 n3 g3 f3} hi =>
    hi.keep (W := fun q => ∃ i, i < 5 ∧ q = pp i) (fun q _ hq => hk q hq) (fun r hr z => by
      have h1 := (hZ _ z).2
      rw [hi.2.2.2.1 r hr] at h1
      cases h1) (fun q fs z => by
      obtain ⟨i, hi5, rfl⟩ := z
      exact hD0.no hi5 (by decide)) (fun q fs z => by
      obtain ⟨i, hi5, rfl⟩ := z
      exact hD0.no hi5 (by decide)) (fun _ _ => rfl)
  obtain ⟨⟨dq, tx, da, va, h, t, cap, gq, gb, ml, hfo, hdq, hda, hb, hgq, htx, w1, w2, w3, w4, w5⟩, hA, hH, hd⟩ := hX
  have so : ∀ {q : Nat}, own q = some fo → M q = M1 q := fun {q} hq => ko q (by rw [hq]; exact fun z => by cases z)
  refine ⟨own, ad, np, ng, f, hn, ads, nps, ngs, fs, tl, tb, s, ⟨⟨dq, tx, da, va, h, t, cap, gq, gb, ml, (so w1).trans hfo, (so w2).trans hdq, (so w3).trans hda, hb, hgq, ⟨(so w4).trans htx.1, (so w5).trans htx.2.1, htx.2.2⟩, w1, w2, w3, w4, w5⟩, img hA, fun i hi => img (hH i hi), hd⟩, hV, fun q hq => ⟨?_, (hZ q hq).2⟩⟩
  obtain ⟨i, hi, rfl⟩ := hq
  exact hD.ne hi
theorem cwp_first (hX : CWX G fo own M3 adt 0 0 (f00 sdF) 0 (fun _ => adt) (fun _ => 0) (fun _ => 0) (fun _ => f00 sdF) 0 (fun _ => 0)) (z0 : M3 (pp 0) = none) (k4 : ∀ q, q ≠ pp 0 → M4 q = M3 q) (hD : Mdl G pp M5 M5 (mf_init (fun _ _ => 0))) (hk5 : ∀ q, M4 q ≠ none → q ≠ pp 0 → M5 q = M4 q) (hn5 : ∀ i, 1 ≤ i → i < 5 → M4 (pp i) = none) : CWP G fo (fun q => ∃ i, i < 5 ∧ q = pp i) M5 (mf_init (fun _ _ => 0)) := by
  have hE : ∀ q, M3 q ≠ none → M5 q = M3 q := fun q hq => by
    have hne : q ≠ pp 0 := fun z => hq (by rw [z]; exact z0)
    exact (hk5 q (by rw [k4 q hne]; exact hq) hne).trans (k4 q hne)
  have z3 : ∀ i, i < 5 → M3 (pp i) = none := fun i hi => by
    by_cases h0 : i = 0
    · rw [h0]; exact z0
    · by_cases h1 : pp i = pp 0
      · rw [h1]; exact z0
      · rw [← k4 _ h1]; exact hn5 i (by omega) hi
  have hX2 : CWX G fo (fun q => @ite _ (M3 q = none) (Classical.propDecidable _) none (own q)) M3 adt 0 0 (f00 sdF) 0 (fun _ => adt) (fun _ => 0) (fun _ => 0) (fun _ => f00 sdF) 0 (fun _ => 0) :=
    hX.re fun q e he _ _ => if_neg (by rw [he]; exact fun z => by cases z)
  refine ⟨_, adt, 0, 0, f00 sdF, 0, fun _ => adt, fun _ => 0, fun _ => 0, fun _ => f00 sdF, 0, fun _ => 0, _, hX2.ext hE, init_rel, fun q hq => ?_⟩
  obtain ⟨i, hi, rfl⟩ := hq
  exact ⟨hD.ne hi, if_pos (z3 i hi)⟩
end LCX

