set_option maxRecDepth 100000
/-! UW: undo, the whole -/
section UW
variable {G : mg} {own : Nat → Option Nat} {M1 M2 : mh} {ad : Nat → Nat} {np ng hn tl fo dq tx da va h t t2 cap a0 m : Nat} {gq gq2 : Nat → Option Nat} {f : Nat → Int32} {ads : Nat → Nat → Nat} {nps ngs : Nat → Nat} {fs : Nat → Nat → Int32} {tb gb : Nat → Int32} {ml : Int32}
theorem CWX.undo (hX : CWX G fo own M1 ad np ng f (m + 1) ads nps ngs fs tl tb) (hfo : M1 fo = some (.inr (0, [.ref a0, .ref dq, .ref tx]))) (hdq : M1 dq = some (.inr (11, [.ref da, .int (nI h), .int (nI t)]))) (hda : M1 da = some (mRc (G.1.1 103) 17 gq)) (hk : ∀ q, q ≠ fo → q ≠ dq → q ≠ da → M2 q = M1 q)
    (h2 : M2 fo = some (.inr (0, [.ref (ads m 0), .ref dq, .ref tx])) ∧ M2 dq = some (.inr (11, [.ref da, .int (nI h), .int (nI t2)])) ∧ M2 da = some (mRc (G.1.1 103) 17 gq2)) (hb : h < 17 ∧ t2 < 17 ∧ (t2 + 17 - h) % 17 = m) (hg : ∀ i, i < m → gq2 ((h + i) % 17) = some (ads i 0)) : CWX G fo own M2 (ads m) (nps m) (ngs m) (fs m) m ads nps ngs fs tl tb ∧ Fr M1 own M2 own := by
  obtain ⟨⟨dq', tx', da', va, h', t', cap, gq', gb, ml, xfo, xdq, xda, -, -, xtx, w1, w2, w3, w4, w5⟩, hA, hH, hd, hp⟩ := hX
  rw [hfo] at xfo
  cases xfo
  rw [hdq] at xdq
  have eda : da = da' := by
    have h9 := xdq
    simp at h9
    exact h9.1
  subst eda
  have fda : ∀ {c : Nat} {fs : List Value}, M1 da ≠ some (.inr (c, fs)) := fun {c fs} z => by
    rw [hda] at z
    exact mR_no (Option.some.inj z)
  have img : ∀ {a3 : Nat → Nat} {n3 g3 : Nat} {f3 : Nat → Int32}, ImG G own M1 a3 n3 g3 f3 → ImG G own M2 a3 n3 g3 f3 := fun {a3 n3 g3 f3} hi => by
    have hw := hi.2.2.2.1
    have nf := hi.nfo hfo
    have z0 : ∀ r, r < 32 → a3 r ≠ fo ∧ a3 r ≠ dq ∧ a3 r ≠ da := fun r hr => ⟨fun z => nf (Option.some.inj ((hw r hr).symm.trans (by rw [z]; exact w1))), fun z => nf (Option.some.inj ((hw r hr).symm.trans (by rw [z]; exact w2))), fun z => nf (Option.some.inj ((hw r hr).symm.trans (by rw [z]; exact w3)))⟩
    refine hi.keep (W := fun q => q = fo ∨ q = dq ∨ q = da) (fun q hq hn9 => hk q (fun z => hn9 (Or.inl z)) (fun z => hn9 (Or.inr (Or.inl z))) (fun z => hn9 (Or.inr (Or.inr z)))) (fun r hr z => z.elim (z0 r hr).1 (fun z => z.elim (z0 r hr).2.1 (z0 r hr).2.2)) (fun q fs9 z => ?_) (fun q fs9 z => ?_) (fun _ _ => rfl)
    · rcases z with z | z | z
      · rw [z, hfo]; exact fun y => by cases y
      · rw [z, hdq]; exact fun y => by cases y
      · rw [z]; exact fda
    · rcases z with z | z | z
      · rw [z, hfo]; exact fun y => by cases y
      · rw [z, hdq]; exact fun y => by cases y
      · rw [z]; exact fda
  have tx1 : M2 tx = M1 tx := hk tx (fun z => by have := xtx.1; rw [z, hfo] at this; cases this) (fun z => by have := xtx.1; rw [z, hdq] at this; cases this) (fun z => by have := xtx.1; rw [z] at this; exact fda this)
  have va1 : M2 va = M1 va := hk va (fun z => by have := xtx.2.1; rw [z, hfo] at this; unfold mIc at this; cases this) (fun z => by have := xtx.2.1; rw [z, hdq] at this; unfold mIc at this; cases this) (fun z => by have := xtx.2.1; rw [z, hda] at this; simp [mRc, mIc] at this)
  refine ⟨⟨⟨dq, tx, da, va, h, t2, cap, gq2, gb, ml, h2.1, h2.2.1, h2.2.2, hb, hg, ⟨tx1.trans xtx.1, va1.trans xtx.2.1, xtx.2.2⟩, w1, w2, w3, w4, w5⟩, img (hH m (by omega)), fun i hi => img (hH i (by omega)), fun i hi => ⟨fun z => ?_, (hd i (by omega)).2⟩, fun i j hi hj => hp i j (by omega) (by omega)⟩, fun q hq ho => ⟨hk q (fun z => ?_) (fun z => ?_) (fun z => ?_), ho⟩⟩
  · have := hp i m (by omega) (by omega) z
    omega
  · rw [z, w1] at ho; cases ho
  · rw [z, w2] at ho; cases ho
  · rw [z, w3] at ho; cases ho
end UW

