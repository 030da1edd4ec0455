set_option maxRecDepth 100000
/-! UN: undo -/
section UN
variable {hn tl : Nat} {f : Nat → Int32} {fs : Nat → Nat → Int32} {tb : Nat → Int32} {v : Nat → Nat → Int32} {s : Int32}
theorem undo_at (v : Nat → Nat → Int32) {b : Nat} (h0 : tN (v 0 2 - (1 : Int32)) = b) : ∀ (n k : Nat) (w : Nat → Nat → Int32), k ≤ 170 → 170 < k + n → ∃ w2, mf_undo_22 v n k w = (w 0 2, w2) ∧ (∀ r, r ≠ 1 → w2 r = w r) ∧ ∀ j, w2 1 j = if k ≤ j ∧ j < 170 then w 2 (170 * b + j) else w 1 j := by
  intro n
  induction n with
  | zero => intro k w h1 h2; omega
  | succ n ih =>
    intro k w h1 h2
    rw [mf_undo_22]
    by_cases c : 170 ≤ k
    · rw [if_pos c]
      exact ⟨w, rfl, fun _ _ => rfl, fun j => by rw [if_neg (by omega)]⟩
    · rw [if_neg c, h0]
      obtain ⟨w2, e, h3, h4⟩ := ih (k + 1) (u2 w 1 k (w 2 (170 * b + k))) (by omega) (by omega)
      refine ⟨w2, by rw [e, u2_r (by decide)], fun r hr => (h3 r hr).trans (u2_r hr), fun j => ?_⟩
      rw [h4, u2_r (by decide)]
      by_cases q : j = k
      · subst q
        rw [if_neg (by omega), if_pos ⟨Nat.le_refl _, by omega⟩, u2_s]
      · rw [u2_k q]
        by_cases d : k + 1 ≤ j ∧ j < 170
        · rw [if_pos d, if_pos ⟨by omega, d.2⟩]
        · rw [if_neg d, if_neg (by omega)]
theorem undo_0 (h : RelV v s f hn fs tl tb) (h0 : hn = 0) : mf_undo v = (-1000002, v) := by
  rw [mf_undo, h.2.2.1, h0, if_pos (by decide)]
theorem undo_1 (h : RelV v s f hn fs tl tb) (h0 : ¬ hn = 0) (hz : fs (hn - 1) 177 = 0) : ∃ v2 s2, mf_undo v = (nI (hn - 1), v2) ∧ RelV v2 s2 (fs (hn - 1)) (hn - 1) fs tl tb := by
  obtain ⟨⟨h1, h2⟩, e, e2, e3, e6, e4⟩ := h
  have hne : ¬ v 0 2 = 0 := fun z => h0 (by have := congrArg tN (e2.symm.trans z); rw [tN_nI (by omega)] at this; exact this)
  have em : v 0 2 - 1 = nI (hn - 1) := by rw [e2, show (1 : Int32) = nI 1 from rfl, nI_sub (by omega)]
  obtain ⟨w2, a1, a2, a3⟩ := undo_at v (b := hn - 1) (by rw [em, tN_nI (by omega)]) 180 0 (u2 v 0 2 (nI (hn - 1))) (by decide) (by decide)
  rw [u2_s] at a1
  refine ⟨w2, v 1 170, by rw [mf_undo, if_neg hne, em, a1], ⟨by omega, h2⟩, Vf_row fun k hk => ?_, by rw [a2 0 (by decide), u2_s], fun i p hi hp => by rw [a2 2 (by decide), u2_r (by decide)]; exact e3 i p (by omega) hp, by rw [a2 0 (by decide), u2_k (by decide)]; exact e6, fun i hi => by rw [a2 4 (by decide), u2_r (by decide)]; exact e4 i hi⟩
  rw [a3, u2_r (by decide), u2_r (by decide)]
  unfold Vf
  rw [if_pos rfl]
  by_cases c : k < 170
  · rw [if_pos ⟨Nat.zero_le _, c⟩, if_pos c, Rf_z7 c]
    exact e3 (hn - 1) k (by omega) c
  · rw [if_neg (by omega), if_neg c, if_pos (by omega), show z7 (fs (hn - 1)) 177 = 0 from pk_us, show k = 170 by omega]
    exact Int32.or_zero.symm
end UN

