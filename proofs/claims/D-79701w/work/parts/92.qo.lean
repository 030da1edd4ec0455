set_option maxRecDepth 100000
/-! QO: the night noted is the reference's -/
section QO
variable {w : Nat → Nat → Int32} {s : Int32} {f g : Nat → Int32} {nn : Nat} {u v : Nat → Nat → Int32}
/-- the reference's shift, by places -/
def shN (u : Nat → Nat → Int32) (p : Nat) : Int32 := if p = 8 then 0 else if p = 18 then u 1 18 + bI (!decide ((7 : Int32) ≤ u 1 18)) else if p = 127 then u 1 8 else if 127 < p ∧ p < 134 then u 1 (p - 1) else u 1 p
theorem night_110 : mf_night_110 v u = fun r p => if r = 1 then shN u p else u r p := by
  unfold mf_night_110
  rw [mf_night_113, if_neg (by decide), mf_night_113, if_neg (by decide), mf_night_113, if_neg (by decide), mf_night_113, if_neg (by decide), mf_night_113, if_neg (by decide), mf_night_113, if_neg (by decide), mf_night_113, if_pos rfl]
  unfold mf_night_190
  funext r p
  have key : ∀ b : Bool, b = !decide ((7 : Int32) ≤ u 1 18) → (u2 (u2 (u2 (u2 (u2 (u2 (u2 (u2 (u2 u 1 (127 + 6) (u 1 ((127 + 6) - 1))) 1 (127 + 5) (u 1 ((127 + 5) - 1))) 1 (127 + 4) (u 1 ((127 + 4) - 1))) 1 (127 + 3) (u 1 ((127 + 3) - 1))) 1 (127 + 2) (u 1 ((127 + 2) - 1))) 1 (127 + 1) (u 1 ((127 + 1) - 1))) 1 127 (u 1 8)) 1 8 (0 : Int32)) 1 18 (u 1 18 + bI b)) r p = if r = 1 then shN u p else u r p := fun b hb => by
    by_cases hr : r = 1
    · subst hr
      rw [if_pos rfl]
      unfold shN
      by_cases c1 : p = 8
      · subst c1; simp [u2]
      by_cases c2 : p = 18
      · subst c2; simp [u2, hb]
      by_cases c3 : p = 127
      · subst c3; simp [u2]
      by_cases c4 : 127 < p ∧ p < 134
      · obtain rfl | rfl | rfl | rfl | rfl | rfl : p = 128 ∨ p = 129 ∨ p = 130 ∨ p = 131 ∨ p = 132 ∨ p = 133 := by omega
        all_goals simp [u2]
      · rw [if_neg c1, if_neg c2, if_neg c3, if_neg c4]
        have d : p ≠ 128 ∧ p ≠ 129 ∧ p ≠ 130 ∧ p ≠ 131 ∧ p ≠ 132 ∧ p ≠ 133 := by omega
        simp [u2, c1, c2, c3, d.1, d.2.1, d.2.2.1, d.2.2.2.1, d.2.2.2.2.1, d.2.2.2.2.2]
    · rw [if_neg hr]
      simp [u2, hr]
  split
  · next h =>
    refine Eq.trans ?_ (key false (by rw [decide_eq_true (show (7 : Int32) ≤ u 1 18 by simpa [u2] using h)]; rfl))
    simp [u2]
  · next h =>
    refine Eq.trans ?_ (key true (by rw [decide_eq_false (show ¬ (7 : Int32) ≤ u 1 18 by simpa [u2] using h)]; rfl))
    simp [u2]
/-- the value g at places, after the night -/
theorem nightT_o {p : Nat} (h : p < 200) (h1 : p ≠ 18) (h2 : p ≠ 174) (h8 : p ≠ 8) : nightT f nn p = f p := by
  unfold nightT
  rw [pk_un h8]
  by_cases c : 7 < nn + 1
  · rw [if_pos c, nRem_o h h1 h2, nAdd_o h h1 h2]
  · rw [if_neg c, nAdd_o h h1 h2]
theorem nightT_18 : nightT f nn 18 = if 7 < nn + 1 then nI (8 - 1) else nI (nn + 1) := by
  unfold nightT
  rw [pk_un (by decide)]
  by_cases c : 7 < nn + 1
  · rw [if_pos c, if_pos c]
    rfl
  · rw [if_neg c, if_neg c, nAdd_18]
theorem nightT_8 : nightT f nn 8 = 0 := by
  unfold nightT
  exact pk_ue
theorem nightT_k {k : Nat} : nightT f nn (200 + k) = if 7 < nn + 1 then (if k + 1 = nn then f 8 else f (200 + (k + 1))) else (if k = nn then f 8 else f (200 + k)) := by
  unfold nightT
  rw [pk_un (by omega)]
  by_cases c : 7 < nn + 1
  · rw [if_pos c, if_pos c, nRem_k, show 200 + k + 1 = 200 + (k + 1) by omega, nAdd_k]
  · rw [if_neg c, if_neg c, nAdd_k]
theorem E_nightT (h18 : f 18 = nI nn) (hn7 : nn ≤ 7) : Vf w s (nightT f nn) = mf_night_110 v (Vf w s f) := by
  rw [night_110]
  have hnf : nC f 18 = nn := by
    unfold nC
    rw [h18]
    exact nI_clamp (by omega)
  have hng : nC (nightT f nn) 18 = if 7 < nn + 1 then 7 else nn + 1 := by
    unfold nC
    rw [nightT_18]
    by_cases c : 7 < nn + 1
    · rw [if_pos c, if_pos c]
      exact nI_clamp (by omega)
    · rw [if_neg c, if_neg c]
      exact nI_clamp (by omega)
  funext r p
  by_cases hr : r = 1
  · subst hr
    show _ = shN (Vf w s f) p
    unfold shN
    by_cases c1 : p = 8
    · subst c1
      rw [if_pos rfl, Vf_at (by decide), nightT_8]
    by_cases c2 : p = 18
    · subst c2
      rw [if_neg c1, if_pos rfl, Vf_at (by decide), Vf_at (by decide), nightT_18, h18]
      by_cases c : 7 < nn + 1
      · rw [if_pos c, decide_eq_true (show (7 : Int32) ≤ nI nn from (nI_leq (a := 7) (by omega) (by omega)).mpr (by omega)), show nn = 7 by omega]
        rfl
      · rw [if_neg c, decide_eq_false (show ¬ (7 : Int32) ≤ nI nn from fun z => by have := (nI_leq (a := 7) (by omega) (by omega)).mp z; omega)]
        exact (nI_add nn 1).symm
    rw [if_neg c1, if_neg c2]
    have fR : ∀ {k : Nat}, k < 7 → Vf w s f 1 (127 + k) = if k < nn then f (200 + (nn - 1 - k)) else 0 := fun {k} hk => by
      rw [Vf_R (by omega)]
      unfold Rf
      rw [if_neg (by omega), if_pos (by omega), hnf, show 127 + k - 127 = k by omega]
    have gR : ∀ {k : Nat}, k < 7 → Vf w s (nightT f nn) 1 (127 + k) = if k < (if 7 < nn + 1 then 7 else nn + 1) then nightT f nn (200 + ((if 7 < nn + 1 then 7 else nn + 1) - 1 - k)) else 0 := fun {k} hk => by
      rw [Vf_R (by omega)]
      unfold Rf
      rw [if_neg (by omega), if_pos (by omega), hng, show 127 + k - 127 = k by omega]
    by_cases c3 : p = 127
    · subst c3
      rw [if_pos rfl, Vf_at (p := 8) (by decide)]
      refine (gR (k := 0) (by decide)).trans ?_
      rw [nightT_k]
      by_cases c : 7 < nn + 1
      · rw [if_pos c, if_pos c, if_pos (by decide), if_pos (by omega)]
      · rw [if_neg c, if_neg c, if_pos (by omega), if_pos (by omega)]
    by_cases c4 : 127 < p ∧ p < 134
    · obtain ⟨k, rfl⟩ : ∃ k, p = 127 + (k + 1) := ⟨p - 128, by omega⟩
      rw [if_neg c3, if_pos c4, show 127 + (k + 1) - 1 = 127 + k by omega, gR (by omega), fR (by omega), nightT_k]
      by_cases c : 7 < nn + 1
      · rw [if_pos c, if_pos c, if_pos (show k + 1 < 7 by omega), if_neg (show ¬ 7 - 1 - (k + 1) + 1 = nn by omega), if_pos (show k < nn by omega), show 7 - 1 - (k + 1) + 1 = nn - 1 - k by omega]
      · rw [if_neg c, if_neg c]
        by_cases d : k < nn
        · rw [if_pos (show k + 1 < nn + 1 by omega), if_pos d, if_neg (show ¬ nn + 1 - 1 - (k + 1) = nn by omega), show nn + 1 - 1 - (k + 1) = nn - 1 - k by omega]
        · rw [if_neg (show ¬ k + 1 < nn + 1 by omega), if_neg d]
    · rw [if_neg c3, if_neg c4]
      by_cases c5 : p < 127
      · rw [Vf_at c5, Vf_at c5, nightT_o (by omega) c2 (by omega) c1]
      · by_cases c6 : p < 170
        · have e19 : nC (nightT f nn) 19 = nC f 19 := by
            unfold nC
            rw [nightT_o (by decide) (by decide) (by decide) (by decide)]
          rw [Vf_R c6, Vf_R c6]
          unfold Rf
          rw [if_neg c5, if_neg c5, if_neg (show ¬ p < 134 by omega), if_neg (show ¬ p < 134 by omega), if_pos c6, if_pos c6, e19, nightT_o (by omega) c2 (by omega) c1]
        · by_cases c7 : p = 170
          · subst c7
            rw [Vf_170, Vf_170, nightT_o (by decide) (by decide) (by decide) (by decide)]
          · rw [Vf_hi (by omega), Vf_hi (by omega)]
  · show Vf w s (nightT f nn) r p = if r = 1 then _ else _
    rw [if_neg hr, Vf_r hr, Vf_r hr]
end QO

