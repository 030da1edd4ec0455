set_option maxRecDepth 100000
/-! QN: the middle of the nights is the reference's -/
theorem nct_front (p : Nat → Bool) : ∀ n, nct p (n + 1) = (if p 0 = true then 1 else 0) + nct (fun k => p (k + 1)) n
  | 0 => by
    show 0 + (if p 0 = true then 1 else 0) = (if p 0 = true then 1 else 0) + 0
    omega
  | n + 1 => by
    have e : nct p (n + 1 + 1) = nct p (n + 1) + (if p (n + 1) = true then 1 else 0) := rfl
    have e2 : nct (fun k => p (k + 1)) (n + 1) = nct (fun k => p (k + 1)) n + (if p (n + 1) = true then 1 else 0) := rfl
    rw [e, e2, nct_front p n, Nat.add_assoc]
theorem nct_rev : ∀ (n : Nat) (p : Nat → Bool), nct (fun k => p (n - 1 - k)) n = nct p n
  | 0, _ => rfl
  | n + 1, p => by
    have e : nct p (n + 1) = nct p n + (if p n = true then 1 else 0) := rfl
    have e1 : (fun k => p (n + 1 - 1 - (k + 1))) = fun k => p (n - 1 - k) := funext fun k => by rw [show n + 1 - 1 - (k + 1) = n - 1 - k by omega]
    rw [nct_front]
    show (if p (n + 1 - 1 - 0) = true then 1 else 0) + nct (fun k => p (n + 1 - 1 - (k + 1))) n = _
    rw [e1, nct_rev n p, e, show n + 1 - 1 - 0 = n by omega, Nat.add_comm]
theorem nct_mono {p q : Nat → Bool} : ∀ {n}, (∀ j, j < n → p j = true → q j = true) → nct p n ≤ nct q n
  | 0, _ => Nat.le_refl _
  | n + 1, h => by
    have h1 := nct_mono (n := n) (fun j hj => h j (by omega))
    have h2 := h n (by omega)
    show nct p n + (if p n = true then 1 else 0) ≤ nct q n + (if q n = true then 1 else 0)
    by_cases c : p n = true
    · rw [if_pos c, if_pos (h2 c)]
      omega
    · rw [if_neg c]
      omega
theorem nct_some {p : Nat → Bool} : ∀ {n}, 0 < nct p n → ∃ j, j < n ∧ p j = true
  | 0, h => absurd h (Nat.lt_irrefl _)
  | n + 1, h => by
    by_cases c : p n = true
    · exact ⟨n, by omega, c⟩
    · have h2 : 0 < nct p n + (if p n = true then 1 else 0) := h
      rw [if_neg c] at h2
      obtain ⟨j, j1, j2⟩ := nct_some (n := n) h2
      exact ⟨j, by omega, j2⟩
section QN
variable {q : Nat → Int32} {nn : Nat}
theorem MidOk.half {x y : Int32} (h1 : MidOk q nn x) (h2 : MidOk q nn y) : ¬ x < y := fun hlt => by
  have ha : nct (fun k => decide (q k < x) || decide (q k = x)) nn = nct (fun k => decide (q k < x)) nn + nct (fun k => decide (q k = x)) nn :=
    nct_add (fun j _ => ⟨by simp, fun z => by
      have z1 := of_decide_eq_true z.1
      rw [of_decide_eq_true z.2] at z1
      exact Int32.lt_irrefl z1⟩)
  have hm : nct (fun k => decide (q k < x) || decide (q k = x)) nn ≤ nct (fun k => decide (q k < y)) nn := nct_mono (fun j _ z => by
    rcases Bool.or_eq_true _ _ ▸ z with z | z
    · exact decide_eq_true (Int32.lt_trans (of_decide_eq_true z) hlt)
    · rw [of_decide_eq_true z]
      exact decide_eq_true hlt)
  have a := h1.2
  have b := h2.1
  unfold cntN at a
  omega
theorem MidOk.uniq {x y : Int32} (h1 : MidOk q nn x) (h2 : MidOk q nn y) : x = y :=
  Int32.le_antisymm (Int32.not_lt.mp (h2.half h1)) (Int32.not_lt.mp (h1.half h2))
theorem MidOk.some {x : Int32} (h : MidOk q nn x) : ∃ k, k < nn ∧ q k = x := by
  have h0 : 0 < cntN q nn x := by have := h.1; have := h.2; omega
  obtain ⟨j, j1, j2⟩ := nct_some h0
  exact ⟨j, j1, of_decide_eq_true j2⟩
variable {v : Nat → Nat → Int32}
theorem nI_cnt {p : Nat → Bool} {j : Nat} : nI (nct p j) + bI (p j) = nI (nct p (j + 1)) := by
  have e : nct p (j + 1) = nct p j + (if p j = true then 1 else 0) := rfl
  rw [e]
  cases p j with
  | false => exact nI_add _ 0
  | true => exact nI_add _ 1
abbrev midC (q : Nat → Int32) (nn : Nat) (r : Int32) : Prop := nct (fun k => decide (q k < r)) nn ≤ (nn - 1) / 2 ∧ (nn - 1) / 2 < nct (fun k => decide (q k < r)) nn + nct (fun k => decide (q k = r)) nn
theorem midr_23 (hq : ∀ k, q k = v 1 (127 + k)) (hn : nC (v 1) 18 = nn) (hn7 : nn ≤ 7) (hn1 : 1 ≤ nn) (rc : Nat → Int32) (n2 : Nat) : ∀ (n j : Nat), j ≤ nn → nn < n + j →
    mf_middleNight_23 v rc n2 n (nI (nct (fun k => decide (q k < q n2)) j)) (nI (nct (fun k => decide (q k = q n2)) j)) j = if midC q nn (q n2) then q n2 else rc (n2 + 1)
  | 0, j, h1, h2 => by omega
  | n + 1, j, h1, h2 => by
    have eh : (nI nn - (1 : Int32)) / (2 : Int32) = nI ((nn - 1) / 2) := by
      rw [show nI nn - (1 : Int32) = nI (nn - 1) from nI_sub (b := 1) hn1]
      exact pk_div (d := 2) (by omega) (by decide) (by decide)
    rw [mf_middleNight_23, hn, eh]
    have l1 := nct_le (fun k => decide (q k < q n2)) j
    have l2 := nct_le (fun k => decide (q k = q n2)) j
    by_cases c : nn ≤ j
    · have ej : j = nn := by omega
      subst ej
      rw [if_pos (Nat.le_refl _), show nI (nct (fun k => decide (q k < q n2)) j) + nI (nct (fun k => decide (q k = q n2)) j) = nI (nct (fun k => decide (q k < q n2)) j + nct (fun k => decide (q k = q n2)) j) from nI_add _ _]
      unfold mf_middleNight_128
      by_cases d : (j - 1) / 2 < nct (fun k => decide (q k < q n2)) j
      · rw [if_pos (show nI ((j - 1) / 2) < nI (nct (fun k => decide (q k < q n2)) j) from Int32.not_le.mp (fun z => absurd ((nI_leq (by omega) (by omega)).mp z) (by omega))), if_neg (show ¬ midC q j (q n2) from fun z => by have := z.1; omega)]
      · rw [if_neg (show ¬ nI ((j - 1) / 2) < nI (nct (fun k => decide (q k < q n2)) j) from Int32.not_lt.mpr ((nI_leq (by omega) (by omega)).mpr (by omega)))]
        by_cases d2 : nct (fun k => decide (q k < q n2)) j + nct (fun k => decide (q k = q n2)) j ≤ (j - 1) / 2
        · rw [if_pos ((nI_leq (by omega) (by omega)).mpr d2), if_neg (show ¬ midC q j (q n2) from fun z => by have := z.2; omega)]
        · rw [if_neg (fun z => d2 ((nI_leq (by omega) (by omega)).mp z)), if_pos (show midC q j (q n2) from ⟨by omega, by omega⟩), hq]
    · rw [if_neg c]
      have ih := midr_23 hq hn hn7 hn1 rc n2 n (j + 1) (by omega) (by omega)
      rw [← nI_cnt, ← nI_cnt] at ih
      unfold mf_middleNight_57 mf_middleNight_88
      rw [← hq, ← hq]
      rw [← ih]
      by_cases d : q n2 ≤ q j
      · rw [if_pos d, show decide (q j < q n2) = false from decide_eq_false (Int32.not_lt.mpr d)]
        by_cases d2 : q j = q n2
        · rw [if_pos d2, show decide (q j = q n2) = true from decide_eq_true d2]
        · rw [if_neg d2, show decide (q j = q n2) = false from decide_eq_false d2]
      · rw [if_neg d, show decide (q j < q n2) = true from decide_eq_true (Int32.not_le.mp d)]
        by_cases d2 : q j = q n2
        · rw [if_pos d2, show decide (q j = q n2) = true from decide_eq_true d2]
        · rw [if_neg d2, show decide (q j = q n2) = false from decide_eq_false d2]
theorem midr_10 (hq : ∀ k, q k = v 1 (127 + k)) (hn : nC (v 1) 18 = nn) (hn7 : nn ≤ 7) (hn1 : 1 ≤ nn) {r : Int32} (hr : MidOk q nn r) : ∀ (n n2 : Nat), (∃ k, n2 ≤ k ∧ k < nn ∧ q k = r) → nn < n + n2 → mf_middleNight_10 v n n2 = r
  | 0, n2, ⟨k, k1, k2, _⟩, h => by omega
  | n + 1, n2, ⟨k, k1, k2, k3⟩, h => by
    rw [mf_middleNight_10, hn, if_neg (by omega)]
    rw [show mf_middleNight_23 v (mf_middleNight_10 v n) n2 8 (0 : Int32) (0 : Int32) 0 = _ from midr_23 hq hn hn7 hn1 (mf_middleNight_10 v n) n2 8 0 (by omega) (by omega)]
    by_cases c : midC q nn (q n2)
    · rw [if_pos c]
      exact MidOk.uniq (show MidOk q nn (q n2) from c) hr
    · rw [if_neg c]
      refine midr_10 hq hn hn7 hn1 hr n (n2 + 1) ⟨k, ?_, k2, k3⟩ (by omega)
      rcases Nat.lt_or_ge n2 k with z | z
      · exact z
      · exfalso
        have e : n2 = k := by omega
        rw [e, k3] at c
        exact c hr
theorem E_mid {w : Nat → Nat → Int32} {s : Int32} {f : Nat → Int32} {r : Int32} (h18 : f 18 = nI nn) (hn7 : nn ≤ 7) (hn1 : 1 ≤ nn) (hr : MidOk (fun k => f (200 + k)) nn r) : mf_middleNight (Vf w s f) = r := by
  have hn : nC (Vf w s f 1) 18 = nn := by
    unfold nC
    rw [Vf_at (by decide), h18]
    exact nI_clamp (by omega)
  have hnf : nC f 18 = nn := by
    unfold nC
    rw [h18]
    exact nI_clamp (by omega)
  have hv : ∀ k, k < nn → Vf w s f 1 (127 + k) = f (200 + (nn - 1 - k)) := fun k hk => by
    rw [Vf_R (by omega)]
    unfold Rf
    rw [if_neg (by omega), if_pos (by omega), hnf, show 127 + k - 127 = k by omega, if_pos hk]
  have hr' : MidOk (fun k => Vf w s f 1 (127 + k)) nn r := by
    have e : ∀ (P : Int32 → Bool), nct (fun k => P (Vf w s f 1 (127 + k))) nn = nct (fun k => P (f (200 + k))) nn := fun P => by
      rw [← nct_rev nn (fun k => P (f (200 + k)))]
      exact nct_cong fun j hj => by rw [hv j hj]
    unfold MidOk cntN at hr ⊢
    rw [e (fun x => decide (x < r)), e (fun x => decide (x = r))]
    exact hr
  obtain ⟨k, k1, k2⟩ := hr'.some
  exact midr_10 (q := fun k => Vf w s f 1 (127 + k)) (fun _ => rfl) hn hn7 hn1 hr' 8 0 ⟨k, Nat.zero_le _, k1, k2⟩ (by omega)
end QN

