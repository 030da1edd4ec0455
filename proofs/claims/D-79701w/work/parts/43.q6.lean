set_option maxRecDepth 100000
set_option maxRecDepth 100000
/-! Q6: the queue's order is the reference's -/
def cntF (P : Nat → Bool) (k : Nat) : Nat → Nat
  | 0 => 0
  | n + 1 => (if P k = true then 1 else 0) + cntF P (k + 1) n
theorem cntF_cong {P P' : Nat → Bool} : ∀ (n k : Nat), (∀ j, k ≤ j → j < k + n → P j = P' j) → cntF P k n = cntF P' k n := by
  intro n
  induction n with
  | zero => intro k _; rfl
  | succ n ih =>
    intro k h
    rw [cntF, cntF, h k (by omega) (by omega), ih (k + 1) (fun j h1 h2 => h j (by omega) (by omega))]
theorem cntF_le {P P' : Nat → Bool} : ∀ (n k : Nat), (∀ j, k ≤ j → j < k + n → P j = true → P' j = true) → cntF P k n ≤ cntF P' k n := by
  intro n
  induction n with
  | zero => intro k _; exact Nat.le_refl _
  | succ n ih =>
    intro k h
    rw [cntF, cntF]
    have h1 := ih (k + 1) (fun j h1 h2 => h j (by omega) (by omega))
    by_cases c : P k = true
    · rw [if_pos c, if_pos (h k (by omega) (by omega) c)]
      omega
    · rw [if_neg c]
      split <;> omega
theorem cntF_lt {P P' : Nat → Bool} {q : Nat} : ∀ (n k : Nat), (∀ j, k ≤ j → j < k + n → P j = true → P' j = true) → k ≤ q → q < k + n → P q = false → P' q = true → cntF P k n < cntF P' k n := by
  intro n
  induction n with
  | zero => intro k _ h1 h2; omega
  | succ n ih =>
    intro k h h1 h2 h3 h4
    rw [cntF, cntF]
    by_cases c : q = k
    · subst c
      rw [if_neg (by rw [h3]; exact Bool.false_ne_true), if_pos h4]
      have := cntF_le (P := P) (P' := P') n (q + 1) (fun j a b => h j (by omega) (by omega))
      omega
    · have h9 := ih (k + 1) (fun j a b => h j (by omega) (by omega)) (by omega) (by omega) h3 h4
      by_cases d : P k = true
      · rw [if_pos d, if_pos (h k (by omega) (by omega) d)]
        omega
      · rw [if_neg d]
        split <;> omega
theorem cntF_add {P : Nat → Bool} {q : Nat} (hq : P q = false) : ∀ (n k : Nat), k ≤ q → q < k + n → cntF (fun j => P j || j == q) k n = cntF P k n + 1 := by
  intro n
  induction n with
  | zero => intro k h1 h2; omega
  | succ n ih =>
    intro k h1 h2
    rw [cntF, cntF]
    by_cases c : q = k
    · subst c
      rw [cntF_cong (P := fun j => P j || j == q) (P' := P) n (q + 1) (fun j a b => by
        have : (j == q) = false := by rw [beq_eq_false_iff_ne]; omega
        simp [this])]
      simp [hq]
      omega
    · rw [ih (k + 1) (by omega) (by omega)]
      have : (k == q) = false := by rw [beq_eq_false_iff_ne]; omega
      simp only [this, Bool.or_false]
      omega
theorem cntF_0 {P : Nat → Bool} : ∀ (n k : Nat), (∀ j, k ≤ j → j < k + n → P j = false) → cntF P k n = 0 := by
  intro n
  induction n with
  | zero => intro k _; rfl
  | succ n ih =>
    intro k h
    rw [cntF, if_neg (by rw [h k (by omega) (by omega)]; exact Bool.false_ne_true), ih (k + 1) (fun j a b => h j (by omega) (by omega))]
theorem cntF_n {P : Nat → Bool} : ∀ (n k : Nat), cntF P k n ≤ n := by
  intro n
  induction n with
  | zero => intro k; exact Nat.le_refl _
  | succ n ih =>
    intro k
    rw [cntF]
    have := ih (k + 1)
    split <;> omega
section Q6
variable {w : Nat → Nat → Int32} {s : Int32} {f : Nat → Int32} {T np nz ng : Nat}
def aheadP (v : Nat → Nat → Int32) (p o : Nat) : Bool := !(o == p) && mf_isReady v o && mf_isAhead v o p
theorem ready_18_eq (v : Nat → Nat → Int32) (idx : Int32) (rc : Nat → Int32) (p : Nat) (hc : nC (v 1) 14 = np) : ∀ (n k i : Nat), k ≤ np → np < k + n →
    mf_ready_18 v idx rc p n (nI i) k = if mf_isReady v p = true ∧ nI (i + cntF (aheadP v p) k (np - k)) = idx then nI p else rc (p + 1) := by
  intro n
  induction n with
  | zero => intro k i h1 h2; omega
  | succ n ih =>
    intro k i h1 h2
    rw [mf_ready_18, hc]
    by_cases c : np ≤ k
    · have e : np - k = 0 := by omega
      rw [if_pos c, e, cntF, Nat.add_zero]
      by_cases d : mf_isReady v p = true
      · rw [if_pos d]
        by_cases d2 : nI i = idx
        · rw [if_pos d2, if_pos ⟨d, d2⟩]
        · rw [if_neg d2, if_neg (fun h => d2 h.2), mf_ready_84]
      · rw [if_neg d, if_neg (fun h => d h.1), mf_ready_84]
    · have e : np - k = (np - (k + 1)) + 1 := by omega
      have no : aheadP v p k = false → mf_ready_18 v idx rc p n (nI i) (k + 1) = if mf_isReady v p = true ∧ nI (i + cntF (aheadP v p) k (np - k)) = idx then nI p else rc (p + 1) := fun h => by
        have ec : cntF (aheadP v p) k (np - k) = cntF (aheadP v p) (k + 1) (np - (k + 1)) := by rw [e, cntF, if_neg (by rw [h]; exact Bool.false_ne_true), Nat.zero_add]
        rw [ih (k + 1) i (by omega) (by omega), ec]
      rw [if_neg c]
      by_cases d1 : k = p
      · rw [if_pos d1, mf_ready_60, mf_ready_61, show bI false = 0 from rfl, Int32.add_zero]
        exact no (by unfold aheadP; simp [d1])
      · rw [if_neg d1]
        have b1 : (k == p) = false := by rw [beq_eq_false_iff_ne]; exact d1
        by_cases d2 : mf_isReady v k = true
        · rw [if_pos d2]
          by_cases d3 : mf_isAhead v k p = true
          · rw [if_pos d3, mf_ready_61, show nI i + bI true = nI (i + 1) from nI_1 i, ih (k + 1) (i + 1) (by omega) (by omega), e, cntF, if_pos (show aheadP v p k = true by unfold aheadP; simp [b1, d2, d3])]
            rw [show i + 1 + cntF (aheadP v p) (k + 1) (np - (k + 1)) = i + (1 + cntF (aheadP v p) (k + 1) (np - (k + 1))) by omega]
          · rw [if_neg d3, mf_ready_60, mf_ready_61, show bI false = 0 from rfl, Int32.add_zero]
            exact no (by unfold aheadP; simp [d3])
        · rw [if_neg d2, mf_ready_60, mf_ready_61, show bI false = 0 from rfl, Int32.add_zero]
          exact no (by unfold aheadP; simp [d2])
theorem ready_2_some (v : Nat → Nat → Int32) (i x : Nat) (hc : nC (v 1) 14 = np) (hn : np ≤ 6) (hx : x < np) (h1 : mf_isReady v x = true) (h2 : cntF (aheadP v x) 0 np = i) (h3 : ∀ p, p < np → mf_isReady v p = true → cntF (aheadP v p) 0 np = i → p = x) :
    ∀ (n k : Nat), k ≤ x → np < k + n → mf_ready_2 v (nI i) n k = nI x := by
  intro n
  induction n with
  | zero => intro k a b; omega
  | succ n ih =>
    intro k a b
    rw [mf_ready_2, hc, if_neg (by omega), show (0 : Int32) = nI 0 from nI_0.symm, ready_18_eq v (nI i) _ k hc 7 0 0 (by omega) (by omega), Nat.sub_zero, Nat.zero_add]
    by_cases c : mf_isReady v k = true ∧ nI (cntF (aheadP v k) 0 np) = nI i
    · rw [if_pos c]
      have := cntF_n (P := aheadP v k) np 0
      have h9 := cntF_n (P := aheadP v x) np 0
      have e : cntF (aheadP v k) 0 np = i := by
        have := congrArg tN c.2
        rw [tN_nI (by omega), tN_nI (by omega)] at this
        exact this
      rw [h3 k (by omega) c.1 e]
    · rw [if_neg c]
      refine ih (k + 1) ?_ (by omega)
      by_cases e : k = x
      · subst e
        exact absurd ⟨h1, by rw [h2]⟩ c
      · omega
theorem ready_2_none (v : Nat → Nat → Int32) (idx : Int32) (hc : nC (v 1) 14 = np) (hn : np ≤ 6) (h3 : ∀ p, p < np → mf_isReady v p = true → nI (cntF (aheadP v p) 0 np) = idx → False) :
    ∀ (n k : Nat), np < k + n → mf_ready_2 v idx n k = -1 := by
  intro n
  induction n with
  | zero => intro k b; rfl
  | succ n ih =>
    intro k b
    rw [mf_ready_2, hc]
    by_cases c0 : np ≤ k
    · rw [if_pos c0]
    · rw [if_neg c0, show (0 : Int32) = nI 0 from nI_0.symm, ready_18_eq v idx _ k hc 7 0 0 (by omega) (by omega), Nat.sub_zero, Nat.zero_add, if_neg (fun c => h3 k (by omega) c.1 c.2)]
      exact ih (k + 1) (by omega)
/-- the order of the component's queue and the reference's -/
theorem ahead_iff (hn : np ≤ 6) (hp : nC f 14 = np) (hR : runOk np f) {a b : Nat} (ha : a < np) (hb : b < np) (hne : a ≠ b) : mf_isAhead (Vf w s f) a b = true ↔ ltN (fR f) a b := by
  have hRb : runOk np (fR f) := fun k hk => by unfold fR; rw [pk_un (by omega)]; exact hR k hk
  obtain ⟨ra, la⟩ := run_N hR ha
  obtain ⟨rb, lb⟩ := run_N hR hb
  have ea : nC (fR f) (39 + (8 * a) + 5) = nC f (39 + (8 * a) + 5) := congrArg tN (by unfold fR; exact pk_un (by omega))
  have eb : nC (fR f) (39 + (8 * b) + 5) = nC f (39 + (8 * b) + 5) := congrArg tN (by unfold fR; exact pk_un (by omega))
  have ka : ∀ k, k < 6 → (rkN (fR f) k = if (f (39 + (8 * k)) = 2 ↔ cf_running f = 0) then 0 else 1) := fun k hk => by
    unfold rkN
    have e1 : isJo (fR f) k = decide (f (39 + (8 * k)) = 2) := by unfold isJo fR; rw [pk_un (by omega)]
    have e2 : fR f 171 = bI (decide (cf_running f = 0)) := by unfold fR; exact pk_us
    rw [e1, e2]
    by_cases c1 : f (39 + (8 * k)) = 2
    · by_cases c2 : cf_running f = 0
      · simp [c1, c2]
      · simp [c1, c2, bI]
    · by_cases c2 : cf_running f = 0
      · simp [c1, c2, bI]
      · simp [c1, c2]
  have er : mf_running (Vf w s f) = cf_running f := (E_running (by omega)).symm
  have o0 : ∀ k, k < 6 → mf_of (Vf w s f) k 0 = f (39 + (8 * k)) := fun k hk => E_of hk (by decide)
  have o5a : mf_of (Vf w s f) a 5 = nI (nC f (39 + (8 * a) + 5)) := (E_of (by omega) (by decide)).trans ra
  have o5b : mf_of (Vf w s f) b 5 = nI (nC f (39 + (8 * b) + 5)) := (E_of (by omega) (by decide)).trans rb
  unfold ltN kN
  rw [ea, eb, ka a (by omega), ka b (by omega)]
  generalize nC f (39 + (8 * a) + 5) = ya at *
  generalize nC f (39 + (8 * b) + 5) = yb at *
  have lt1 : nI ya < nI yb ↔ ya < yb := nI_ltI (by omega) (by omega)
  have eq1 : nI ya = nI yb ↔ ya = yb := ⟨fun h => by have := congrArg tN h; rw [tN_nI (by omega), tN_nI (by omega)] at this; exact this, fun h => by rw [h]⟩
  have fin : ∀ bs : Bool, mf_isAhead_31 (Vf w s f) a b bs bs = true ↔ (ya < yb ∨ (ya = yb ∧ a < b)) := fun bs => by
    rw [mf_isAhead_31, if_pos rfl, o5a, o5b]
    by_cases c1 : nI ya < nI yb
    · rw [if_pos c1, mf_isAhead_96, mf_isAhead_101]
      simp [lt1.mp c1]
    · rw [if_neg c1]
      have c1' : ¬ ya < yb := fun h => c1 (lt1.mpr h)
      by_cases c2 : nI ya = nI yb
      · rw [if_pos c2]
        by_cases c3 : b ≤ a
        · rw [if_pos c3, mf_isAhead_100, mf_isAhead_101]
          exact ⟨fun h => absurd h Bool.false_ne_true, fun h => by omega⟩
        · rw [if_neg c3, mf_isAhead_96, mf_isAhead_101]
          have := eq1.mp c2
          exact ⟨fun h => by omega, fun h => rfl⟩
      · rw [if_neg c2, mf_isAhead_100, mf_isAhead_101]
        have : ¬ ya = yb := fun h => c2 (eq1.mpr h)
        exact ⟨fun h => absurd h Bool.false_ne_true, fun h => by omega⟩
  have dif : ∀ ba bb : Bool, ba ≠ bb → (mf_isAhead_31 (Vf w s f) a b ba bb = true ↔ (ba = true ↔ cf_running f = 0)) := fun ba bb h => by
    rw [mf_isAhead_31, if_neg h, er]
    by_cases c : cf_running f = 0
    · rw [if_pos c, mf_isAhead_52]
      cases ba <;> simp [c, mf_isAhead_60]
    · rw [if_neg c, mf_isAhead_52]
      cases ba <;> simp [c, mf_isAhead_60]
  rw [mf_isAhead, mf_isAhead_15, mf_isAhead_15, o0 a (by omega), o0 b (by omega)]
  by_cases c1 : f (39 + (8 * a)) = 2
  · rw [if_pos c1]
    by_cases c2 : f (39 + (8 * b)) = 2
    · rw [if_pos c2, fin true]
      simp only [c1, c2, true_iff]
      split <;> omega
    · rw [if_neg c2, dif true false (by decide)]
      simp only [c1, c2, true_iff, false_iff]
      by_cases c3 : cf_running f = 0
      · simp [c3]; omega
      · simp [c3]; omega
  · rw [if_neg c1]
    by_cases c2 : f (39 + (8 * b)) = 2
    · rw [if_pos c2, dif false true (by decide)]
      simp only [c1, c2, true_iff, false_iff]
      by_cases c3 : cf_running f = 0
      · simp [c3]; omega
      · simp [c3]; omega
    · rw [if_neg c2, fin false]
      simp only [c1, c2, false_iff]
      split <;> omega
end Q6

