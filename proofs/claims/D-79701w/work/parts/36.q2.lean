set_option maxRecDepth 100000
set_option maxRecDepth 100000
/-! Q2: the queue's values stay right -/
def vq (np : Nat) (f : Nat → Int32) (n : Nat) : Prop := ∀ i, i < n → ∃ j, j < np ∧ f (180 + i) = nI j
theorem vq_put {np n k j : Nat} {f : Nat → Int32} (h : vq np f n) (hj : j < np) : vq np (upd f (180 + k) (nI j)) n := q_up h hj
theorem up_vq (np : Nat) (f0 : Nat → Int32) (nq kx : Nat) (h7 : nq < 7) (hk : kx < np) (hn6 : np ≤ 6) : ∀ (n k : Nat) (f : Nat → Int32), (∀ i, i < nq + 1 → i ≠ k → ∃ j, j < np ∧ f (180 + i) = nI j) → k ≤ nq → k < n →
    vq np (cf_siftUpC_0 f0 nq kx n k f) (nq + 1) ∧ ∀ q, (q < 180 ∨ 200 ≤ q) → cf_siftUpC_0 f0 nq kx n k f q = f q := by
  intro n
  induction n with
  | zero => intro k f _ _ h; omega
  | succ n ih =>
    intro k f hq hkn hm
    rw [cf_siftUpC_0]
    have fin : vq np (cf_siftUpC_43 f0 nq kx (cf_siftUpC_0 f0 nq kx n) k f) (nq + 1) ∧ ∀ q, (q < 180 ∨ 200 ≤ q) → cf_siftUpC_43 f0 nq kx (cf_siftUpC_0 f0 nq kx n) k f q = f q := by
      rw [cf_siftUpC_43]
      refine ⟨fun i hi => ?_, fun q hq => pk_un (by omega)⟩
      by_cases e : i = k
      · subst e
        exact ⟨kx, hk, pk_us⟩
      · rw [pk_un (by omega)]
        exact hq i hi e
    by_cases c0 : k = 0
    · rw [if_pos c0]
      exact fin
    · rw [if_neg c0]
      by_cases c1 : cf_cmpO f kx (tN (f (180 + (k - 1) / 2))) < 0
      · rw [if_pos c1]
        have hp : ∃ j, j < np ∧ f (180 + (k - 1) / 2) = nI j := hq _ (by omega) (by omega)
        have hl : tN (f (180 + (k - 1) / 2)) < np := q_lt hp hn6
        have h2 := ih ((k - 1) / 2) (upd f (180 + k) (nI (tN (f (180 + (k - 1) / 2))))) (fun i hi hne => by
          by_cases e : i = k
          · subst e
            exact ⟨_, hl, pk_us⟩
          · rw [pk_un (by omega)]
            exact hq i hi e) (by omega) (by omega)
        exact ⟨h2.1, fun q hq => by rw [h2.2 q hq, pk_un (by omega)]⟩
      · rw [if_neg c1]
        exact fin
theorem qadd_vq {np : Nat} {f : Nat → Int32} {nq kx : Nat} (e : f 176 = nI nq) (h6 : nq < 6) (hk : kx < np) (hn6 : np ≤ 6) (h : vq np f nq) :
    (cf_qadd f kx).2 176 = nI (nq + 1) ∧ vq np (cf_qadd f kx).2 (nq + 1) ∧ ∀ q, (q < 175 ∨ q = 177 ∨ 200 ≤ q) → (cf_qadd f kx).2 q = f q := by
  have hc : nC f 176 = nq := nC_of e (by omega)
  show (upd (cf_siftUpC_0 (upd f 175 (f 175 + 1)) (nC f 176) kx 7 (nC f 176) (upd f 175 (f 175 + 1))) 176 (nI (nC f 176 + 1))) 176 = _ ∧ _
  rw [hc]
  obtain ⟨h1, h2⟩ := up_vq np (upd f 175 (f 175 + 1)) nq kx (by omega) hk hn6 7 nq (upd f 175 (f 175 + 1)) (fun i hi hne => by rw [pk_un (by omega)]; exact h i (by omega)) (Nat.le_refl _) (by omega)
  refine ⟨pk_us, ?_, ?_⟩
  · show vq np (upd (cf_siftUpC_0 (upd f 175 (f 175 + 1)) (nC f 176) kx 7 (nC f 176) (upd f 175 (f 175 + 1))) 176 (nI (nC f 176 + 1))) (nq + 1)
    rw [hc]
    exact q_oth h1 (by decide)
  · intro q hq
    show (upd (cf_siftUpC_0 (upd f 175 (f 175 + 1)) (nC f 176) kx 7 (nC f 176) (upd f 175 (f 175 + 1))) 176 (nI (nC f 176 + 1))) q = _
    rw [hc, pk_un (by omega), h2 q (by omega), pk_un (by omega)]
theorem clr_0 (f0 : Nat → Int32) : ∀ (n k : Nat) (f : Nat → Int32) (q : Nat), n + k ≤ 7 → q ≠ 176 → (q < 180 ∨ 200 ≤ q) → cf_qclear_22 f0 n k f q = f q := by
  intro n
  induction n with
  | zero => intro k f q _ _ _; rfl
  | succ n ih =>
    intro k f q h0 h1 h2
    rw [cf_qclear_22]
    split
    · rw [pk_un (by omega)]
    · rw [ih _ _ _ (by omega) h1 h2, pk_un (by omega)]
theorem clr_176 (f0 : Nat → Int32) (h6 : nC f0 176 ≤ 6) : ∀ (n k : Nat) (f : Nat → Int32), nC f0 176 < n + k → cf_qclear_22 f0 n k f 176 = 0 ∨ n = 0 := by
  intro n
  induction n with
  | zero => intro k f _; exact Or.inr rfl
  | succ n ih =>
    intro k f h
    refine Or.inl ?_
    rw [cf_qclear_22]
    by_cases c : nC f0 176 ≤ k
    · rw [if_pos c, pk_us]
    · rw [if_neg c]
      rcases ih (k + 1) (upd f (180 + k) (-1 : Int32)) (by omega) with h | h
      · exact h
      · omega
theorem qclear_176 {f : Nat → Int32} (h : rg (f 176) 6) : cf_qclear f 176 = 0 := by
  obtain ⟨j, hj, e⟩ := h
  have hc : nC f 176 = j := nC_of e (by omega)
  rcases clr_176 f (by omega) 7 0 (upd f 175 (f 175 + 1)) (by omega) with h | h
  · exact h
  · omega
theorem qclear_o {f : Nat → Int32} {q : Nat} (h1 : q < 175 ∨ q = 177 ∨ 200 ≤ q) : cf_qclear f q = f q :=
  (clr_0 f 7 0 (upd f 175 (f 175 + 1)) q (by omega) (by omega) (by omega)).trans (pk_un (by omega))
def rq (np : Nat) (f : Nat → Int32) (k : Nat) : Prop := nC f 176 ≤ k ∧ f 176 = nI (nC f 176) ∧ vq np f (nC f 176)
theorem rq_clear {np : Nat} {f : Nat → Int32} (h : rg (f 176) 6) : rq np (cf_qclear f) 0 := by
  have e : cf_qclear f 176 = nI 0 := (qclear_176 h).trans nI_0.symm
  have hc : nC (cf_qclear f) 176 = 0 := nC_of e (by decide)
  exact ⟨by omega, by rw [hc]; exact e, fun i hi => by omega⟩
theorem rq_add {np : Nat} {f : Nat → Int32} {k kx : Nat} (h : rq np f k) (hk : k < 6) (hx : kx < np) (hn : np ≤ 6) : rq np (cf_qadd f kx).2 (k + 1) := by
  obtain ⟨h1, h2, h3⟩ := h
  obtain ⟨a, b, _⟩ := qadd_vq h2 (by omega) hx hn h3
  have hc : nC (cf_qadd f kx).2 176 = nC f 176 + 1 := nC_of a (by omega)
  exact ⟨by omega, by rw [hc]; exact a, by rw [hc]; exact b⟩
theorem rq_up {np : Nat} {f : Nat → Int32} {k : Nat} (h : rq np f k) : rq np f (k + 1) := ⟨by have := h.1; omega, h.2⟩
theorem rq_upd {np : Nat} {f : Nat → Int32} {k q : Nat} {x : Int32} (h : rq np f k) (hq : q < 176) : rq np (upd f q x) k := by
  have hc : nC (upd f q x) 176 = nC f 176 := congrArg tN (pk_un (by omega))
  exact ⟨by have := h.1; omega, by rw [hc, pk_un (by omega)]; exact h.2.1, by rw [hc]; exact q_oth h.2.2 (by omega)⟩
theorem rg_nC {f : Nat → Int32} {q n : Nat} (h : rg (f q) n) (hn : n < 2147483648) : f q = nI (nC f q) ∧ nC f q ≤ n := by
  obtain ⟨j, hj, e⟩ := h
  have hc : nC f q = j := nC_of e (by omega)
  exact ⟨by rw [hc]; exact e, by omega⟩

