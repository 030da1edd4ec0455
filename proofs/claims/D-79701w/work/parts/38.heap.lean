set_option maxRecDepth 100000
set_option maxRecDepth 100000
/-! HEAP: a heap of numbers below np, in an order lt -/
def upn (E : Nat → Nat) (k x : Nat) : Nat → Nat := fun i => if i = k then x else E i
theorem upn_s {E : Nat → Nat} {k x : Nat} : upn E k x k = x := if_pos rfl
theorem upn_n {E : Nat → Nat} {k x i : Nat} (h : i ≠ k) : upn E k x i = E i := if_neg h
def ordN (np : Nat) (lt : Nat → Nat → Prop) : Prop := (∀ a b, a < np → b < np → lt a b → ¬ lt b a) ∧ (∀ a b g, a < np → b < np → g < np → ¬ lt a b → ¬ lt b g → ¬ lt a g) ∧ (∀ a b, a < np → b < np → ¬ lt a b → ¬ lt b a → a = b)
def hpS (np n k : Nat) (E : Nat → Nat) (S : Nat → Prop) : Prop := (∀ i, i < n → i ≠ k → E i < np ∧ S (E i)) ∧ (∀ j, S j → ∃ i, i < n ∧ i ≠ k ∧ E i = j) ∧ (∀ i i', i < n → i' < n → i ≠ k → i' ≠ k → E i = E i' → i = i')
def hpO (lt : Nat → Nat → Prop) (n k : Nat) (E : Nat → Nat) : Prop := ∀ i, 0 < i → i < n → i ≠ k → (i - 1) / 2 ≠ k → ¬ lt (E i) (E ((i - 1) / 2))
theorem hpS_place {np n k x : Nat} {E : Nat → Nat} {S : Nat → Prop} (h : hpS np n k E S) (hx : x < np) (hS : ¬ S x) (hk : k < n) : hpS np n n (upn E k x) (fun j => S j ∨ j = x) := by
  obtain ⟨h1, h2, h3⟩ := h
  refine ⟨fun i hi _ => ?_, fun j hj => ?_, fun i i' hi hi' _ _ e => ?_⟩
  · by_cases e : i = k
    · subst e
      rw [upn_s]
      exact ⟨hx, Or.inr rfl⟩
    · rw [upn_n e]
      exact ⟨(h1 i hi e).1, Or.inl (h1 i hi e).2⟩
  · rcases hj with hj | hj
    · obtain ⟨i, hi, hne, ei⟩ := h2 j hj
      exact ⟨i, hi, by omega, by rw [upn_n hne]; exact ei⟩
    · exact ⟨k, hk, by omega, by rw [upn_s]; exact hj.symm⟩
  · by_cases c1 : i = k
    · by_cases c2 : i' = k
      · omega
      · rw [c1, upn_s, upn_n c2] at e
        exact absurd (e ▸ (h1 i' hi' c2).2) hS
    · by_cases c2 : i' = k
      · rw [c2, upn_s, upn_n c1] at e
        exact absurd (e ▸ (h1 i hi c1).2) hS
      · rw [upn_n c1, upn_n c2] at e
        exact h3 i i' hi hi' c1 c2 e
theorem hpS_move {np n k p : Nat} {E : Nat → Nat} {S : Nat → Prop} (h : hpS np n k E S) (hk : k < n) (hp : p < n) (hne : p ≠ k) : hpS np n p (upn E k (E p)) S := by
  obtain ⟨h1, h2, h3⟩ := h
  refine ⟨fun i hi hip => ?_, fun j hj => ?_, fun i i' hi hi' n1 n2 e => ?_⟩
  · by_cases e : i = k
    · subst e
      rw [upn_s]
      exact h1 p hp hne
    · rw [upn_n e]
      exact h1 i hi e
  · obtain ⟨i, hi, hik, ei⟩ := h2 j hj
    by_cases c : i = p
    · exact ⟨k, hk, by omega, by rw [upn_s, ← c]; exact ei⟩
    · exact ⟨i, hi, c, by rw [upn_n hik]; exact ei⟩
  · by_cases c1 : i = k
    · by_cases c2 : i' = k
      · omega
      · rw [c1, upn_s, upn_n c2] at e
        exact absurd (h3 p i' hp hi' hne c2 e) (by omega)
    · by_cases c2 : i' = k
      · rw [c2, upn_s, upn_n c1] at e
        exact absurd (h3 i p hi hp c1 hne e) (by omega)
      · rw [upn_n c1, upn_n c2] at e
        exact h3 i i' hi hi' c1 c2 e
theorem hpO_place {lt : Nat → Nat → Prop} {n k x : Nat} {E : Nat → Nat} (h : hpO lt n k E) (hc : ∀ i, 0 < i → i < n → (i - 1) / 2 = k → ¬ lt (E i) x) (hp : 0 < k → ¬ lt x (E ((k - 1) / 2))) : hpO lt n n (upn E k x) := fun i h0 hi _ _ => by
  by_cases c1 : i = k
  · subst c1
    rw [upn_s, upn_n (by omega)]
    exact hp h0
  · rw [upn_n c1]
    by_cases c2 : (i - 1) / 2 = k
    · rw [c2, upn_s]
      exact hc i h0 hi c2
    · rw [upn_n c2]
      exact h i h0 hi c1 c2
theorem hp_min {np n : Nat} {lt : Nat → Nat → Prop} {E : Nat → Nat} {S : Nat → Prop} (hO : ordN np lt) (hS : hpS np n n E S) (h : hpO lt n n E) : ∀ i, i < n → ¬ lt (E i) (E 0) := by
  intro i
  induction i using Nat.strongRecOn with
  | _ i ih =>
    intro hi
    by_cases c : i = 0
    · subst c
      intro hl
      exact hO.1 _ _ (hS.1 0 hi (by omega)).1 (hS.1 0 hi (by omega)).1 hl hl
    · exact hO.2.1 _ _ _ (hS.1 i hi (by omega)).1 (hS.1 ((i - 1) / 2) (by omega) (by omega)).1 (hS.1 0 (by omega) (by omega)).1 (h i (by omega) hi (by omega) (by omega)) (ih ((i - 1) / 2) (by omega) (by omega))
def qE (f : Nat → Int32) : Nat → Nat := fun i => tN (f (180 + i))
theorem qE_up {f : Nat → Int32} {k x : Nat} (hx : x < 2147483648) : qE (upd f (180 + k) (nI x)) = upn (qE f) k x := by
  funext i
  show tN (upd f (180 + k) (nI x) (180 + i)) = _
  by_cases c : i = k
  · subst c
    rw [pk_us, tN_nI hx, upn_s]
  · rw [pk_un (by omega), upn_n c]
    rfl
theorem qE_o {f : Nat → Int32} {q : Nat} {x : Int32} (h : q < 180) : qE (upd f q x) = qE f := by
  funext i
  show tN _ = tN _
  rw [pk_un (by omega)]
def cmpOk (np : Nat) (lt : Nat → Nat → Prop) (f : Nat → Int32) : Prop := ∀ a b, a < np → b < np → ∀ g : Nat → Int32, (∀ q, q < 175 → g q = f q) → ((cf_cmpO g a b < 0 ↔ lt a b) ∧ (0 < cf_cmpO g a b ↔ lt b a))
theorem up_heap {np : Nat} {lt : Nat → Nat → Prop} {fb : Nat → Int32} (hO : ordN np lt) (hn : np ≤ 6) (hc : cmpOk np lt fb) {f0 : Nat → Int32} {nq x : Nat} {S : Nat → Prop} (hx : x < np) (hSx : ¬ S x) : ∀ (n k : Nat) (f : Nat → Int32), (∀ q, q < 175 → f q = fb q) → hpS np (nq + 1) k (qE f) S → hpO lt (nq + 1) k (qE f) →
    (∀ i, 0 < i → i < nq + 1 → (i - 1) / 2 = k → ¬ lt (qE f i) x ∧ (0 < k → ¬ lt (qE f i) (qE f ((k - 1) / 2)))) → k ≤ nq → k < n →
    hpS np (nq + 1) (nq + 1) (qE (cf_siftUpC_0 f0 nq x n k f)) (fun j => S j ∨ j = x) ∧ hpO lt (nq + 1) (nq + 1) (qE (cf_siftUpC_0 f0 nq x n k f)) := by
  intro n
  induction n with
  | zero => intro k f _ _ _ _ _ h; omega
  | succ n ih =>
    intro k f hf hS hH hC hk hm
    rw [cf_siftUpC_0]
    have fin : (0 < k → ¬ lt x (qE f ((k - 1) / 2))) → hpS np (nq + 1) (nq + 1) (qE (cf_siftUpC_43 f0 nq x (cf_siftUpC_0 f0 nq x n) k f)) (fun j => S j ∨ j = x) ∧ hpO lt (nq + 1) (nq + 1) (qE (cf_siftUpC_43 f0 nq x (cf_siftUpC_0 f0 nq x n) k f)) := by
      intro hp
      rw [cf_siftUpC_43, qE_up (by omega)]
      exact ⟨hpS_place hS hx hSx (by omega), hpO_place hH (fun i h0 hi e => (hC i h0 hi e).1) hp⟩
    by_cases c0 : k = 0
    · rw [if_pos c0]
      exact fin (fun h => by omega)
    · rw [if_neg c0]
      have hl : qE f ((k - 1) / 2) < np := (hS.1 ((k - 1) / 2) (by omega) (by omega)).1
      have hcc := (hc x (qE f ((k - 1) / 2)) hx hl f hf).1
      by_cases c1 : cf_cmpO f x (tN (f (180 + (k - 1) / 2))) < 0
      · rw [if_pos c1]
        have c1' : lt x (qE f ((k - 1) / 2)) := hcc.mp c1
        have e1 : qE (upd f (180 + k) (nI (tN (f (180 + (k - 1) / 2))))) = upn (qE f) k (qE f ((k - 1) / 2)) := qE_up (by have : tN (f (180 + (k - 1) / 2)) < np := hl; omega)
        refine ih ((k - 1) / 2) (upd f (180 + k) (nI (tN (f (180 + (k - 1) / 2))))) (fun q hq => by rw [pk_un (by omega)]; exact hf q hq) ?_ ?_ ?_ (by omega) (by omega)
        · rw [e1]
          exact hpS_move hS (by omega) (by omega) (by omega)
        · rw [e1]
          intro i h0 hi n1 n2
          by_cases d1 : i = k
          · subst d1
            exact absurd rfl n2
          · rw [upn_n d1]
            by_cases d2 : (i - 1) / 2 = k
            · rw [d2, upn_s]
              exact (hC i h0 hi d2).2 (by omega)
            · rw [upn_n d2]
              exact hH i h0 hi d1 d2
        · rw [e1]
          intro i h0 hi e
          have pp : 0 < (k - 1) / 2 → ¬ lt (qE f ((k - 1) / 2)) (qE f (((k - 1) / 2 - 1) / 2)) := fun h => hH ((k - 1) / 2) h (by omega) (by omega) (by omega)
          by_cases d1 : i = k
          · subst d1
            rw [upn_s]
            refine ⟨hO.1 _ _ hx hl c1', fun h => ?_⟩
            rw [upn_n (by omega)]
            exact pp h
          · rw [upn_n d1]
            have hi2 := (hS.1 i hi d1).1
            have hs : ¬ lt (qE f i) (qE f ((k - 1) / 2)) := by
              have := hH i h0 hi d1 (by omega)
              rw [e] at this
              exact this
            refine ⟨hO.2.1 _ _ _ hi2 hl hx hs (hO.1 _ _ hx hl c1'), fun h => ?_⟩
            rw [upn_n (by omega)]
            exact hO.2.1 _ _ _ hi2 hl (hS.1 _ (by omega) (by omega)).1 hs (pp h)
      · rw [if_neg c1]
        exact fin (fun _ h => c1 (hcc.mpr h))
theorem dn_heap {np : Nat} {lt : Nat → Nat → Prop} {fb : Nat → Int32} (hO : ordN np lt) (hn : np ≤ 6) (hc : cmpOk np lt fb) {f0 : Nat → Int32} {nq x k0 : Nat} {S : Nat → Prop} (hx : x < np) (hSx : ¬ S x) : ∀ (n k : Nat) (f : Nat → Int32), (∀ q, q < 175 → f q = fb q) → hpS np nq k (qE f) S → hpO lt nq k (qE f) →
    (∀ i, 0 < i → i < nq → (i - 1) / 2 = k → 0 < k → ¬ lt (qE f i) (qE f ((k - 1) / 2))) → (0 < k → ¬ lt x (qE f ((k - 1) / 2))) → k < nq → nq ≤ k + n →
    hpS np nq nq (qE (cf_siftDnC_5 f0 k0 x nq n k f)) (fun j => S j ∨ j = x) ∧ hpO lt nq nq (qE (cf_siftDnC_5 f0 k0 x nq n k f)) := by
  intro n
  induction n with
  | zero => intro k f _ _ _ _ _ h1 h2; omega
  | succ n ih =>
    intro k f hf hS hH hC hP hk hm
    rw [cf_siftDnC_5]
    have fin : (∀ i, 0 < i → i < nq → (i - 1) / 2 = k → ¬ lt (qE f i) x) → hpS np nq nq (qE (cf_siftDnC_88 f0 k0 x nq (cf_siftDnC_5 f0 k0 x nq n) k f)) (fun j => S j ∨ j = x) ∧ hpO lt nq nq (qE (cf_siftDnC_88 f0 k0 x nq (cf_siftDnC_5 f0 k0 x nq n) k f)) := by
      intro hp
      rw [cf_siftDnC_88, qE_up (by omega)]
      exact ⟨hpS_place hS hx hSx (by omega), hpO_place hH hp hP⟩
    have go : ∀ g, g < nq → (g - 1) / 2 = k → 0 < g → (∀ i, 0 < i → i < nq → (i - 1) / 2 = k → ¬ lt (qE f i) (qE f g)) →
        hpS np nq nq (qE (cf_siftDnC_61 f0 k0 x nq (cf_siftDnC_5 f0 k0 x nq n) k f g (qE f g))) (fun j => S j ∨ j = x) ∧ hpO lt nq nq (qE (cf_siftDnC_61 f0 k0 x nq (cf_siftDnC_5 f0 k0 x nq n) k f g (qE f g))) := by
      intro g hg eg g0 hmin
      rw [cf_siftDnC_61]
      have hl : qE f g < np := (hS.1 g hg (by omega)).1
      have hcc := (hc x (qE f g) hx hl f hf).2
      by_cases c1 : 0 < cf_cmpO f x (qE f g)
      · rw [if_pos c1]
        have c1' := hcc.mp c1
        have e1 : qE (upd f (180 + k) (nI (qE f g))) = upn (qE f) k (qE f g) := qE_up (by omega)
        refine ih g (upd f (180 + k) (nI (qE f g))) (fun q hq => by rw [pk_un (by omega)]; exact hf q hq) ?_ ?_ ?_ ?_ hg (by omega)
        · rw [e1]
          exact hpS_move hS (by omega) hg (by omega)
        · rw [e1]
          intro i h0 hi n1 n2
          by_cases d1 : i = k
          · subst d1
            rw [upn_s, upn_n (by omega)]
            exact hC g g0 hg eg h0
          · rw [upn_n d1]
            by_cases d2 : (i - 1) / 2 = k
            · rw [d2, upn_s]
              exact hmin i h0 hi d2
            · rw [upn_n d2]
              exact hH i h0 hi d1 d2
        · rw [e1]
          intro i h0 hi e _
          rw [eg, upn_s, upn_n (by omega)]
          have := hH i h0 hi (by omega) (by omega)
          rw [e] at this
          exact this
        · rw [e1]
          intro _
          rw [eg, upn_s]
          exact hO.1 _ _ hl hx c1'
      · rw [if_neg c1]
        refine fin (fun i h0 hi e => hO.2.1 _ _ _ (hS.1 i hi (by omega)).1 hl hx (hmin i h0 hi e) (fun h => c1 (hcc.mpr h)))
    by_cases c0 : nq / 2 ≤ k
    · rw [if_pos c0]
      exact fin (fun i h0 hi e => by omega)
    · rw [if_neg c0]
      have h1 : k * 2 + 1 < nq := by omega
      have irr : ∀ i, i < nq → i ≠ k → ¬ lt (qE f i) (qE f i) := fun i hi hne h => hO.1 _ _ (hS.1 i hi hne).1 (hS.1 i hi hne).1 h h
      by_cases c1 : nq ≤ k * 2 + 1 + 1
      · rw [if_pos c1]
        refine go (k * 2 + 1) h1 (by omega) (by omega) (fun i h0 hi e => ?_)
        have : i = k * 2 + 1 := by omega
        rw [this]
        exact irr _ h1 (by omega)
      · rw [if_neg c1]
        have ha : qE f (k * 2 + 1) < np := (hS.1 _ h1 (by omega)).1
        have hb : qE f (k * 2 + 1 + 1) < np := (hS.1 (k * 2 + 1 + 1) (by omega) (by omega)).1
        have hcc := (hc (qE f (k * 2 + 1)) (qE f (k * 2 + 1 + 1)) ha hb f hf).2
        by_cases c2 : cf_cmpO f (tN (f (180 + (k * 2 + 1)))) (tN (f (180 + (k * 2 + 1 + 1)))) ≤ 0
        · rw [if_pos c2]
          refine go (k * 2 + 1) h1 (by omega) (by omega) (fun i h0 hi e => ?_)
          by_cases d : i = k * 2 + 1
          · rw [d]
            exact irr _ h1 (by omega)
          · have : i = k * 2 + 1 + 1 := by omega
            rw [this]
            exact fun h => absurd (hcc.mpr h) (Int32.not_lt.mpr c2)
        · rw [if_neg c2]
          refine go (k * 2 + 1 + 1) (by omega) (by omega) (by omega) (fun i h0 hi e => ?_)
          by_cases d : i = k * 2 + 1 + 1
          · rw [d]
            exact irr _ (by omega) (by omega)
          · have : i = k * 2 + 1 := by omega
            rw [this]
            exact hO.1 _ _ hb ha (hcc.mp (Int32.not_le.mp c2))

