set_option maxRecDepth 100000
/-! TP: the tree's law. A node k stands at the place ps k; its subtree takes the places strictly between lo k and hi k; in the tree: lo k < hi k -/
def TI (np m : Nat) (f : tT) (lo hi ps : Nat → Nat) : Prop :=
  (∀ k, lo k < hi k → k < np ∧ lo k < ps k ∧ ps k < hi k ∧ hi k ≤ m + 1) ∧
  (∀ k, lo k < hi k → (f k 0 = none ∧ ps k = lo k + 1) ∨ ∃ j, f k 0 = some j ∧ lo j < hi j ∧ lo j = lo k ∧ hi j = ps k ∧ f j 2 = some k) ∧
  (∀ k, lo k < hi k → (f k 1 = none ∧ hi k = ps k + 1) ∨ ∃ j, f k 1 = some j ∧ lo j < hi j ∧ lo j = ps k ∧ hi j = hi k ∧ f j 2 = some k) ∧
  (∀ k, lo k < hi k → (f k 2 = none ∧ f 0 6 = some k) ∨ ∃ j, f k 2 = some j ∧ lo j < hi j ∧ (f j 0 = some k ∨ f j 1 = some k)) ∧
  ((f 0 6 = none ∧ m = 0 ∧ ∀ k, ¬ lo k < hi k) ∨ ∃ r, f 0 6 = some r ∧ lo r < hi r ∧ lo r = 0 ∧ hi r = m + 1 ∧ f r 2 = none) ∧
  (∀ i j, lo i < hi i → lo j < hi j → i ≠ j → hi i ≤ lo j ∨ hi j ≤ lo i ∨ (lo i ≤ lo j ∧ hi j ≤ ps i) ∨ (ps i ≤ lo j ∧ hi j ≤ hi i) ∨ (lo j ≤ lo i ∧ hi i ≤ ps j) ∨ (ps j ≤ lo i ∧ hi i ≤ hi j))
def mir (f : tT) : tT := fun k j => if j = 0 then f k 1 else if j = 1 then f k 0 else f k j
theorem mir0 {f : tT} {k : Nat} : mir f k 0 = f k 1 := rfl
theorem mir1 {f : tT} {k : Nat} : mir f k 1 = f k 0 := rfl
theorem mir2 {f : tT} {k : Nat} : mir f k 2 = f k 2 := rfl
theorem mirj {f : tT} {k j : Nat} (h : 2 ≤ j) : mir f k j = f k j := by unfold mir; rw [if_neg (by omega), if_neg (by omega)]
theorem mir_mir (f : tT) : mir (mir f) = f := by
  funext k j
  by_cases h0 : j = 0
  · subst h0; rfl
  · by_cases h1 : j = 1
    · subst h1; rfl
    · rw [mirj (by omega), mirj (by omega)]
section TP
variable {np m : Nat} {f g : tT} {lo hi ps : Nat → Nat}
theorem TI.b (h : TI np m f lo hi ps) {k : Nat} (hk : lo k < hi k) : k < np ∧ lo k < ps k ∧ ps k < hi k ∧ hi k ≤ m + 1 := h.1 k hk
theorem TI.mir (h : TI np m f lo hi ps) : TI np m (mir f) (fun k => m + 1 - hi k) (fun k => m + 1 - lo k) (fun k => m + 1 - ps k) := by
  have inn : ∀ k, m + 1 - hi k < m + 1 - lo k → lo k < hi k := fun k hk => by omega
  obtain ⟨h1, h2, h3, h4, h5, h6⟩ := h
  have up : ∀ k, lo k < hi k → m + 1 - hi k < m + 1 - lo k := fun k hk => by have := h1 k hk; omega
  refine ⟨fun k hk => ?_, fun k hk => ?_, fun k hk => ?_, fun k hk => ?_, ?_, fun i j hi' hj hij => ?_⟩
  · have := h1 k (inn k hk)
    show k < np ∧ m + 1 - hi k < m + 1 - ps k ∧ m + 1 - ps k < m + 1 - lo k ∧ m + 1 - lo k ≤ m + 1
    omega
  · have b := h1 k (inn k hk)
    rcases h3 k (inn k hk) with ⟨a, e⟩ | ⟨j, a, c, d, e, g⟩
    · exact Or.inl ⟨a, by show m + 1 - ps k = m + 1 - hi k + 1; omega⟩
    · exact Or.inr ⟨j, a, up j c, by show m + 1 - hi j = m + 1 - hi k; omega, by show m + 1 - lo j = m + 1 - ps k; omega, g⟩
  · have b := h1 k (inn k hk)
    rcases h2 k (inn k hk) with ⟨a, e⟩ | ⟨j, a, c, d, e, g⟩
    · exact Or.inl ⟨a, by show m + 1 - lo k = m + 1 - ps k + 1; omega⟩
    · exact Or.inr ⟨j, a, up j c, by show m + 1 - hi j = m + 1 - ps k; omega, by show m + 1 - lo j = m + 1 - lo k; omega, g⟩
  · rcases h4 k (inn k hk) with a | ⟨j, a, c, d⟩
    · exact Or.inl a
    · exact Or.inr ⟨j, a, up j c, Or.symm d⟩
  · rcases h5 with ⟨a, b, c⟩ | ⟨r, a, b, c, d, e⟩
    · exact Or.inl ⟨a, b, fun k hk => c k (inn k hk)⟩
    · exact Or.inr ⟨r, a, up r b, by show m + 1 - hi r = 0; omega, by show m + 1 - lo r = m + 1; omega, e⟩
  · have b1 := h1 i (inn i hi')
    have b2 := h1 j (inn j hj)
    have := h6 i j (inn i hi') (inn j hj) hij
    show m + 1 - lo i ≤ m + 1 - hi j ∨ m + 1 - lo j ≤ m + 1 - hi i ∨ (m + 1 - hi i ≤ m + 1 - hi j ∧ m + 1 - lo j ≤ m + 1 - ps i) ∨ (m + 1 - ps i ≤ m + 1 - hi j ∧ m + 1 - lo j ≤ m + 1 - lo i) ∨ (m + 1 - hi j ≤ m + 1 - hi i ∧ m + 1 - lo i ≤ m + 1 - ps j) ∨ (m + 1 - ps j ≤ m + 1 - hi i ∧ m + 1 - lo i ≤ m + 1 - lo j)
    omega
/-- only links count -/
theorem TI.cong (h : TI np m f lo hi ps) (h0 : ∀ k, g k 0 = f k 0) (h1 : ∀ k, g k 1 = f k 1) (h2 : ∀ k, g k 2 = f k 2) (h6 : g 0 6 = f 0 6) : TI np m g lo hi ps := by
  unfold TI
  simp only [h0, h1, h2, h6]
  exact h
/-- a node's neighbours -/
theorem TI.left (h : TI np m f lo hi ps) {k j : Nat} (hk : lo k < hi k) (e : f k 0 = some j) : lo j < hi j ∧ lo j = lo k ∧ hi j = ps k ∧ f j 2 = some k := by
  rcases h.2.1 k hk with ⟨a, _⟩ | ⟨i, a, b⟩
  · rw [e] at a; cases a
  · rw [e] at a
    cases a
    exact b
theorem TI.right (h : TI np m f lo hi ps) {k j : Nat} (hk : lo k < hi k) (e : f k 1 = some j) : lo j < hi j ∧ lo j = ps k ∧ hi j = hi k ∧ f j 2 = some k := by
  rcases h.2.2.1 k hk with ⟨a, _⟩ | ⟨i, a, b⟩
  · rw [e] at a; cases a
  · rw [e] at a
    cases a
    exact b
theorem TI.par (h : TI np m f lo hi ps) {k j : Nat} (hk : lo k < hi k) (e : f k 2 = some j) : lo j < hi j ∧ (f j 0 = some k ∨ f j 1 = some k) := by
  rcases h.2.2.2.1 k hk with ⟨a, _⟩ | ⟨i, a, b⟩
  · rw [e] at a; cases a
  · rw [e] at a
    cases a
    exact b
theorem TI.top (h : TI np m f lo hi ps) {k : Nat} (hk : lo k < hi k) (e : f k 2 = none) : f 0 6 = some k ∧ lo k = 0 ∧ hi k = m + 1 := by
  have h0 : f 0 6 = some k := by
    rcases h.2.2.2.1 k hk with ⟨_, a⟩ | ⟨i, a, b⟩
    · exact a
    · rw [e] at a; cases a
  refine ⟨h0, ?_⟩
  rcases h.2.2.2.2.1 with ⟨a, _⟩ | ⟨r, a, _, b, c, _⟩
  · rw [h0] at a; cases a
  · rw [h0] at a
    cases a
    exact ⟨b, c⟩
theorem TI.rt (h : TI np m f lo hi ps) {r : Nat} (e : f 0 6 = some r) : lo r < hi r ∧ lo r = 0 ∧ hi r = m + 1 ∧ f r 2 = none := by
  rcases h.2.2.2.2.1 with ⟨a, _⟩ | ⟨i, a, b⟩
  · rw [e] at a; cases a
  · rw [e] at a
    cases a
    exact b
theorem TI.lam (h : TI np m f lo hi ps) {i j : Nat} (hi' : lo i < hi i) (hj : lo j < hi j) (hij : i ≠ j) : hi i ≤ lo j ∨ hi j ≤ lo i ∨ (lo i ≤ lo j ∧ hi j ≤ ps i) ∨ (ps i ≤ lo j ∧ hi j ≤ hi i) ∨ (lo j ≤ lo i ∧ hi i ≤ ps j) ∨ (ps j ≤ lo i ∧ hi i ≤ hi j) := h.2.2.2.2.2 i j hi' hj hij
theorem TI.psj (h : TI np m f lo hi ps) {i j : Nat} (hi' : lo i < hi i) (hj : lo j < hi j) (e : ps i = ps j) : i = j := by
  apply Classical.byContradiction
  intro hij
  have := h.lam hi' hj hij
  have b1 := h.b hi'
  have b2 := h.b hj
  omega
/-- the tree turned left at p, whose right child is r -/
def RL (f : tT) (p r : Nat) : tT := fun k j =>
  if j = 0 then (if k = p then f p 0 else if k = r then some p else if f p 2 = some k ∧ f k 0 = some p then some r else f k 0)
  else if j = 1 then (if k = p then f r 0 else if k = r then f r 1 else if f p 2 = some k ∧ ¬ f k 0 = some p then some r else f k 1)
  else if j = 2 then (if k = p then some r else if k = r then f p 2 else if f r 0 = some k then some p else f k 2)
  else if k = 0 ∧ j = 6 then (if f p 2 = none then some r else f 0 6)
  else f k j
theorem RL0 {p r k : Nat} : RL f p r k 0 = (if k = p then f p 0 else if k = r then some p else if f p 2 = some k ∧ f k 0 = some p then some r else f k 0) := rfl
theorem RL1 {p r k : Nat} : RL f p r k 1 = (if k = p then f r 0 else if k = r then f r 1 else if f p 2 = some k ∧ ¬ f k 0 = some p then some r else f k 1) := rfl
theorem RL2 {p r k : Nat} : RL f p r k 2 = (if k = p then some r else if k = r then f p 2 else if f r 0 = some k then some p else f k 2) := rfl
theorem RL6 {p r : Nat} : RL f p r 0 6 = (if f p 2 = none then some r else f 0 6) := rfl
theorem RLj {p r k j : Nat} (h : 3 ≤ j) (h6 : j ≠ 6) : RL f p r k j = f k j := by
  unfold RL
  rw [if_neg (by omega), if_neg (by omega), if_neg (by omega), if_neg (by omega)]
theorem TI.RL (h : TI np m f lo hi ps) {p r : Nat} (hp : lo p < hi p) (hr : f p 1 = some r) : TI np m (RL f p r) (fun k => if k = r then lo p else lo k) (fun k => if k = p then ps r else hi k) ps := by
  obtain ⟨r1, r2, r3, r4⟩ := h.right hp hr
  have bp := h.b hp
  have br := h.b r1
  have npr : p ≠ r := fun e => by subst e; omega
  have npr' : r ≠ p := Ne.symm npr
  have cases2 : ∀ k, k ≠ p → k ≠ r → f p 2 = some k → lo k < hi k := fun k _ _ e => (h.par hp e).1
  have hpar : ∀ k, f p 2 = some k → k ≠ p ∧ k ≠ r := fun k e => by
    obtain ⟨a, b⟩ := h.par hp e
    constructor
    · rintro rfl
      rcases b with b | b
      · have := h.left hp b; omega
      · rw [hr] at b; cases b; exact npr rfl
    · rintro rfl
      rcases b with b | b
      · have := h.left r1 b; omega
      · have := h.right r1 b; omega
  have inn : ∀ k, (if k = r then lo p else lo k) < (if k = p then ps r else hi k) ↔ lo k < hi k := fun k => by
    by_cases e1 : k = r
    · subst e1
      rw [if_pos rfl, if_neg npr']
      omega
    · rw [if_neg e1]
      by_cases e2 : k = p
      · subst e2
        rw [if_pos rfl]
        omega
      · rw [if_neg e2]
  have L : ∀ k, k ≠ r → (if k = r then lo p else lo k) = lo k := fun k e => if_neg e
  have U : ∀ k, k ≠ p → (if k = p then ps r else hi k) = hi k := fun k e => if_neg e
  have Lr : (if r = r then lo p else lo r) = lo p := if_pos rfl
  have Up : (if p = p then ps r else hi p) = ps r := if_pos rfl
  refine ⟨fun k hk => ?_, fun k hk => ?_, fun k hk => ?_, fun k hk => ?_, ?_, fun i j hi' hj hij => ?_⟩
  · have hk' := (inn k).mp hk
    have b := h.b hk'
    refine ⟨b.1, ?_, ?_, ?_⟩
    · by_cases e : k = r
      · subst e; show (if k = k then lo p else lo k) < ps k; rw [if_pos rfl]; omega
      · show (if k = r then lo p else lo k) < ps k; rw [L k e]; exact b.2.1
    · by_cases e : k = p
      · subst e; show ps k < (if k = k then ps r else hi k); rw [if_pos rfl]; omega
      · show ps k < (if k = p then ps r else hi k); rw [U k e]; exact b.2.2.1
    · by_cases e : k = p
      · subst e; show (if k = k then ps r else hi k) ≤ m + 1; rw [if_pos rfl]; omega
      · show (if k = p then ps r else hi k) ≤ m + 1; rw [U k e]; exact b.2.2.2
  · have hk' := (inn k).mp hk
    by_cases e1 : k = p
    · subst e1
      rw [RL0, if_pos rfl]
      rcases h.2.1 k hk' with ⟨a, b⟩ | ⟨j, a, b, c, d, e⟩
      · exact Or.inl ⟨a, by show ps k = (if k = r then lo k else lo k) + 1; rw [L k npr]; exact b⟩
      · have bj := h.b b
        have j1 : j ≠ k := fun q => by subst q; omega
        have j2 : j ≠ r := fun q => by subst q; omega
        refine Or.inr ⟨j, a, (inn j).mpr b, ?_, ?_, ?_⟩
        · show (if j = r then lo k else lo j) = (if k = r then lo k else lo k); rw [L j j2, L k npr]; exact c
        · show (if j = k then ps r else hi j) = ps k; rw [U j j1]; exact d
        · rw [RL2, if_neg j1, if_neg j2, if_neg (show ¬ f r 0 = some j from fun q => by have := h.left r1 q; rw [this.2.2.2] at e; exact npr' (Option.some.inj e))]; exact e
    · by_cases e2 : k = r
      · subst e2
        rw [RL0, if_neg npr', if_pos rfl]
        refine Or.inr ⟨p, rfl, (inn p).mpr hp, ?_, ?_, ?_⟩
        · show (if p = k then lo p else lo p) = (if k = k then lo p else lo k); rw [if_neg npr, if_pos rfl]
        · show (if p = p then ps k else hi p) = ps k; rw [if_pos rfl]
        · rw [RL2, if_pos rfl]
      · rw [RL0, if_neg e1, if_neg e2]
        rcases h.2.1 k hk' with ⟨a, b⟩ | ⟨j, a, b, c, d, e⟩
        · rw [if_neg (show ¬ (f p 2 = some k ∧ f k 0 = some p) from fun q => by rw [a] at q; cases q.2)]
          exact Or.inl ⟨a, by show ps k = (if k = r then lo p else lo k) + 1; rw [L k e2]; exact b⟩
        · by_cases ej : j = p
          · subst ej
            rw [if_pos (show f j 2 = some k ∧ f k 0 = some j from ⟨e, a⟩)]
            refine Or.inr ⟨r, rfl, (inn r).mpr r1, ?_, ?_, ?_⟩
            · show (if r = r then lo j else lo r) = (if k = r then lo j else lo k); rw [if_pos rfl, L k e2]; exact c
            · show (if r = j then ps r else hi r) = ps k; rw [U r npr']; omega
            · rw [RL2, if_neg npr', if_pos rfl]; exact e
          · have ej2 : j ≠ r := fun q => by subst q; rw [r4] at e; exact e1 (Option.some.inj e).symm
            rw [if_neg (show ¬ (f p 2 = some k ∧ f k 0 = some p) from fun q => by rw [a] at q; exact ej (Option.some.inj q.2))]
            refine Or.inr ⟨j, a, (inn j).mpr b, ?_, ?_, ?_⟩
            · show (if j = r then lo p else lo j) = (if k = r then lo p else lo k); rw [L j ej2, L k e2]; exact c
            · show (if j = p then ps r else hi j) = ps k; rw [U j ej]; exact d
            · rw [RL2, if_neg ej, if_neg ej2, if_neg (show ¬ f r 0 = some j from fun q => by have := h.left r1 q; rw [this.2.2.2] at e; exact e2 (Option.some.inj e).symm)]; exact e
  · have hk' := (inn k).mp hk
    by_cases e1 : k = p
    · subst e1
      rw [RL1, if_pos rfl]
      rcases h.2.1 r r1 with ⟨a, b⟩ | ⟨j, a, b, c, d, e⟩
      · exact Or.inl ⟨a, by show (if k = k then ps r else hi k) = ps k + 1; rw [if_pos rfl]; omega⟩
      · have bj := h.b b
        have j1 : j ≠ k := fun q => by subst q; omega
        have j2 : j ≠ r := fun q => by subst q; omega
        refine Or.inr ⟨j, a, (inn j).mpr b, ?_, ?_, ?_⟩
        · show (if j = r then lo k else lo j) = ps k; rw [L j j2]; omega
        · show (if j = k then ps r else hi j) = (if k = k then ps r else hi k); rw [U j j1, if_pos rfl]; exact d
        · rw [RL2, if_neg j1, if_neg j2, if_pos a]
    · by_cases e2 : k = r
      · subst e2
        rw [RL1, if_neg npr', if_pos rfl]
        rcases h.2.2.1 k hk' with ⟨a, b⟩ | ⟨j, a, b, c, d, e⟩
        · exact Or.inl ⟨a, by show (if k = p then ps k else hi k) = ps k + 1; rw [U k npr']; exact b⟩
        · have bj := h.b b
          have j1 : j ≠ p := fun q => by subst q; omega
          have j2 : j ≠ k := fun q => by subst q; omega
          refine Or.inr ⟨j, a, (inn j).mpr b, ?_, ?_, ?_⟩
          · show (if j = k then lo p else lo j) = ps k; rw [L j j2]; exact c
          · show (if j = p then ps k else hi j) = (if k = p then ps k else hi k); rw [U j j1, U k npr']; exact d
          · rw [RL2, if_neg j1, if_neg j2, if_neg (show ¬ f k 0 = some j from fun q => by have := h.left hk' q; omega)]; exact e
      · rw [RL1, if_neg e1, if_neg e2]
        rcases h.2.2.1 k hk' with ⟨a, b⟩ | ⟨j, a, b, c, d, e⟩
        · rw [if_neg (show ¬ (f p 2 = some k ∧ ¬ f k 0 = some p) from fun q => by
            rcases (h.par hp q.1).2 with z | z
            · exact q.2 z
            · rw [a] at z; cases z)]
          exact Or.inl ⟨a, by show (if k = p then ps r else hi k) = ps k + 1; rw [U k e1]; exact b⟩
        · by_cases ej : j = p
          · subst ej
            rw [if_pos (show f j 2 = some k ∧ ¬ f k 0 = some j from ⟨e, fun q => by have := h.left hk' q; omega⟩)]
            refine Or.inr ⟨r, rfl, (inn r).mpr r1, ?_, ?_, ?_⟩
            · show (if r = r then lo j else lo r) = ps k; rw [if_pos rfl]; exact c
            · show (if r = j then ps r else hi r) = (if k = j then ps r else hi k); rw [U r npr', U k e1]; omega
            · rw [RL2, if_neg npr', if_pos rfl]; exact e
          · have ej2 : j ≠ r := fun q => by subst q; rw [r4] at e; exact e1 (Option.some.inj e).symm
            rw [if_neg (show ¬ (f p 2 = some k ∧ ¬ f k 0 = some p) from fun q => by
              rcases (h.par hp q.1).2 with z | z
              · exact q.2 z
              · rw [a] at z; exact ej (Option.some.inj z))]
            refine Or.inr ⟨j, a, (inn j).mpr b, ?_, ?_, ?_⟩
            · show (if j = r then lo p else lo j) = ps k; rw [L j ej2]; exact c
            · show (if j = p then ps r else hi j) = (if k = p then ps r else hi k); rw [U j ej, U k e1]; exact d
            · rw [RL2, if_neg ej, if_neg ej2, if_neg (show ¬ f r 0 = some j from fun q => by have := h.left r1 q; rw [this.2.2.2] at e; exact e2 (Option.some.inj e).symm)]; exact e
  · have hk' := (inn k).mp hk
    by_cases e1 : k = p
    · subst e1
      rw [RL2, if_pos rfl]
      exact Or.inr ⟨r, rfl, (inn r).mpr r1, Or.inl (by rw [RL0, if_neg npr', if_pos rfl])⟩
    · by_cases e2 : k = r
      · subst e2
        rw [RL2, if_neg npr', if_pos rfl]
        cases e : f p 2 with
        | none => exact Or.inl ⟨rfl, by rw [RL6, if_pos e]⟩
        | some g =>
          obtain ⟨a, b⟩ := h.par hp e
          obtain ⟨g1, g2⟩ := hpar g e
          refine Or.inr ⟨g, rfl, (inn g).mpr a, ?_⟩
          by_cases c : f g 0 = some p
          · exact Or.inl (by rw [RL0, if_neg g1, if_neg g2, if_pos (show f p 2 = some g ∧ f g 0 = some p from ⟨e, c⟩)])
          · exact Or.inr (by rw [RL1, if_neg g1, if_neg g2, if_pos (show f p 2 = some g ∧ ¬ f g 0 = some p from ⟨e, c⟩)])
      · rw [RL2, if_neg e1, if_neg e2]
        rcases h.2.2.2.1 k hk' with ⟨a, b⟩ | ⟨j, a, b, c⟩
        · rw [if_neg (show ¬ f r 0 = some k from fun q => by have := h.left r1 q; rw [this.2.2.2] at a; cases a)]
          refine Or.inl ⟨a, ?_⟩
          rw [RL6, if_neg (show ¬ f p 2 = none from fun q => by have := (h.top hp q).1; rw [b] at this; exact e1 (Option.some.inj this))]
          exact b
        · by_cases q : f r 0 = some k
          · rw [if_pos q]
            exact Or.inr ⟨p, rfl, (inn p).mpr hp, Or.inr (by rw [RL1, if_pos rfl]; exact q)⟩
          · rw [if_neg q]
            refine Or.inr ⟨j, a, (inn j).mpr b, ?_⟩
            by_cases j1 : j = p
            · subst j1
              rcases c with c | c
              · exact Or.inl (by rw [RL0, if_pos rfl]; exact c)
              · rw [hr] at c
                exact absurd (Option.some.inj c).symm e2
            · by_cases j2 : j = r
              · subst j2
                rcases c with c | c
                · exact absurd c q
                · exact Or.inr (by rw [RL1, if_neg npr', if_pos rfl]; exact c)
              · rcases c with c | c
                · exact Or.inl (by rw [RL0, if_neg j1, if_neg j2, if_neg (show ¬ (f p 2 = some j ∧ f j 0 = some p) from fun z => by rw [c] at z; exact e1 (Option.some.inj z.2))]; exact c)
                · refine Or.inr ?_
                  rw [RL1, if_neg j1, if_neg j2, if_neg (show ¬ (f p 2 = some j ∧ ¬ f j 0 = some p) from fun z => by
                    rcases (h.par hp z.1).2 with y | y
                    · exact z.2 y
                    · rw [c] at y
                      exact e1 (Option.some.inj y))]
                  exact c
  · rcases h.2.2.2.2.1 with ⟨_, _, c⟩ | ⟨t, a, b, c, d, e⟩
    · exact absurd hp (c p)
    · refine Or.inr ?_
      rw [RL6]
      by_cases q : f p 2 = none
      · have := h.top hp q
        refine ⟨r, by rw [if_pos q], (inn r).mpr r1, ?_, ?_, ?_⟩
        · show (if r = r then lo p else lo r) = 0; rw [if_pos rfl]; exact this.2.1
        · show (if r = p then ps r else hi r) = m + 1; rw [U r npr']; omega
        · rw [RL2, if_neg npr', if_pos rfl]; exact q
      · have t1 : t ≠ p := fun z => by subst z; exact q e
        have t2 : t ≠ r := fun z => by subst z; rw [r4] at e; cases e
        refine ⟨t, by rw [if_neg q]; exact a, (inn t).mpr b, ?_, ?_, ?_⟩
        · show (if t = r then lo p else lo t) = 0; rw [L t t2]; exact c
        · show (if t = p then ps r else hi t) = m + 1; rw [U t t1]; exact d
        · rw [RL2, if_neg t1, if_neg t2, if_neg (show ¬ f r 0 = some t from fun z => by have := h.left r1 z; rw [this.2.2.2] at e; cases e)]; exact e
  · have hi2 := (inn i).mp hi'
    have hj2 := (inn j).mp hj
    have bi := h.b hi2
    have bj := h.b hj2
    have lij := h.lam hi2 hj2 hij
    show (if i = p then ps r else hi i) ≤ (if j = r then lo p else lo j) ∨ (if j = p then ps r else hi j) ≤ (if i = r then lo p else lo i) ∨ ((if i = r then lo p else lo i) ≤ (if j = r then lo p else lo j) ∧ (if j = p then ps r else hi j) ≤ ps i) ∨ (ps i ≤ (if j = r then lo p else lo j) ∧ (if j = p then ps r else hi j) ≤ (if i = p then ps r else hi i)) ∨ ((if j = r then lo p else lo j) ≤ (if i = r then lo p else lo i) ∧ (if i = p then ps r else hi i) ≤ ps j) ∨ (ps j ≤ (if i = r then lo p else lo i) ∧ (if i = p then ps r else hi i) ≤ (if j = p then ps r else hi j))
    by_cases i1 : i = p
    · subst i1
      by_cases j2 : j = r
      · subst j2
        rw [if_pos rfl, if_pos rfl, if_neg npr', if_neg npr]
        omega
      · have := h.lam r1 hj2 (Ne.symm j2)
        rw [if_pos rfl, if_neg j2, if_neg (Ne.symm hij), if_neg npr]
        omega
    · by_cases i2 : i = r
      · subst i2
        by_cases j1 : j = p
        · subst j1
          rw [if_neg i1, if_neg npr, if_pos rfl, if_pos rfl]
          omega
        · have := h.lam hp hj2 (Ne.symm j1)
          rw [if_neg i1, if_neg (Ne.symm hij), if_neg j1, if_pos rfl]
          omega
      · have lip := h.lam hi2 hp i1
        have lir := h.lam hi2 r1 i2
        by_cases j1 : j = p
        · subst j1
          rw [if_neg i1, if_neg npr, if_pos rfl, if_neg i2]
          omega
        · by_cases j2 : j = r
          · subst j2
            rw [if_neg i1, if_pos rfl, if_neg j1, if_neg i2]
            omega
          · rw [if_neg i1, if_neg j2, if_neg j1, if_neg i2]
            exact lij
/-- the tree turned right at p, whose left child is r -/
def RR (f : tT) (p r : Nat) : tT := mir (RL (mir f) p r)
theorem TI.RR (h : TI np m f lo hi ps) {p r : Nat} (hp : lo p < hi p) (hr : f p 0 = some r) : TI np m (RR f p r) (fun k => if k = p then ps r else lo k) (fun k => if k = r then hi p else hi k) ps := by
  have bnd : ∀ k, lo k < hi k → ps k ≤ m + 1 := fun k hk => by have := h.b hk; omega
  have bp := h.b hp
  have hp' : m + 1 - hi p < m + 1 - lo p := by omega
  obtain ⟨r1, r2, r3, r4⟩ := h.left hp hr
  have br := h.b r1
  have npr : p ≠ r := fun e => by subst e; omega
  have g1 := h.1
  clear bnd
  have inn : ∀ k, (if k = p then ps r else lo k) < (if k = r then hi p else hi k) ↔ lo k < hi k := fun k => by
    by_cases e1 : k = p
    · subst e1
      rw [if_pos rfl, if_neg npr]
      omega
    · rw [if_neg e1]
      by_cases e2 : k = r
      · subst e2
        rw [if_pos rfl]
        omega
      · rw [if_neg e2]
  -- the doubly mirrored places are the places themselves, for nodes of the tree
  have eL : ∀ k, lo k < hi k → m + 1 - (if k = p then m + 1 - ps r else m + 1 - lo k) = (if k = p then ps r else lo k) := fun k hk => by
    have := g1 k hk
    by_cases e : k = p
    · rw [if_pos e, if_pos e]; omega
    · rw [if_neg e, if_neg e]; omega
  have eU : ∀ k, lo k < hi k → m + 1 - (if k = r then m + 1 - hi p else m + 1 - hi k) = (if k = r then hi p else hi k) := fun k hk => by
    have := g1 k hk
    by_cases e : k = r
    · rw [if_pos e, if_pos e]; omega
    · rw [if_neg e, if_neg e]; omega
  have eP : ∀ k, lo k < hi k → m + 1 - (m + 1 - ps k) = ps k := fun k hk => by have := g1 k hk; omega
  have inn2 : ∀ k, m + 1 - (if k = p then m + 1 - ps r else m + 1 - lo k) < m + 1 - (if k = r then m + 1 - hi p else m + 1 - hi k) ↔ lo k < hi k := fun k => by
    by_cases hk : lo k < hi k
    · rw [eL k hk, eU k hk]
      exact inn k
    · constructor
      · intro q
        exfalso
        by_cases e1 : k = p
        · subst e1; exact hk hp
        · by_cases e2 : k = r
          · subst e2; exact hk r1
          · rw [if_neg e1, if_neg e2] at q
            omega
      · intro q; exact absurd q hk
  obtain ⟨k1, k2, k3, k4, k5, k6⟩ := (h.mir.RL (p := p) (r := r) hp' hr).mir
  refine ⟨fun k hk => ?_, fun k hk => ?_, fun k hk => ?_, fun k hk => ?_, ?_, fun i j hi' hj hij => ?_⟩
  · have hk' := (inn k).mp hk
    have := k1 k ((inn2 k).mpr hk')
    simp only [eL k hk', eU k hk', eP k hk'] at this
    exact this
  · have hk' := (inn k).mp hk
    have := k2 k ((inn2 k).mpr hk')
    simp only [eL k hk', eU k hk', eP k hk'] at this
    rcases this with a | ⟨j, a, b, c, d, e⟩
    · exact Or.inl a
    · have hj' := (inn2 j).mp b
      have c := (eL j hj').symm.trans c
      have d := (eU j hj').symm.trans d
      exact Or.inr ⟨j, a, (inn j).mpr hj', c, d, e⟩
  · have hk' := (inn k).mp hk
    have := k3 k ((inn2 k).mpr hk')
    simp only [eL k hk', eU k hk', eP k hk'] at this
    rcases this with a | ⟨j, a, b, c, d, e⟩
    · exact Or.inl a
    · have hj' := (inn2 j).mp b
      have c := (eL j hj').symm.trans c
      have d := (eU j hj').symm.trans d
      exact Or.inr ⟨j, a, (inn j).mpr hj', c, d, e⟩
  · have hk' := (inn k).mp hk
    rcases k4 k ((inn2 k).mpr hk') with a | ⟨j, a, b, c⟩
    · exact Or.inl a
    · exact Or.inr ⟨j, a, (inn j).mpr ((inn2 j).mp b), c⟩
  · rcases k5 with ⟨a, b, c⟩ | ⟨t, a, b, c, d, e⟩
    · exact absurd ((inn2 p).mpr hp) (c p)
    · have ht := (inn2 t).mp b
      have c := (eL t ht).symm.trans c
      have d := (eU t ht).symm.trans d
      exact Or.inr ⟨t, a, (inn t).mpr ht, c, d, e⟩
  · have hi2 := (inn i).mp hi'
    have hj2 := (inn j).mp hj
    have := k6 i j ((inn2 i).mpr hi2) ((inn2 j).mpr hj2) hij
    simp only [eL i hi2, eU i hi2, eP i hi2, eL j hj2, eU j hj2, eP j hj2] at this
    exact this
/-- a place moved up behind the gap q -/
def shq (q x : Nat) : Nat := if q < x then x + 1 else x
theorem shq_c (q x : Nat) : (q < x ∧ shq q x = x + 1) ∨ (x ≤ q ∧ shq q x = x) := by
  unfold shq
  by_cases c : q < x
  · exact Or.inl ⟨c, if_pos c⟩
  · exact Or.inr ⟨by omega, if_neg c⟩
theorem shq_mono {q x y : Nat} (h : x ≤ y) : shq q x ≤ shq q y := by
  have := shq_c q x
  have := shq_c q y
  omega
/-- a new leaf np below P: a: on its left -/
theorem TI.ins (h : TI np m f lo hi ps) {P q : Nat} {a : Bool} (hP : lo P < hi P) (hc : (a = true ∧ f P 0 = none ∧ q = lo P) ∨ (a = false ∧ f P 1 = none ∧ q = ps P))
    (g0 : ∀ k, k ≠ np → g k 0 = if k = P ∧ a = true then some np else f k 0) (g1 : ∀ k, k ≠ np → g k 1 = if k = P ∧ a = false then some np else f k 1) (g2 : ∀ k, k ≠ np → g k 2 = f k 2) (g6 : g 0 6 = f 0 6)
    (n0 : g np 0 = none) (n1 : g np 1 = none) (n2 : g np 2 = some P) :
    TI (np + 1) (m + 1) g (fun k => if k = np then q else shq q (lo k)) (fun k => if k = np then q + 2 else shq q (hi k)) (fun k => if k = np then q + 1 else shq q (ps k)) := by
  have bP := h.b hP
  have hPn : P ≠ np := by omega
  have hno : ¬ lo np < hi np := fun z => by have := (h.b z).1; omega
  have hq : q ≤ m ∧ ((a = true ∧ f P 0 = none ∧ q = lo P ∧ ps P = q + 1) ∨ (a = false ∧ f P 1 = none ∧ q = ps P ∧ hi P = q + 1)) := by
    rcases hc with ⟨c1, c2, c3⟩ | ⟨c1, c2, c3⟩
    · refine ⟨by omega, Or.inl ⟨c1, c2, c3, ?_⟩⟩
      rcases h.2.1 P hP with ⟨_, z⟩ | ⟨j, z, _⟩
      · omega
      · rw [c2] at z; cases z
    · refine ⟨by omega, Or.inr ⟨c1, c2, c3, ?_⟩⟩
      rcases h.2.2.1 P hP with ⟨_, z⟩ | ⟨j, z, _⟩
      · omega
      · rw [c2] at z; cases z
  obtain ⟨hqm, hq⟩ := hq
  have L : ∀ k, k ≠ np → (if k = np then q else shq q (lo k)) = shq q (lo k) := fun k e => if_neg e
  have U : ∀ k, k ≠ np → (if k = np then q + 2 else shq q (hi k)) = shq q (hi k) := fun k e => if_neg e
  have S : ∀ k, k ≠ np → (if k = np then q + 1 else shq q (ps k)) = shq q (ps k) := fun k e => if_neg e
  have Ln : (if np = np then q else shq q (lo np)) = q := if_pos rfl
  have Un : (if np = np then q + 2 else shq q (hi np)) = q + 2 := if_pos rfl
  have Sn : (if np = np then q + 1 else shq q (ps np)) = q + 1 := if_pos rfl
  have inn : ∀ k, k ≠ np → ((if k = np then q else shq q (lo k)) < (if k = np then q + 2 else shq q (hi k)) ↔ lo k < hi k) := fun k e => by
    rw [L k e, U k e]
    have := shq_c q (lo k)
    have := shq_c q (hi k)
    omega
  have innn : (if np = np then q else shq q (lo np)) < (if np = np then q + 2 else shq q (hi np)) := by rw [Ln, Un]; omega
  have lt : ∀ j, lo j < hi j → j ≠ np := fun j hj e => by subst e; exact hno hj
  refine ⟨fun k hk => ?_, fun k hk => ?_, fun k hk => ?_, fun k hk => ?_, ?_, fun i j hi' hj hij => ?_⟩
  · show k < np + 1 ∧ (if k = np then q else shq q (lo k)) < (if k = np then q + 1 else shq q (ps k)) ∧ (if k = np then q + 1 else shq q (ps k)) < (if k = np then q + 2 else shq q (hi k)) ∧ (if k = np then q + 2 else shq q (hi k)) ≤ m + 1 + 1
    by_cases e : k = np
    · subst e
      rw [Ln, Un, Sn]
      omega
    · have b := h.b ((inn k e).mp hk)
      rw [L k e, U k e, S k e]
      have := shq_c q (lo k)
      have := shq_c q (hi k)
      have := shq_c q (ps k)
      omega
  · show (g k 0 = none ∧ (if k = np then q + 1 else shq q (ps k)) = (if k = np then q else shq q (lo k)) + 1) ∨ ∃ j, g k 0 = some j ∧ (if j = np then q else shq q (lo j)) < (if j = np then q + 2 else shq q (hi j)) ∧ (if j = np then q else shq q (lo j)) = (if k = np then q else shq q (lo k)) ∧ (if j = np then q + 2 else shq q (hi j)) = (if k = np then q + 1 else shq q (ps k)) ∧ g j 2 = some k
    by_cases e : k = np
    · subst e
      exact Or.inl ⟨n0, by rw [Ln, Sn]⟩
    · have hk' := (inn k e).mp hk
      rw [g0 k e, L k e, S k e]
      by_cases c : k = P ∧ a = true
      · obtain ⟨rfl, c⟩ := c
        rw [if_pos (show k = k ∧ a = true from ⟨rfl, c⟩)]
        refine Or.inr ⟨np, rfl, innn, ?_, ?_, n2⟩
        · rw [Ln]
          have := shq_c q (lo k)
          rcases hq with z | z
          · omega
          · rw [z.1] at c; cases c
        · rw [Un]
          have := shq_c q (ps k)
          rcases hq with z | z
          · omega
          · rw [z.1] at c; cases c
      · rw [if_neg c]
        rcases h.2.1 k hk' with ⟨z1, z2⟩ | ⟨j, z1, z2, z3, z4, z5⟩
        · refine Or.inl ⟨z1, ?_⟩
          have e1 := shq_c q (lo k)
          have e2 := shq_c q (ps k)
          have key : lo k ≠ q := fun y => by
            have kP : k ≠ P := fun x => by
              subst x
              rcases hq with w | w
              · exact c ⟨rfl, w.1⟩
              · omega
            have bk := h.b hk'
            have := h.lam hk' hP kP
            rcases hq with w | w
            · have := h.psj hk' hP (by omega)
              exact kP this
            · omega
          omega
        · have jn := lt j z2
          exact Or.inr ⟨j, z1, (inn j jn).mpr z2, by rw [L j jn, z3], by rw [U j jn, z4], by rw [g2 j jn]; exact z5⟩
  · show (g k 1 = none ∧ (if k = np then q + 2 else shq q (hi k)) = (if k = np then q + 1 else shq q (ps k)) + 1) ∨ ∃ j, g k 1 = some j ∧ (if j = np then q else shq q (lo j)) < (if j = np then q + 2 else shq q (hi j)) ∧ (if j = np then q else shq q (lo j)) = (if k = np then q + 1 else shq q (ps k)) ∧ (if j = np then q + 2 else shq q (hi j)) = (if k = np then q + 2 else shq q (hi k)) ∧ g j 2 = some k
    by_cases e : k = np
    · subst e
      exact Or.inl ⟨n1, by rw [Un, Sn]⟩
    · have hk' := (inn k e).mp hk
      rw [g1 k e, U k e, S k e]
      by_cases c : k = P ∧ a = false
      · obtain ⟨rfl, c⟩ := c
        rw [if_pos (show k = k ∧ a = false from ⟨rfl, c⟩)]
        refine Or.inr ⟨np, rfl, innn, ?_, ?_, n2⟩
        · rw [Ln]
          have := shq_c q (ps k)
          rcases hq with z | z
          · rw [z.1] at c; cases c
          · omega
        · rw [Un]
          have := shq_c q (hi k)
          rcases hq with z | z
          · rw [z.1] at c; cases c
          · omega
      · rw [if_neg c]
        rcases h.2.2.1 k hk' with ⟨z1, z2⟩ | ⟨j, z1, z2, z3, z4, z5⟩
        · refine Or.inl ⟨z1, ?_⟩
          have e1 := shq_c q (hi k)
          have e2 := shq_c q (ps k)
          have key : ps k ≠ q := fun y => by
            have kP : k ≠ P := fun x => by
              subst x
              rcases hq with w | w
              · omega
              · exact c ⟨rfl, w.1⟩
            have bk := h.b hk'
            have := h.lam hk' hP kP
            rcases hq with w | w
            · omega
            · have := h.psj hk' hP (by omega)
              exact kP this
          omega
        · have jn := lt j z2
          exact Or.inr ⟨j, z1, (inn j jn).mpr z2, by rw [L j jn, z3], by rw [U j jn, z4], by rw [g2 j jn]; exact z5⟩
  · show (g k 2 = none ∧ g 0 6 = some k) ∨ ∃ j, g k 2 = some j ∧ (if j = np then q else shq q (lo j)) < (if j = np then q + 2 else shq q (hi j)) ∧ (g j 0 = some k ∨ g j 1 = some k)
    by_cases e : k = np
    · subst e
      refine Or.inr ⟨P, n2, (inn P hPn).mpr hP, ?_⟩
      rcases hq with z | z
      · exact Or.inl (by rw [g0 P hPn, if_pos (show P = P ∧ a = true from ⟨rfl, z.1⟩)])
      · exact Or.inr (by rw [g1 P hPn, if_pos (show P = P ∧ a = false from ⟨rfl, z.1⟩)])
    · have hk' := (inn k e).mp hk
      rw [g2 k e, g6]
      rcases h.2.2.2.1 k hk' with z | ⟨j, z1, z2, z3⟩
      · exact Or.inl z
      · have jn := lt j z2
        refine Or.inr ⟨j, z1, (inn j jn).mpr z2, ?_⟩
        rcases z3 with z | z
        · refine Or.inl ?_
          rw [g0 j jn]
          by_cases c : j = P ∧ a = true
          · obtain ⟨rfl, c⟩ := c
            rcases hq with w | w
            · rw [w.2.1] at z; cases z
            · rw [w.1] at c; cases c
          · rw [if_neg c]; exact z
        · refine Or.inr ?_
          rw [g1 j jn]
          by_cases c : j = P ∧ a = false
          · obtain ⟨rfl, c⟩ := c
            rcases hq with w | w
            · rw [w.1] at c; cases c
            · rw [w.2.1] at z; cases z
          · rw [if_neg c]; exact z
  · rcases h.2.2.2.2.1 with ⟨_, _, z⟩ | ⟨t, z1, z2, z3, z4, z5⟩
    · exact absurd hP (z P)
    · have tn := lt t z2
      refine Or.inr ⟨t, by rw [g6]; exact z1, (inn t tn).mpr z2, ?_, ?_, by rw [g2 t tn]; exact z5⟩
      · show (if t = np then q else shq q (lo t)) = 0
        rw [L t tn, z3]
        have := shq_c q 0
        omega
      · show (if t = np then q + 2 else shq q (hi t)) = m + 1 + 1
        rw [U t tn, z4]
        have := shq_c q (m + 1)
        omega
  · show (if i = np then q + 2 else shq q (hi i)) ≤ (if j = np then q else shq q (lo j)) ∨ (if j = np then q + 2 else shq q (hi j)) ≤ (if i = np then q else shq q (lo i)) ∨ ((if i = np then q else shq q (lo i)) ≤ (if j = np then q else shq q (lo j)) ∧ (if j = np then q + 2 else shq q (hi j)) ≤ (if i = np then q + 1 else shq q (ps i))) ∨ ((if i = np then q + 1 else shq q (ps i)) ≤ (if j = np then q else shq q (lo j)) ∧ (if j = np then q + 2 else shq q (hi j)) ≤ (if i = np then q + 2 else shq q (hi i))) ∨ ((if j = np then q else shq q (lo j)) ≤ (if i = np then q else shq q (lo i)) ∧ (if i = np then q + 2 else shq q (hi i)) ≤ (if j = np then q + 1 else shq q (ps j))) ∨ ((if j = np then q + 1 else shq q (ps j)) ≤ (if i = np then q else shq q (lo i)) ∧ (if i = np then q + 2 else shq q (hi i)) ≤ (if j = np then q + 2 else shq q (hi j)))
    by_cases i1 : i = np
    · subst i1
      have jn : j ≠ i := Ne.symm hij
      have b := h.b ((inn j jn).mp hj)
      rw [Ln, Un, Sn, L j jn, U j jn, S j jn]
      have := shq_c q (lo j)
      have := shq_c q (hi j)
      have := shq_c q (ps j)
      omega
    · by_cases j1 : j = np
      · subst j1
        have b := h.b ((inn i i1).mp hi')
        rw [Ln, Un, Sn, L i i1, U i i1, S i i1]
        have := shq_c q (lo i)
        have := shq_c q (hi i)
        have := shq_c q (ps i)
        omega
      · rw [L i i1, U i i1, S i i1, L j j1, U j j1, S j j1]
        rcases h.lam ((inn i i1).mp hi') ((inn j j1).mp hj) hij with z | z | z | z | z | z
        · exact Or.inl (shq_mono z)
        · exact Or.inr (Or.inl (shq_mono z))
        · exact Or.inr (Or.inr (Or.inl ⟨shq_mono z.1, shq_mono z.2⟩))
        · exact Or.inr (Or.inr (Or.inr (Or.inl ⟨shq_mono z.1, shq_mono z.2⟩)))
        · exact Or.inr (Or.inr (Or.inr (Or.inr (Or.inl ⟨shq_mono z.1, shq_mono z.2⟩))))
        · exact Or.inr (Or.inr (Or.inr (Or.inr (Or.inr ⟨shq_mono z.1, shq_mono z.2⟩))))
/-- the leftmost node p is taken out; o: what stands at its place (nothing, or its right child) -/
theorem TI.del (h : TI np m f lo hi ps) {p : Nat} {o : Option Nat} (hp : lo p < hi p) (e0 : f p 0 = none) (e1 : ps p = 1) (eo : f p 1 = o)
    (g0 : ∀ k, k ≠ p → g k 0 = if f p 2 = some k then o else f k 0) (g1 : ∀ k, k ≠ p → g k 1 = f k 1) (g2 : ∀ k, k ≠ p → g k 2 = if o = some k then f p 2 else f k 2) (g6 : g 0 6 = if f p 2 = none then o else f 0 6) :
    TI np (m - 1) g (fun k => if k = p then 0 else lo k - 1) (fun k => if k = p then 0 else hi k - 1) (fun k => ps k - 1) := by
  have bp := h.b hp
  have lp : lo p = 0 := by omega
  have L : ∀ k, k ≠ p → (if k = p then 0 else lo k - 1) = lo k - 1 := fun k e => if_neg e
  have U : ∀ k, k ≠ p → (if k = p then 0 else hi k - 1) = hi k - 1 := fun k e => if_neg e
  have inn : ∀ k, (if k = p then 0 else lo k - 1) < (if k = p then 0 else hi k - 1) ↔ (k ≠ p ∧ lo k < hi k) := fun k => by
    by_cases e : k = p
    · subst e
      rw [if_pos rfl, if_pos rfl]
      exact ⟨fun z => absurd z (Nat.lt_irrefl _), fun z => absurd rfl z.1⟩
    · rw [L k e, U k e]
      constructor
      · intro z; exact ⟨e, by omega⟩
      · intro z
        have := h.b z.2
        omega
  have par : ∀ k, f p 2 = some k → k ≠ p ∧ lo k < hi k ∧ f k 0 = some p := fun k e => by
    obtain ⟨a, b⟩ := h.par hp e
    rcases b with b | b
    · refine ⟨fun z => ?_, a, b⟩
      subst z
      rw [e0] at b; cases b
    · have := h.right a b
      have := h.b a
      omega
  have chl : ∀ k, o = some k → k ≠ p ∧ lo k < hi k ∧ lo k = 1 ∧ hi k = hi p ∧ f k 2 = some p := fun k e => by
    obtain ⟨a, b, c, d⟩ := h.right hp (eo.trans e)
    refine ⟨fun z => ?_, a, by omega, c, d⟩
    subst z
    omega
  have dif : ∀ k, k ≠ p → lo k < hi k → ps k ≠ 1 := fun k e hk z => e (h.psj hk hp (by omega))
  refine ⟨fun k hk => ?_, fun k hk => ?_, fun k hk => ?_, fun k hk => ?_, ?_, fun i j hi' hj hij => ?_⟩
  · obtain ⟨e, hk'⟩ := (inn k).mp hk
    have b := h.b hk'
    have := dif k e hk'
    show k < np ∧ (if k = p then 0 else lo k - 1) < ps k - 1 ∧ ps k - 1 < (if k = p then 0 else hi k - 1) ∧ (if k = p then 0 else hi k - 1) ≤ m - 1 + 1
    rw [L k e, U k e]
    omega
  · obtain ⟨e, hk'⟩ := (inn k).mp hk
    have b := h.b hk'
    have d := dif k e hk'
    show (g k 0 = none ∧ ps k - 1 = (if k = p then 0 else lo k - 1) + 1) ∨ ∃ j, g k 0 = some j ∧ (if j = p then 0 else lo j - 1) < (if j = p then 0 else hi j - 1) ∧ (if j = p then 0 else lo j - 1) = (if k = p then 0 else lo k - 1) ∧ (if j = p then 0 else hi j - 1) = ps k - 1 ∧ g j 2 = some k
    rw [g0 k e, L k e]
    by_cases c : f p 2 = some k
    · rw [if_pos c]
      obtain ⟨c1, c2, c3⟩ := par k c
      obtain ⟨d1, d2, d3, d4⟩ := h.left c2 c3
      cases ho : o with
      | none =>
        refine Or.inl ⟨rfl, ?_⟩
        rcases h.2.2.1 p hp with ⟨z1, z2⟩ | ⟨j, z1, _⟩
        · omega
        · rw [eo, ho] at z1; cases z1
      | some r =>
        obtain ⟨r1, r2, r3, r4, r5⟩ := chl r ho
        refine Or.inr ⟨r, rfl, (inn r).mpr ⟨r1, r2⟩, ?_, ?_, ?_⟩
        · rw [L r r1]; omega
        · rw [U r r1]; omega
        · rw [g2 r r1, if_pos ho]; exact c
    · rw [if_neg c]
      rcases h.2.1 k hk' with ⟨z1, z2⟩ | ⟨j, z1, z2, z3, z4, z5⟩
      · exact Or.inl ⟨z1, by omega⟩
      · have j1 : j ≠ p := fun z => by
          subst z
          exact c z5
        refine Or.inr ⟨j, z1, (inn j).mpr ⟨j1, z2⟩, by rw [L j j1, z3], by rw [U j j1, z4], ?_⟩
        rw [g2 j j1, if_neg (show ¬ o = some j from fun z => by have := (chl j z).2.2.2.2; rw [this] at z5; exact e (Option.some.inj z5).symm)]
        exact z5
  · obtain ⟨e, hk'⟩ := (inn k).mp hk
    have b := h.b hk'
    show (g k 1 = none ∧ (if k = p then 0 else hi k - 1) = ps k - 1 + 1) ∨ ∃ j, g k 1 = some j ∧ (if j = p then 0 else lo j - 1) < (if j = p then 0 else hi j - 1) ∧ (if j = p then 0 else lo j - 1) = ps k - 1 ∧ (if j = p then 0 else hi j - 1) = (if k = p then 0 else hi k - 1) ∧ g j 2 = some k
    rw [g1 k e, U k e]
    rcases h.2.2.1 k hk' with ⟨z1, z2⟩ | ⟨j, z1, z2, z3, z4, z5⟩
    · exact Or.inl ⟨z1, by omega⟩
    · have j1 : j ≠ p := fun z => by
        subst z
        omega
      refine Or.inr ⟨j, z1, (inn j).mpr ⟨j1, z2⟩, by rw [L j j1, z3], by rw [U j j1, z4], ?_⟩
      rw [g2 j j1, if_neg (show ¬ o = some j from fun z => by have := (chl j z).2.2.2.2; rw [this] at z5; exact e (Option.some.inj z5).symm)]
      exact z5
  · obtain ⟨e, hk'⟩ := (inn k).mp hk
    show (g k 2 = none ∧ g 0 6 = some k) ∨ ∃ j, g k 2 = some j ∧ (if j = p then 0 else lo j - 1) < (if j = p then 0 else hi j - 1) ∧ (g j 0 = some k ∨ g j 1 = some k)
    rw [g2 k e, g6]
    by_cases c : o = some k
    · rw [if_pos c]
      cases d : f p 2 with
      | none => exact Or.inl ⟨rfl, by rw [if_pos rfl]; exact c⟩
      | some j =>
        obtain ⟨j1, j2, j3⟩ := par j d
        exact Or.inr ⟨j, rfl, (inn j).mpr ⟨j1, j2⟩, Or.inl (by rw [g0 j j1, if_pos d]; exact c)⟩
    · rw [if_neg c]
      rcases h.2.2.2.1 k hk' with ⟨z1, z2⟩ | ⟨j, z1, z2, z3⟩
      · refine Or.inl ⟨z1, ?_⟩
        rw [if_neg (show ¬ f p 2 = none from fun z => by have := (h.top hp z).1; rw [z2] at this; exact e (Option.some.inj this))]
        exact z2
      · have j1 : j ≠ p := fun z => by
          subst z
          rcases z3 with z | z
          · rw [e0] at z; cases z
          · rw [eo] at z; exact c z
        refine Or.inr ⟨j, z1, (inn j).mpr ⟨j1, z2⟩, ?_⟩
        rcases z3 with z | z
        · refine Or.inl ?_
          rw [g0 j j1, if_neg (show ¬ f p 2 = some j from fun y => by have := (par j y).2.2; rw [z] at this; exact e (Option.some.inj this))]
          exact z
        · exact Or.inr (by rw [g1 j j1]; exact z)
  · rw [g6]
    rcases h.2.2.2.2.1 with ⟨_, _, z⟩ | ⟨t, z1, z2, z3, z4, z5⟩
    · exact absurd hp (z p)
    · by_cases c : f p 2 = none
      · rw [if_pos c]
        obtain ⟨c1, c2, c3⟩ := h.top hp c
        cases ho : o with
        | none =>
          have hm : m = 1 := by
            rcases h.2.2.1 p hp with ⟨y1, y2⟩ | ⟨j, y1, _⟩
            · omega
            · rw [eo, ho] at y1; cases y1
          refine Or.inl ⟨rfl, by omega, fun k hk => ?_⟩
          obtain ⟨e, hk'⟩ := (inn k).mp hk
          have b := h.b hk'
          have := dif k e hk'
          omega
        | some r =>
          obtain ⟨r1, r2, r3, r4, r5⟩ := chl r ho
          refine Or.inr ⟨r, rfl, (inn r).mpr ⟨r1, r2⟩, ?_, ?_, ?_⟩
          · show (if r = p then 0 else lo r - 1) = 0
            rw [L r r1]; omega
          · show (if r = p then 0 else hi r - 1) = m - 1 + 1
            rw [U r r1]; omega
          · rw [g2 r r1, if_pos ho]; exact c
      · rw [if_neg c]
        have t1 : t ≠ p := fun z => by
          subst z
          exact c z5
        refine Or.inr ⟨t, z1, (inn t).mpr ⟨t1, z2⟩, ?_, ?_, ?_⟩
        · show (if t = p then 0 else lo t - 1) = 0
          rw [L t t1]; omega
        · show (if t = p then 0 else hi t - 1) = m - 1 + 1
          rw [U t t1]
          have := h.b hp
          omega
        · rw [g2 t t1, if_neg (show ¬ o = some t from fun z => by have := (chl t z).2.2.2.2; rw [this] at z5; cases z5)]
          exact z5
  · obtain ⟨i1, i2⟩ := (inn i).mp hi'
    obtain ⟨j1, j2⟩ := (inn j).mp hj
    show (if i = p then 0 else hi i - 1) ≤ (if j = p then 0 else lo j - 1) ∨ (if j = p then 0 else hi j - 1) ≤ (if i = p then 0 else lo i - 1) ∨ ((if i = p then 0 else lo i - 1) ≤ (if j = p then 0 else lo j - 1) ∧ (if j = p then 0 else hi j - 1) ≤ ps i - 1) ∨ (ps i - 1 ≤ (if j = p then 0 else lo j - 1) ∧ (if j = p then 0 else hi j - 1) ≤ (if i = p then 0 else hi i - 1)) ∨ ((if j = p then 0 else lo j - 1) ≤ (if i = p then 0 else lo i - 1) ∧ (if i = p then 0 else hi i - 1) ≤ ps j - 1) ∨ (ps j - 1 ≤ (if i = p then 0 else lo i - 1) ∧ (if i = p then 0 else hi i - 1) ≤ (if j = p then 0 else hi j - 1))
    rw [L i i1, U i i1, L j j1, U j j1]
    have := h.lam i2 j2 hij
    omega
end TP

