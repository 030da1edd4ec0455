set_option maxRecDepth 100000
/-! T8: the leftmost entry taken out -/
section T8
variable {np m n : Nat} {f F g : tT} {lo hi ps : Nat → Nat} {S : Nat → Prop} {o : Option Nat}
theorem TX.del (h : TX np m f lo hi ps S) {p : Nat} (hp : S p) (e0 : f p 0 = none) (e1 : ps p = 1)
    (g0 : ∀ k, k ≠ p → g k 0 = if f p 2 = some k then f p 1 else f k 0) (g1 : ∀ k, k ≠ p → g k 1 = f k 1) (g2 : ∀ k, k ≠ p → g k 2 = if f p 1 = some k then f p 2 else f k 2) (g6 : g 0 6 = if f p 2 = none then f p 1 else f 0 6) :
    TX np (m - 1) g (fun k => if k = p then 0 else lo k - 1) (fun k => if k = p then 0 else hi k - 1) (fun k => ps k - 1) (fun k => S k ∧ k ≠ p) := by
  refine ⟨h.1.del (h.s hp) e0 e1 rfl g0 g1 g2 g6, fun k => ?_⟩
  show (S k ∧ k ≠ p) ↔ (if k = p then 0 else lo k - 1) < (if k = p then 0 else hi k - 1)
  by_cases e : k = p
  · subst e
    rw [if_pos rfl, if_pos rfl]
    exact ⟨fun z => absurd rfl z.2, fun z => absurd z (Nat.lt_irrefl _)⟩
  · rw [if_neg e, if_neg e, h.2 k]
    constructor
    · intro z
      have := h.1.b z.1
      omega
    · intro z
      exact ⟨by omega, e⟩
/-- the leftmost node's neighbours -/
theorem TX.lm (h : TX np m f lo hi ps S) {p : Nat} (hp : S p) (e1 : ps p = 1) : lo p = 0 ∧ (∀ g, f p 2 = some g → S g ∧ f g 0 = some p ∧ g ≠ p) ∧ (∀ r, f p 1 = some r → S r ∧ lo r = 1 ∧ r ≠ p ∧ ¬ f p 2 = some r) := by
  have hp' := h.s hp
  have bp := h.1.b hp'
  refine ⟨by omega, fun g e => ?_, fun r e => ?_⟩
  · obtain ⟨a, b⟩ := h.1.par hp' e
    have z := (h.1.sz hp' e).2.2
    refine ⟨(h.2 g).mpr a, ?_, Ne.symm z⟩
    rcases b with b | b
    · exact b
    · have := h.1.right a b
      have := h.1.b a
      omega
  · obtain ⟨a, b, c, d⟩ := h.1.right hp' e
    refine ⟨(h.2 r).mpr a, by omega, fun z => by subst z; omega, fun z => ?_⟩
    have := h.1.sz hp' z
    omega
theorem delA (h : TX np m f lo hi ps S) {p r : Nat} (hp : S p) (e0 : f p 0 = none) (e1 : ps p = 1) (er : f p 1 = some r) (eg : f p 2 = none) (hF : F = t2 (t2 (t2 (t2 (t2 f r 2 (f p 2)) 0 6 (some r)) p 2 none) p 1 none) p 0 none) : TX np (m - 1) F (fun k => if k = p then 0 else lo k - 1) (fun k => if k = p then 0 else hi k - 1) (fun k => ps k - 1) (fun k => S k ∧ k ≠ p) := by
  obtain ⟨l0, lg, lr⟩ := h.lm hp e1
  obtain ⟨r1, r2, r3, r4⟩ := lr r er
  subst hF
  refine h.del hp e0 e1 (fun k hk => ?_) (fun k hk => ?_) (fun k hk => ?_) ?_
  · rw [if_neg (show ¬ f p 2 = some k by rw [eg]; simp), t2_k hk, t2_k hk, t2_k hk, t2_j (by decide), t2_j (by decide)]
  · rw [t2_k hk, t2_k hk, t2_k hk, t2_j (by decide), t2_j (by decide)]
  · rw [t2_k hk, t2_k hk, t2_k hk, t2_j (by decide)]
    by_cases c : k = r
    · subst c
      rw [if_pos er, t2_s]
    · rw [if_neg (show ¬ f p 1 = some k by rw [er]; intro q; exact c (Option.some.inj q).symm), t2_k c]
  · rw [t2_j (by decide), t2_j (by decide), t2_j (by decide), t2_s, if_pos eg, er]
theorem delB (h : TX np m f lo hi ps S) {p r q : Nat} (hp : S p) (e0 : f p 0 = none) (e1 : ps p = 1) (er : f p 1 = some r) (eg : f p 2 = some q) (hF : F = t2 (t2 (t2 (t2 (t2 f r 2 (f p 2)) q 0 (some r)) p 2 none) p 1 none) p 0 none) : TX np (m - 1) F (fun k => if k = p then 0 else lo k - 1) (fun k => if k = p then 0 else hi k - 1) (fun k => ps k - 1) (fun k => S k ∧ k ≠ p) := by
  obtain ⟨l0, lg, lr⟩ := h.lm hp e1
  obtain ⟨r1, r2, r3, r4⟩ := lr r er
  subst hF
  refine h.del hp e0 e1 (fun k hk => ?_) (fun k hk => ?_) (fun k hk => ?_) ?_
  · rw [t2_k hk, t2_k hk, t2_k hk]
    by_cases c : k = q
    · subst c
      rw [if_pos eg, t2_s, er]
    · rw [if_neg (show ¬ f p 2 = some k by rw [eg]; intro z; exact c (Option.some.inj z).symm), t2_k c, t2_j (by decide)]
  · rw [t2_k hk, t2_k hk, t2_k hk, t2_j (by decide), t2_j (by decide)]
  · rw [t2_k hk, t2_k hk, t2_k hk, t2_j (by decide)]
    by_cases c : k = r
    · subst c
      rw [if_pos er, t2_s]
    · rw [if_neg (show ¬ f p 1 = some k by rw [er]; intro z; exact c (Option.some.inj z).symm), t2_k c]
  · rw [t2_j (by decide), t2_j (by decide), t2_j (by decide), t2_j (by decide), t2_j (by decide), if_neg (show ¬ f p 2 = none by rw [eg]; simp)]
theorem delN (h : TX np m f lo hi ps S) {p : Nat} (hp : S p) (e0 : f p 0 = none) (e1 : ps p = 1) (er : f p 1 = none) (eg : f p 2 = none) (hF : F = t2 f 0 6 none) : TY np (m - 1) F (fun k => ps k - 1) (fun k => S k ∧ k ≠ p) := by
  subst hF
  refine (h.del hp e0 e1 (fun k hk => ?_) (fun k hk => ?_) (fun k hk => ?_) ?_).y
  · rw [t2_j (by decide), if_neg (show ¬ f p 2 = some k by rw [eg]; simp)]
  · rw [t2_j (by decide)]
  · rw [t2_j (by decide), if_neg (show ¬ f p 1 = some k by rw [er]; simp)]
  · rw [t2_s, if_pos eg, er]
theorem delC (h : TY np m f ps S) {p : Nat} (hp : S p) (e0 : f p 0 = none) (e1 : ps p = 1) (er : f p 1 = none) (eg : ¬ f p 2 = none) (hF : F = t2 (t2 f ((f p 2).getD 0) 0 none) p 2 none) : TY np (m - 1) F (fun k => ps k - 1) (fun k => S k ∧ k ≠ p) := by
  obtain ⟨lo, hi, h⟩ := h
  have eg := P_some eg
  generalize (f p 2).getD 0 = q at eg hF
  subst hF
  refine (h.del hp e0 e1 (fun k hk => ?_) (fun k hk => ?_) (fun k hk => ?_) ?_).y
  · rw [t2_k hk]
    by_cases c : k = q
    · subst c
      rw [if_pos eg, t2_s, er]
    · rw [if_neg (show ¬ f p 2 = some k by rw [eg]; intro z; exact c (Option.some.inj z).symm), t2_k c]
  · rw [t2_k hk, t2_j (by decide)]
  · rw [t2_k hk, t2_j (by decide), if_neg (show ¬ f p 1 = some k by rw [er]; simp)]
  · rw [t2_j (by decide), t2_j (by decide), if_neg (show ¬ f p 2 = none by rw [eg]; simp)]
/-- a second node of the tree: the leaf at the first place is not the root -/
theorem TY.nroot (h : TY np m f ps S) {p q : Nat} (hp : S p) (hq : S q) (hpq : q ≠ p) (e1 : ps p = 1) (er : f p 1 = none) : ¬ f p 2 = none := fun e => by
  obtain ⟨lo, hi, h⟩ := h
  have t := h.1.top (h.s hp) e
  have bp := h.1.b (h.s hp)
  have bq := h.1.b (h.s hq)
  rcases h.1.2.2.1 p (h.s hp) with ⟨_, z⟩ | ⟨j, z, _⟩
  · exact hpq (h.1.psj (h.s hq) (h.s hp) (by omega))
  · rw [er] at z; cases z
theorem KV.t2 {h : tT} {i j : Nat} {x : Option Nat} (hj : j ≠ 4 ∧ j ≠ 5) (a : KV f h) : KV f (t2 h i j x) := fun k b hb => (t2_j (by omega)).trans (a k b hb)
theorem KV.tr {h : tT} (a : KV f g) (b : KV g h) : KV f h := fun k j hj => (b k j hj).trans (a k j hj)
theorem TY.gl (h : TY np m f ps S) {p : Nat} (hp : S p) (e1 : ps p = 1) (hu : ¬ f p 2 = none) : S ((f p 2).getD 0) ∧ f ((f p 2).getD 0) 0 = some p := by
  obtain ⟨lo, hi, h⟩ := h
  have := (h.lm hp e1).2.1 _ (P_some hu)
  exact ⟨this.1, this.2.1⟩
end T8

