set_option maxRecDepth 100000
/-! T4: the repair after an insertion: what its turns do -/
theorem TI.sz {np m : Nat} {f : tT} {lo hi ps : Nat → Nat} (h : TI np m f lo hi ps) {k j : Nat} (hk : lo k < hi k) (e : f k 2 = some j) : lo j < hi j ∧ hi k - lo k + 1 ≤ hi j - lo j ∧ k ≠ j := by
  obtain ⟨a, b⟩ := h.par hk e
  have bk := h.b hk
  have bj := h.b a
  refine ⟨a, ?_, ?_⟩
  · rcases b with b | b
    · have := h.left a b; omega
    · have := h.right a b; omega
  · rintro rfl
    rcases b with b | b
    · have := h.left a b; omega
    · have := h.right a b; omega
/-- how long the repair may go on -/
def FM (np m : Nat) (f : tT) (ps : Nat → Nat) (S : Nat → Prop) (o : Option Nat) (n : Nat) : Prop := (o = none → 1 ≤ n) ∧ ∀ x, o = some x → ∃ lo hi, TX np m f lo hi ps S ∧ (m + 3 ≤ n + (hi x - lo x) ∨ (1 ≤ n ∧ ∃ y, f x 2 = some y ∧ (f y 3).isSome = true))
section T4
variable {np m n : Nat} {f F f1 f2 f3 : tT} {lo hi ps : Nat → Nat} {S : Nat → Prop} {o : Option Nat}
theorem FM.zero (h : FM np m f ps S o 0) (hO : OS S o) : False := by
  cases o with
  | none => exact absurd (h.1 rfl) (by decide)
  | some x =>
    obtain ⟨lo, hi, a, b⟩ := h.2 x rfl
    have := a.1.b (a.s (hO x rfl))
    rcases b with b | b
    · omega
    · exact absurd b.1 (by decide)
theorem FM.init (hY : TY np m f ps S) {x : Nat} : FM np m f ps S (some x) (m + 3) := by
  refine ⟨fun e => (by cases e), fun y e => ?_⟩
  obtain ⟨lo, hi, h⟩ := hY
  exact ⟨lo, hi, h, Or.inl (by omega)⟩
/-- the parent is red: the measure still counts -/
theorem FM.red (h : FM np m f ps S o (n + 1)) (hO : OS S o) {x : Nat} (hx : o = some x) (hc : ¬ (f ((f x 2).getD 0) 3).isSome = true) : ∃ lo hi, TX np m f lo hi ps S ∧ lo x < hi x ∧ m + 3 ≤ n + 1 + (hi x - lo x) ∧ 1 ≤ n := by
  obtain ⟨lo, hi, a, b⟩ := h.2 x hx
  have hs := a.s (hO x hx)
  have := a.1.b hs
  rcases b with b | ⟨_, y, e, z⟩
  · exact ⟨lo, hi, a, hs, b, by omega⟩
  · rw [e] at hc
    exact absurd z hc
theorem FM.up (h : FM np m f ps S o (n + 1)) (hO : OS S o) {x : Nat} (hx : o = some x) (hc : ¬ (f ((f x 2).getD 0) 3).isSome = true) {a1 a2 a3 : Option Nat} {b1 b2 b3 : Bool} (e1 : f1 = cf_tset f a1 b1) (e2 : f2 = cf_tset f1 a2 b2) (e : f3 = cf_tset f2 a3 b3) (hg : ¬ cf_tpar f (cf_tpar f (some x)) = none) : FM np m f3 ps S (cf_tpar f3 (cf_tpar f3 (some x))) n := by
  obtain ⟨lo, hi, a, hs, b, c⟩ := h.red hO hx hc
  subst e1
  subst e2
  subst e
  simp only [tpar_t]
  refine ⟨fun e => absurd e hg, fun g e => ⟨lo, hi, ((a.tset _ _).tset _ _).tset _ _, Or.inl ?_⟩⟩
  rw [tpar_s] at e
  cases ep : f x 2 with
  | none => rw [ep] at e; cases e
  | some p =>
    rw [ep, tpar_s] at e
    obtain ⟨p1, p2, p3⟩ := a.1.sz hs ep
    obtain ⟨g1, g2, g3⟩ := a.1.sz p1 e
    omega
theorem notnone_l {o : Option Nat} (h : ¬ cf_tcol f (cf_tlef f o) = true) : ¬ o = none := fun e => by subst e; exact h rfl
theorem notnone_r {o : Option Nat} (h : ¬ cf_tcol f (cf_trig f o) = true) : ¬ o = none := fun e => by subst e; exact h rfl

/-- x is the outer child: of a parent that is a left child, or has none above -/
def ShL (F : tT) (o : Option Nat) : Prop := ∃ q p, o = some q ∧ F q 2 = some p ∧ ¬ F p 1 = some q ∧ ∀ g, F p 2 = some g → F g 0 = some p
theorem ShL.no {x : Nat} (hp : ¬ F x 2 = none) (hA : ∀ g, F ((F x 2).getD 0) 2 = some g → F g 0 = some ((F x 2).getD 0)) (c : ¬ some x = cf_trig F (cf_tpar F (some x))) : ShL F (some x) := by
  cases e : F x 2 with
  | none => exact absurd e hp
  | some p =>
    rw [e] at hA
    rw [tpar_s, e, trig_s] at c
    exact ⟨x, p, rfl, e, fun q => c q.symm, hA⟩
theorem ShL.rot (hY : TY np m F ps S) {x : Nat} (hs : S x) (hp : ¬ F x 2 = none) (hA : ∀ g, F ((F x 2).getD 0) 2 = some g → F g 0 = some ((F x 2).getD 0)) (c : some x = cf_trig F (cf_tpar F (some x))) (e1 : f1 = cf_rotL F (cf_tpar F (some x))) : ShL f1 (cf_tpar F (some x)) := by
  obtain ⟨lo, hi, h⟩ := hY
  cases e : F x 2 with
  | none => exact absurd e hp
  | some p =>
    rw [e] at hA
    rw [tpar_s, e, trig_s] at c
    have hpx := h.1.par (h.s hs) e
    have er := E_rotL h.1 hpx.1 c.symm
    obtain ⟨n1, n2, n3⟩ := RL_b h.1 hpx.1 c.symm
    have hx := h.1.right hpx.1 c.symm
    have bx := h.1.b (h.s hs)
    have bp := h.1.b hpx.1
    subst e1
    rw [tpar_s, e, er]
    refine ⟨p, x, rfl, by rw [RL2, if_pos rfl], ?_, fun g eg => ?_⟩
    · rw [RL1, if_neg (Ne.symm n1), if_pos rfl]
      intro q
      have := h.1.right (h.s hs) q
      omega
    · rw [RL2, if_neg (Ne.symm n1), if_pos rfl] at eg
      obtain ⟨g1, g2⟩ := n3 g eg
      rw [RL0, if_neg g1, if_neg g2, if_pos (show F p 2 = some g ∧ F g 0 = some p from ⟨eg, hA g eg⟩)]
theorem rotL_rot_h (hY : TY np m F ps S) {x : Nat} (hs : S x) (c : some x = cf_trig F (cf_tpar F (some x))) : hL S F (cf_tpar F (some x)) := fun i e => by
  refine ⟨OS.par hY (OS.some hs) i e, ?_⟩
  rw [e, trig_s] at c
  rw [← c]
  simp
theorem ShL.h (hY : TY np m F ps S) (hO : OS S o) (h : ShL F o) {a1 a2 : Option Nat} {b1 b2 : Bool} (e1 : f1 = cf_tset F a1 b1) (e2 : f2 = cf_tset f1 a2 b2) : hR S f2 (cf_tpar f2 (cf_tpar f2 o)) := fun i e => by
  subst e1
  subst e2
  simp only [tpar_t] at e
  refine ⟨OS.par hY (OS.par hY hO) i e, ?_⟩
  obtain ⟨q, p, rfl, h1, h2, h3⟩ := h
  rw [tpar_s, h1, tpar_s] at e
  rw [tset_j (by decide), tset_j (by decide), h3 i e]
  simp
theorem ShL.fm (hY : TY np m F ps S) (hO : OS S o) (h : ShL F o) (e1 : f1 = cf_tset F (cf_tpar F o) true) (e2 : f2 = cf_tset f1 (cf_tpar f1 (cf_tpar f1 o)) false) (e3 : f3 = cf_rotR f2 (cf_tpar f2 (cf_tpar f2 o))) (hn : 1 ≤ n) : FM np m f3 ps S o n := by
  obtain ⟨lo, hi, hX⟩ := hY
  obtain ⟨q, p, rfl, h1, h2, h3⟩ := h
  have hs := hX.s (hO q rfl)
  obtain ⟨p1, p2, p3⟩ := hX.1.sz hs h1
  have hp : S p := (hX.2 p).mpr p1
  have X1 := hX.tset (cf_tpar F (some q)) true
  rw [← e1] at X1
  have X2 := X1.tset (cf_tpar f1 (cf_tpar f1 (some q))) false
  rw [← e2] at X2
  have t1 : cf_tpar f1 (cf_tpar f1 (some q)) = F p 2 := by rw [e1, tpar_t, tpar_t, tpar_s, h1, tpar_s]
  have t2' : cf_tpar f2 (cf_tpar f2 (some q)) = F p 2 := by rw [e2, tpar_t, tpar_t, t1]
  have c1 : f1 p 3 = some 1 := by rw [e1, tpar_s, h1, tset_s, t2_s]; rfl
  have l2 : ∀ k j, j ≠ 3 → f2 k j = F k j := fun k j hj => by rw [e2, tset_j hj, e1, tset_j hj]
  refine ⟨fun e => (by cases e), fun x ex => ?_⟩
  cases ex
  rw [t2'] at e3
  rw [t1] at e2
  cases eg : F p 2 with
  | none =>
    rw [eg] at e3 e2
    have e3 : f3 = f2 := e3
    have e2 : f2 = f1 := e2
    rw [e3]
    exact ⟨lo, hi, X2, Or.inr ⟨hn, p, by rw [l2 _ _ (by decide)]; exact h1, by rw [e2, c1]; rfl⟩⟩
  | some g =>
    obtain ⟨g1, g2, g3⟩ := hX.1.sz p1 eg
    have hg : S g := (hX.2 g).mpr g1
    rw [eg] at e3 e2
    have eL : f2 g 0 = some p := by rw [l2 _ _ (by decide)]; exact h3 g eg
    have X3 := X2.rotR hg eL
    rw [← e3] at X3
    refine ⟨_, _, X3, Or.inr ⟨hn, p, ?_, ?_⟩⟩
    · rw [e3, E_rotR X2.1 g1 eL]
      show RL (mir f2) g p q 2 = some p
      rw [RL2, if_neg (show ¬ q = g by intro e; subst e; omega), if_neg p3, if_neg (show ¬ mir f2 p 0 = some q by rw [mir0, l2 _ _ (by decide)]; exact h2), mir2, l2 _ _ (by decide)]
      exact h1
    · rw [e3, X2.kR (fun i e => by cases e; exact ⟨hg, by rw [eL]; simp⟩) (by decide) (by decide), e2, tset_s, t2_k g3, c1]
      rfl

def ShR (F : tT) (o : Option Nat) : Prop := ∃ q p, o = some q ∧ F q 2 = some p ∧ ¬ F p 0 = some q ∧ ∀ g, F p 2 = some g → F g 1 = some p
theorem ShR.no {x : Nat} (hp : ¬ F x 2 = none) (hA : ∀ g, F ((F x 2).getD 0) 2 = some g → F g 1 = some ((F x 2).getD 0)) (c : ¬ some x = cf_tlef F (cf_tpar F (some x))) : ShR F (some x) := by
  cases e : F x 2 with
  | none => exact absurd e hp
  | some p =>
    rw [e] at hA
    rw [tpar_s, e, tlef_s] at c
    exact ⟨x, p, rfl, e, fun q => c q.symm, hA⟩
theorem ShR.rot (hY : TY np m F ps S) {x : Nat} (hs : S x) (hp : ¬ F x 2 = none) (hA : ∀ g, F ((F x 2).getD 0) 2 = some g → F g 1 = some ((F x 2).getD 0)) (c : some x = cf_tlef F (cf_tpar F (some x))) (e1 : f1 = cf_rotR F (cf_tpar F (some x))) : ShR f1 (cf_tpar F (some x)) := by
  obtain ⟨lo, hi, h⟩ := hY
  cases e : F x 2 with
  | none => exact absurd e hp
  | some p =>
    rw [e] at hA
    rw [tpar_s, e, tlef_s] at c
    have hpx := h.1.par (h.s hs) e
    have er := E_rotR h.1 hpx.1 c.symm
    have bx := h.1.b (h.s hs)
    have bp := h.1.b hpx.1
    have hm := h.1.mir
    have hpm : m + 1 - hi p < m + 1 - lo p := by omega
    obtain ⟨n1, n2, n3⟩ := RL_b hm (p := p) (r := x) hpm c.symm
    have hx := h.1.left hpx.1 c.symm
    subst e1
    rw [tpar_s, e, er]
    refine ⟨p, x, rfl, ?_, ?_, fun g eg => ?_⟩
    · show RL (mir F) p x p 2 = some x
      rw [RL2, if_pos rfl]
    · show ¬ RL (mir F) p x x 1 = some p
      rw [RL1, if_neg (Ne.symm n1), if_pos rfl]
      intro q
      have := h.1.left (h.s hs) q
      omega
    · have eg : RL (mir F) p x x 2 = some g := eg
      rw [RL2, if_neg (Ne.symm n1), if_pos rfl] at eg
      obtain ⟨g1, g2⟩ := n3 g eg
      show RL (mir F) p x g 0 = some x
      rw [RL0, if_neg g1, if_neg g2, if_pos (show mir F p 2 = some g ∧ mir F g 0 = some p from ⟨eg, hA g eg⟩)]
theorem rotR_rot_h (hY : TY np m F ps S) {x : Nat} (hs : S x) (c : some x = cf_tlef F (cf_tpar F (some x))) : hR S F (cf_tpar F (some x)) := fun i e => by
  refine ⟨OS.par hY (OS.some hs) i e, ?_⟩
  rw [e, tlef_s] at c
  rw [← c]
  simp
theorem ShR.h (hY : TY np m F ps S) (hO : OS S o) (h : ShR F o) {a1 a2 : Option Nat} {b1 b2 : Bool} (e1 : f1 = cf_tset F a1 b1) (e2 : f2 = cf_tset f1 a2 b2) : hL S f2 (cf_tpar f2 (cf_tpar f2 o)) := fun i e => by
  subst e1
  subst e2
  simp only [tpar_t] at e
  refine ⟨OS.par hY (OS.par hY hO) i e, ?_⟩
  obtain ⟨q, p, rfl, h1, h2, h3⟩ := h
  rw [tpar_s, h1, tpar_s] at e
  rw [tset_j (by decide), tset_j (by decide), h3 i e]
  simp
theorem ShR.fm (hY : TY np m F ps S) (hO : OS S o) (h : ShR F o) (e1 : f1 = cf_tset F (cf_tpar F o) true) (e2 : f2 = cf_tset f1 (cf_tpar f1 (cf_tpar f1 o)) false) (e3 : f3 = cf_rotL f2 (cf_tpar f2 (cf_tpar f2 o))) (hn : 1 ≤ n) : FM np m f3 ps S o n := by
  obtain ⟨lo, hi, hX⟩ := hY
  obtain ⟨q, p, rfl, h1, h2, h3⟩ := h
  have hs := hX.s (hO q rfl)
  obtain ⟨p1, p2, p3⟩ := hX.1.sz hs h1
  have hp : S p := (hX.2 p).mpr p1
  have X1 := hX.tset (cf_tpar F (some q)) true
  rw [← e1] at X1
  have X2 := X1.tset (cf_tpar f1 (cf_tpar f1 (some q))) false
  rw [← e2] at X2
  have t1 : cf_tpar f1 (cf_tpar f1 (some q)) = F p 2 := by rw [e1, tpar_t, tpar_t, tpar_s, h1, tpar_s]
  have t2' : cf_tpar f2 (cf_tpar f2 (some q)) = F p 2 := by rw [e2, tpar_t, tpar_t, t1]
  have c1 : f1 p 3 = some 1 := by rw [e1, tpar_s, h1, tset_s, t2_s]; rfl
  have l2 : ∀ k j, j ≠ 3 → f2 k j = F k j := fun k j hj => by rw [e2, tset_j hj, e1, tset_j hj]
  refine ⟨fun e => (by cases e), fun x ex => ?_⟩
  cases ex
  rw [t2'] at e3
  rw [t1] at e2
  cases eg : F p 2 with
  | none =>
    rw [eg] at e3 e2
    have e3 : f3 = f2 := e3
    have e2 : f2 = f1 := e2
    rw [e3]
    exact ⟨lo, hi, X2, Or.inr ⟨hn, p, by rw [l2 _ _ (by decide)]; exact h1, by rw [e2, c1]; rfl⟩⟩
  | some g =>
    obtain ⟨g1, g2, g3⟩ := hX.1.sz p1 eg
    have hg : S g := (hX.2 g).mpr g1
    rw [eg] at e3 e2
    have eL : f2 g 1 = some p := by rw [l2 _ _ (by decide)]; exact h3 g eg
    have X3 := X2.rotL hg eL
    rw [← e3] at X3
    refine ⟨_, _, X3, Or.inr ⟨hn, p, ?_, ?_⟩⟩
    · rw [e3, E_rotL X2.1 g1 eL, RL2, if_neg (show ¬ q = g by intro e; subst e; omega), if_neg p3, if_neg (show ¬ f2 p 0 = some q by rw [l2 _ _ (by decide)]; exact h2), l2 _ _ (by decide)]
      exact h1
    · rw [e3, X2.kL (fun i e => by cases e; exact ⟨hg, by rw [eL]; simp⟩) (by decide) (by decide), e2, tset_s, t2_k g3, c1]
      rfl

/-- what the code asks of the grandparent, as the shape's last part -/
theorem shA_l {x : Nat} (hp : ¬ F x 2 = none) (c : cf_tpar F (some x) = cf_tlef F (cf_tpar F (cf_tpar F (some x)))) : ∀ g, F ((F x 2).getD 0) 2 = some g → F g 0 = some ((F x 2).getD 0) := fun g e => by
  rw [tpar_s, P_some hp, tpar_s, e, tlef_s] at c
  exact c.symm
theorem shA_r (hY : TY np m F ps S) {x : Nat} (hs : S x) (hp : ¬ F x 2 = none) (c : ¬ cf_tpar F (some x) = cf_tlef F (cf_tpar F (cf_tpar F (some x)))) : ∀ g, F ((F x 2).getD 0) 2 = some g → F g 1 = some ((F x 2).getD 0) := fun g e => by
  obtain ⟨lo, hi, h⟩ := hY
  rw [tpar_s, P_some hp, tpar_s, e, tlef_s] at c
  have h1 := h.1.par (h.s hs) (P_some hp)
  rcases (h.1.par h1.1 e).2 with z | z
  · exact absurd z.symm c
  · exact z
end T4

