set_option maxRecDepth 100000
/-! T6: the repair after a deletion: what its turns do (x stands on the leftmost way) -/
/-- a leaf at the first place stays one -/
def LV (S : Nat → Prop) (ps : Nat → Nat) (f g : tT) : Prop := ∀ K, S K → ps K = 1 → f K 0 = none → f K 1 = none → g K 0 = none ∧ g K 1 = none
def DM (np m : Nat) (f : tT) (ps : Nat → Nat) (S : Nat → Prop) (o : Option Nat) (n : Nat) : Prop := ∃ x lo hi, o = some x ∧ S x ∧ TX np m f lo hi ps S ∧ lo x = 0 ∧ (m + 3 ≤ n + (hi x - lo x) ∨ (1 ≤ n ∧ (f 0 6 = some x ∨ (f x 3).isSome = false)))
def DS (np m : Nat) (f : tT) (ps : Nat → Nat) (S : Nat → Prop) (o sib : Option Nat) (n : Nat) : Prop := ∃ x p lo hi, o = some x ∧ S x ∧ S p ∧ TX np m f lo hi ps S ∧ f x 2 = some p ∧ f p 0 = some x ∧ f p 1 = sib ∧ lo p = 0 ∧ 1 ≤ n ∧ ((f p 3).isSome = false ∨ m + 3 ≤ n + (hi p - lo p))
def DE (f : tT) (S : Nat → Prop) (o sib : Option Nat) (n : Nat) : Prop := ∃ x p, o = some x ∧ S p ∧ f x 2 = some p ∧ f p 1 = sib ∧ ¬ sib = none ∧ 1 ≤ n
section T6
variable {np m n : Nat} {f F f1 f2 f3 h : tT} {lo hi ps : Nat → Nat} {S : Nat → Prop} {o sib : Option Nat} {b : Bool}
theorem LV.rf : LV S ps f f := fun _ _ _ a b => ⟨a, b⟩
theorem LV.tset (a : LV S ps f h) : LV S ps f (cf_tset h o b) := fun K s e x y => by
  rw [tset_j (by decide), tset_j (by decide)]
  exact a K s e x y
theorem LV.rotL (hY : TY np m h ps S) (ho : hL S h o) (a : LV S ps f h) : LV S ps f (cf_rotL h o) := fun K s e x y => by
  obtain ⟨z0, z1⟩ := a K s e x y
  cases o with
  | none => exact ⟨z0, z1⟩
  | some p =>
    obtain ⟨lo, hi, hX⟩ := hY
    obtain ⟨hp, hr⟩ := ho p rfl
    have hp' := hX.s hp
    have er := P_some hr
    rw [E_rotL hX.1 hp' er]
    obtain ⟨r1, r2, r3, r4⟩ := hX.1.right hp' er
    have bp := hX.1.b hp'
    have br := hX.1.b r1
    have k1 : K ≠ p := fun q => by subst q; exact hr z1
    have k2 : K ≠ (h p 1).getD 0 := fun q => by rw [← q] at br r2; omega
    rw [RL0, RL1, if_neg k1, if_neg k2, if_neg k1, if_neg k2, if_neg (show ¬ (h p 2 = some K ∧ h K 0 = some p) from fun q => by rw [z0] at q; cases q.2), if_neg (show ¬ (h p 2 = some K ∧ ¬ h K 0 = some p) from fun q => by
      rcases (hX.1.par hp' q.1).2 with w | w
      · rw [z0] at w; cases w
      · rw [z1] at w; cases w)]
    exact ⟨z0, z1⟩
theorem LV.rotR (hX : TX np m h lo hi ps S) (ho : hR S h o) (hlo : ∀ i, o = some i → 1 ≤ lo i) (a : LV S ps f h) : LV S ps f (cf_rotR h o) := fun K s e x y => by
  obtain ⟨z0, z1⟩ := a K s e x y
  cases o with
  | none => exact ⟨z0, z1⟩
  | some p =>
    obtain ⟨hp, hr⟩ := ho p rfl
    have hp' := hX.s hp
    have er := P_some hr
    have lp := hlo p rfl
    rw [E_rotR hX.1 hp' er]
    obtain ⟨r1, r2, r3, r4⟩ := hX.1.left hp' er
    have bp := hX.1.b hp'
    have br := hX.1.b r1
    have k1 : K ≠ p := fun q => by subst q; exact hr z0
    have k2 : K ≠ (h p 0).getD 0 := fun q => by rw [← q] at br r2; omega
    show RL (mir h) p _ K 1 = none ∧ RL (mir h) p _ K 0 = none
    rw [RL0, RL1, if_neg k1, if_neg k2, if_neg k1, if_neg k2, if_neg (show ¬ (mir h p 2 = some K ∧ mir h K 0 = some p) from fun q => by have := q.2; rw [mir0, z1] at this; cases this), if_neg (show ¬ (mir h p 2 = some K ∧ ¬ mir h K 0 = some p) from fun q => by
      rcases (hX.1.par hp' q.1).2 with w | w
      · rw [z0] at w; cases w
      · rw [z1] at w; cases w)]
    exact ⟨z0, z1⟩
theorem DM.zero (h : DM np m f ps S o 0) : False := by
  obtain ⟨x, lo, hi, _, s, a, _, b⟩ := h
  have := a.1.b (a.s s)
  rcases b with b | b
  · omega
  · exact absurd b.1 (by decide)
theorem DM.os (h : DM np m f ps S o n) : OS S o := by
  obtain ⟨x, lo, hi, rfl, s, _⟩ := h
  exact OS.some s
theorem bI1 {b : Bool} : bI b = 1 ↔ b = true := by cases b <;> decide
theorem DM.go (h : DM np m f ps S o (n + 1)) (c : ¬ o = f 0 6) (d : bI (cf_tcol f o) = 1) : DS np m f ps S o (cf_trig f (cf_tpar f o)) n ∧ o = cf_tlef f (cf_tpar f o) := by
  obtain ⟨x, lo, hi, rfl, s, a, l0, b⟩ := h
  have hx := a.s s
  have bx := a.1.b hx
  have hb : m + 3 ≤ n + 1 + (hi x - lo x) := by
    rcases b with b | ⟨_, b | b⟩
    · exact b
    · exact absurd b.symm c
    · rw [tcol_s, b] at d
      exact absurd d (by decide)
  have hu : ¬ f x 2 = none := fun e => c (a.1.top hx e).1.symm
  obtain ⟨p1, p2, p3⟩ := a.1.sz hx (P_some hu)
  have pp := (a.1.par hx (P_some hu)).2
  have e0 : f ((f x 2).getD 0) 0 = some x ∧ lo ((f x 2).getD 0) = 0 := by
    rcases pp with w | w
    · have := a.1.left p1 w
      exact ⟨w, by omega⟩
    · have := a.1.right p1 w
      have := a.1.b p1
      omega
  rw [tpar_s, P_some hu, trig_s, tlef_s]
  exact ⟨⟨x, (f x 2).getD 0, lo, hi, rfl, s, (a.2 _).mpr p1, a, P_some hu, e0.1, rfl, e0.2, by omega, Or.inr (by omega)⟩, e0.1.symm⟩
theorem DS.os (h : DS np m f ps S o sib n) : OS S sib := by
  obtain ⟨x, p, lo, hi, rfl, s, sp, a, e1, e2, e3, _⟩ := h
  intro i e
  exact (a.2 i).mpr (a.1.right (a.s sp) (e3.trans e)).1
theorem DS.hh (h : DS np m f ps S o sib n) (c : ¬ cf_tcol f sib = true) {a1 a2 : Option Nat} {b1 b2 : Bool} (e1 : f1 = cf_tset f a1 b1) (e2 : f2 = cf_tset f1 a2 b2) : hL S f2 (cf_tpar f2 o) := fun i e => by
  obtain ⟨x, p, lo, hi, rfl, s, sp, a, h1, h2, h3, _⟩ := h
  subst e1
  subst e2
  simp only [tpar_t] at e
  rw [tpar_s, h1] at e
  cases e
  refine ⟨sp, ?_⟩
  rw [tset_j (by decide), tset_j (by decide), h3]
  rintro rfl
  exact c rfl
theorem DS.red (h : DS np m f ps S o sib n) (c : ¬ cf_tcol f sib = true) {a1 : Option Nat} {b1 : Bool} (e1 : f1 = cf_tset f a1 b1) (e2 : f2 = cf_tset f1 (cf_tpar f1 o) false) (e3 : f3 = cf_rotL f2 (cf_tpar f2 o)) : DS np m f3 ps S o (cf_trig f3 (cf_tpar f3 o)) n := by
  obtain ⟨x, p, lo, hi, rfl, s, sp, a, h1, h2, h3, h4, h5, h6⟩ := h
  have X1 := a.tset a1 b1
  rw [← e1] at X1
  have X2 := X1.tset (cf_tpar f1 (some x)) false
  rw [← e2] at X2
  have l2 : ∀ k j, j ≠ 3 → f2 k j = f k j := fun k j hj => by rw [e2, tset_j hj, e1, tset_j hj]
  have t1 : cf_tpar f1 (some x) = some p := by rw [e1, tpar_t, tpar_s, h1]
  have t2' : cf_tpar f2 (some x) = some p := by rw [tpar_s, l2 _ _ (by decide), h1]
  cases sib with
  | none => exact absurd rfl c
  | some r =>
    have er : f2 p 1 = some r := by rw [l2 _ _ (by decide), h3]
    have X3 := X2.rotL sp er
    rw [t2'] at e3
    rw [← e3] at X3
    obtain ⟨n1, n2, n3⟩ := RL_b X2.1 (X2.s sp) er
    have r0 := X2.1.right (X2.s sp) er
    have q0 := a.1.left (a.s sp) h2
    have bx := a.1.b (a.s s)
    have bp := a.1.b (a.s sp)
    have xp : x ≠ p := fun e => by subst e; omega
    have xr : x ≠ r := fun e => by subst e; omega
    have E3 := E_rotL X2.1 (X2.s sp) er
    have g1 : f3 x 2 = some p := by
      rw [e3, E3, RL2, if_neg xp, if_neg xr, if_neg (show ¬ f2 r 0 = some x from fun q => by
        have := X2.1.left r0.1 q
        omega), l2 _ _ (by decide), h1]
    refine ⟨x, p, _, _, rfl, s, sp, X3, g1, ?_, ?_, ?_, h5, Or.inl ?_⟩
    · rw [e3, E3, RL0, if_pos rfl, l2 _ _ (by decide), h2]
    · rw [tpar_s, g1, trig_s]
    · show (if p = r then lo p else lo p) = 0
      rw [if_neg n1]; exact h4
    · rw [e3, X2.kL (fun i e => by cases e; exact ⟨sp, by rw [er]; simp⟩) (by decide) (by decide), e2, t1, tset_s, t2_s]
      rfl
theorem DS.up (h : DS np m f ps S o sib n) (e1 : f1 = cf_tset f sib false) : DM np m f1 ps S (cf_tpar f1 o) n := by
  obtain ⟨x, p, lo, hi, rfl, s, sp, a, h1, h2, h3, h4, h5, h6⟩ := h
  have X1 := a.tset sib false
  rw [← e1] at X1
  refine ⟨p, lo, hi, by rw [e1, tpar_t, tpar_s, h1], sp, X1, h4, ?_⟩
  rcases h6 with h6 | h6
  · refine Or.inr ⟨h5, Or.inr ?_⟩
    rw [e1]
    cases sib with
    | none => exact h6
    | some r =>
      have := a.1.right (a.s sp) h3
      have bp := a.1.b (a.s sp)
      rw [tset_s, t2_k (show p ≠ r from fun e => by subst e; omega)]
      exact h6
  · exact Or.inl h6
theorem DS.e1 (h : DS np m f ps S o sib n) (c : ¬ bI (cf_tcol f (cf_trig f sib)) = 1) : DE f S o sib n := by
  obtain ⟨x, p, lo, hi, rfl, s, sp, a, h1, h2, h3, h4, h5, h6⟩ := h
  refine ⟨x, p, rfl, sp, h1, h3, ?_, h5⟩
  rintro rfl
  exact c rfl
theorem DS.h2 (h : DS np m f ps S o sib n) (c : ¬ (bI (cf_tcol f (cf_tlef f sib)) = 1 ∧ bI (cf_tcol f (cf_trig f sib)) = 1)) (d : bI (cf_tcol f (cf_trig f sib)) = 1) {a1 a2 : Option Nat} {b1 b2 : Bool} (e1 : f1 = cf_tset f a1 b1) (e2 : f2 = cf_tset f1 a2 b2) : hR S f2 sib := fun i e => by
  refine ⟨h.os i e, ?_⟩
  subst e
  rw [e2, tset_j (by decide), e1, tset_j (by decide)]
  intro q
  exact c ⟨by rw [tlef_s, q]; rfl, d⟩
theorem DS.v2 (hd : DS np m f ps S o sib n) {a1 a2 : Option Nat} {b1 b2 : Bool} (e1 : f1 = cf_tset f a1 b1) (e2 : f2 = cf_tset f1 a2 b2) (hR' : hR S f2 sib) (e3 : f3 = cf_rotR f2 sib) (hv : LV S ps F f2) : LV S ps F f3 := by
  obtain ⟨x, p, lo, hi, rfl, s, sp, a, h1, h2, h3, h4, h5, h6⟩ := hd
  have X2 := (a.tset a1 b1).tset a2 b2
  rw [← e1, ← e2] at X2
  rw [e3]
  refine LV.rotR X2 hR' (fun i e => ?_) hv
  have := a.1.right (a.s sp) (h3.trans e)
  have := a.1.b (a.s sp)
  omega
theorem DS.e2 (hd : DS np m f ps S o sib n) {a1 a2 : Option Nat} {b1 b2 : Bool} (e1 : f1 = cf_tset f a1 b1) (e2 : f2 = cf_tset f1 a2 b2) (hR' : hR S f2 sib) (hn : ¬ sib = none) (e3 : f3 = cf_rotR f2 sib) : DE f3 S o (cf_trig f3 (cf_tpar f3 o)) n := by
  obtain ⟨x, p, lo, hi, rfl, s, sp, a, h1, h2, h3, h4, h5, h6⟩ := hd
  have X2 := (a.tset a1 b1).tset a2 b2
  rw [← e1, ← e2] at X2
  have l2 : ∀ k j, j ≠ 3 → f2 k j = f k j := fun k j hj => by rw [e2, tset_j hj, e1, tset_j hj]
  cases sib with
  | none => exact absurd rfl hn
  | some q =>
    obtain ⟨sq, hl⟩ := hR' q rfl
    have el := P_some hl
    have E3 := E_rotR X2.1 (X2.s sq) el
    have q0 := a.1.right (a.s sp) h3
    have x0 := a.1.left (a.s sp) h2
    have l0 := X2.1.left (X2.s sq) el
    have bl := X2.1.b l0.1
    have bq := X2.1.b (X2.s sq)
    have bp := X2.1.b (X2.s sp)
    have bx := X2.1.b (X2.s s)
    have xq : x ≠ q := fun e => by subst e; omega
    have xl : x ≠ (f2 q 0).getD 0 := fun e => by rw [← e] at l0 bl; omega
    have pq : p ≠ q := fun e => by subst e; omega
    have pl : p ≠ (f2 q 0).getD 0 := fun e => by rw [← e] at l0 bl; omega
    have g1 : f3 x 2 = some p := by
      rw [e3, E3]
      show RL (mir f2) q _ x 2 = some p
      rw [RL2, if_neg xq, if_neg xl, if_neg (show ¬ mir f2 ((f2 q 0).getD 0) 0 = some x from fun w => by
        have := X2.1.right l0.1 w
        omega), mir2, l2 _ _ (by decide), h1]
    have g2 : f3 p 1 = some ((f2 q 0).getD 0) := by
      rw [e3, E3]
      show RL (mir f2) q _ p 0 = some _
      rw [RL0, if_neg pq, if_neg pl, if_pos (show mir f2 q 2 = some p ∧ mir f2 p 0 = some q from ⟨by rw [mir2, l2 _ _ (by decide)]; exact q0.2.2.2, by rw [mir0, l2 _ _ (by decide)]; exact h3⟩)]
    refine ⟨x, p, rfl, sp, g1, by rw [tpar_s, g1, trig_s], ?_, h5⟩
    rw [tpar_s, g1, trig_s, g2]
    simp
theorem DE.hh (h : DE f S o sib n) {a1 a2 a3 : Option Nat} {b1 b2 b3 : Bool} (e1 : f1 = cf_tset f a1 b1) (e2 : f2 = cf_tset f1 a2 b2) (e3 : f3 = cf_tset f2 a3 b3) : hL S f3 (cf_tpar f3 o) := fun i e => by
  obtain ⟨x, p, rfl, sp, h1, h3, h4, h5⟩ := h
  subst e1
  subst e2
  subst e3
  simp only [tpar_t] at e
  rw [tpar_s, h1] at e
  cases e
  refine ⟨sp, ?_⟩
  rw [tset_j (by decide), tset_j (by decide), tset_j (by decide), h3]
  exact h4
theorem DM.root (hY : TY np m f ps S) {k : Nat} (hk : S k) (hn : 1 ≤ n) : DM np m f ps S (f 0 6) n := by
  have h0 := hY.rot hk
  obtain ⟨lo, hi, hX⟩ := hY
  have r := hX.1.rt (P_some h0)
  exact ⟨(f 0 6).getD 0, lo, hi, P_some h0, (hX.2 _).mpr r.1, hX, r.2.1, Or.inr ⟨hn, Or.inl (P_some h0)⟩⟩
theorem DM.init (hX : TX np m f lo hi ps S) {x : Nat} (hx : S x) (h0 : lo x = 0) : DM np m f ps S (some x) (m + 3) := ⟨x, lo, hi, rfl, hx, hX, h0, Or.inl (by omega)⟩
end T6

