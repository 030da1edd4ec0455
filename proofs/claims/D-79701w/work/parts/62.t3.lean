set_option maxRecDepth 100000
/-! T3: the tree by its nodes alone (S: which are in it), for the repairs -/
def TX (np m : Nat) (f : tT) (lo hi ps : Nat → Nat) (S : Nat → Prop) : Prop := TI np m f lo hi ps ∧ ∀ i, S i ↔ lo i < hi i
def TY (np m : Nat) (f : tT) (ps : Nat → Nat) (S : Nat → Prop) : Prop := ∃ lo hi, TX np m f lo hi ps S
def OS (S : Nat → Prop) (o : Option Nat) : Prop := ∀ i, o = some i → S i
def KV (f g : tT) : Prop := ∀ k j, j = 4 ∨ j = 5 → g k j = f k j
theorem mt0 {f : tT} {k : Nat} {x : Option Nat} : mir (t2 f k 0 x) = t2 (mir f) k 1 x := by
  funext a b
  by_cases b0 : b = 0
  · subst b0
    rw [mir0, t2_j (by decide), t2_j (by decide), mir0]
  · by_cases b1 : b = 1
    · subst b1
      by_cases e : a = k
      · subst e; rw [mir1, t2_s, t2_s]
      · rw [mir1, t2_k e, t2_k e, mir1]
    · rw [mirj (by omega), t2_j b0, t2_j b1, mirj (by omega)]
theorem mt1 {f : tT} {k : Nat} {x : Option Nat} : mir (t2 f k 1 x) = t2 (mir f) k 0 x := by
  rw [← mir_mir (t2 (mir f) k 0 x), mt0, mir_mir]
theorem mtj {f : tT} {k j : Nat} {x : Option Nat} (h : 2 ≤ j) : mir (t2 f k j x) = t2 (mir f) k j x := by
  funext a b
  by_cases b0 : b = 0
  · subst b0
    rw [mir0, t2_j (by omega), t2_j (by omega), mir0]
  · by_cases b1 : b = 1
    · subst b1
      rw [mir1, t2_j (by omega), t2_j (by omega), mir1]
    · rw [mirj (by omega)]
      by_cases e : a = k
      · subst e
        by_cases e2 : b = j
        · subst e2; rw [t2_s, t2_s]
        · rw [t2_j e2, t2_j e2, mirj (by omega)]
      · rw [t2_k e, t2_k e, mirj (by omega)]
theorem mt2 {f : tT} {k : Nat} {x : Option Nat} : mir (t2 f k 2 x) = t2 (mir f) k 2 x := mtj (by decide)
theorem mt6 {f : tT} {k : Nat} {x : Option Nat} : mir (t2 f k 6 x) = t2 (mir f) k 6 x := mtj (by decide)
theorem mir6 {f : tT} : mir f 0 6 = f 0 6 := rfl
theorem mir_ite {c : Prop} (hc : Decidable c) {x y : tT} : mir (@ite tT c hc x y) = @ite tT c hc (mir x) (mir y) := by
  by_cases e : c
  · rw [if_pos e, if_pos e]
  · rw [if_neg e, if_neg e]
section T3
variable {np m : Nat} {f g : tT} {lo hi ps : Nat → Nat} {S : Nat → Prop} {o : Option Nat} {b : Bool}
theorem E_rotR0 : cf_rotR f o = mir (cf_rotL (mir f) o) := by
  rw [cf_rotR, cf_rotL]
  simp only [mir_ite]
  try simp only [mir_ite]
  try simp only [mir_ite]
  try simp only [mir_ite]
  try simp only [mir_ite]
  simp only [mt0, mt1, mt2, mt6, mir_mir, mir0, mir1, mir2]
theorem E_rotR (h : TI np m f lo hi ps) {p r : Nat} (hp : lo p < hi p) (hr : f p 0 = some r) : cf_rotR f (some p) = RR f p r := by
  have b := h.b hp
  rw [E_rotR0, E_rotL (h.mir) (p := p) (r := r) (show m + 1 - hi p < m + 1 - lo p by omega) hr]
  rfl
theorem TX.ti (h : TX np m f lo hi ps S) : TI np m f lo hi ps := h.1
theorem TX.s (h : TX np m f lo hi ps S) {i : Nat} (hi' : S i) : lo i < hi i := (h.2 i).mp hi'
theorem TX.y (h : TX np m f lo hi ps S) : TY np m f ps S := ⟨lo, hi, h⟩
theorem TY.lt (h : TY np m f ps S) {i : Nat} (hi' : S i) : i < np := by
  obtain ⟨lo, hi, h⟩ := h
  exact (h.ti.b (h.s hi')).1
theorem OS.lt (h : TY np m f ps S) (ho : OS S o) : ∀ i, o = some i → i < np := fun i e => h.lt (ho i e)
theorem OS.some {i : Nat} (h : S i) : OS S (some i) := fun j e => by cases e; exact h
theorem OS.none : OS S none := fun j e => by cases e
theorem OS.par (h : TY np m f ps S) (ho : OS S o) : OS S (cf_tpar f o) := fun i e => by
  obtain ⟨lo, hi, h⟩ := h
  cases o with
  | none => cases e
  | some k =>
    rw [tpar_s] at e
    exact (h.2 i).mpr (h.ti.par (h.s (ho k rfl)) e).1
theorem OS.lef (h : TY np m f ps S) (ho : OS S o) : OS S (cf_tlef f o) := fun i e => by
  obtain ⟨lo, hi, h⟩ := h
  cases o with
  | none => cases e
  | some k =>
    rw [tlef_s] at e
    exact (h.2 i).mpr (h.ti.left (h.s (ho k rfl)) e).1
theorem OS.rig (h : TY np m f ps S) (ho : OS S o) : OS S (cf_trig f o) := fun i e => by
  obtain ⟨lo, hi, h⟩ := h
  cases o with
  | none => cases e
  | some k =>
    rw [trig_s] at e
    exact (h.2 i).mpr (h.ti.right (h.s (ho k rfl)) e).1
theorem OS.rt (h : TY np m f ps S) : OS S (f 0 6) := fun i e => by
  obtain ⟨lo, hi, h⟩ := h
  exact (h.2 i).mpr (h.ti.rt e).1
theorem TY.tset (h : TY np m f ps S) (o : Option Nat) (b : Bool) : TY np m (cf_tset f o b) ps S := by
  obtain ⟨lo, hi, h⟩ := h
  exact ⟨lo, hi, h.1.tset o b, h.2⟩
theorem TX.tset (h : TX np m f lo hi ps S) (o : Option Nat) (b : Bool) : TX np m (cf_tset f o b) lo hi ps S := ⟨h.1.tset o b, h.2⟩
theorem TX.c3 (h : TX np m f lo hi ps S) (k : Nat) (x : Option Nat) : TX np m (t2 f k 3 x) lo hi ps S :=
  ⟨h.1.cong (fun _ => t2_j (by decide)) (fun _ => t2_j (by decide)) (fun _ => t2_j (by decide)) (t2_j (by decide)), h.2⟩
theorem TY.c3 (h : TY np m f ps S) (k : Nat) (x : Option Nat) : TY np m (t2 f k 3 x) ps S := by
  obtain ⟨lo, hi, h⟩ := h
  exact (h.c3 k x).y
theorem TX.rotL (h : TX np m f lo hi ps S) {p r : Nat} (hp : S p) (hr : f p 1 = some r) : TX np m (cf_rotL f (some p)) (fun k => if k = r then lo p else lo k) (fun k => if k = p then ps r else hi k) ps S := by
  have hp' := h.s hp
  rw [E_rotL h.1 hp' hr]
  refine ⟨h.1.RL hp' hr, fun i => ?_⟩
  obtain ⟨r1, r2, r3, r4⟩ := h.1.right hp' hr
  have bp := h.1.b hp'
  have br := h.1.b r1
  rw [h.2 i]
  show lo i < hi i ↔ (if i = r then lo p else lo i) < (if i = p then ps r else hi i)
  by_cases e1 : i = r
  · subst e1
    rw [if_pos rfl, if_neg (show ¬ i = p from fun e => by subst e; omega)]
    omega
  · rw [if_neg e1]
    by_cases e2 : i = p
    · subst e2
      rw [if_pos rfl]
      omega
    · rw [if_neg e2]
theorem TX.rotR (h : TX np m f lo hi ps S) {p r : Nat} (hp : S p) (hr : f p 0 = some r) : TX np m (cf_rotR f (some p)) (fun k => if k = p then ps r else lo k) (fun k => if k = r then hi p else hi k) ps S := by
  have hp' := h.s hp
  rw [E_rotR h.1 hp' hr]
  refine ⟨h.1.RR hp' hr, fun i => ?_⟩
  obtain ⟨r1, r2, r3, r4⟩ := h.1.left hp' hr
  have bp := h.1.b hp'
  have br := h.1.b r1
  rw [h.2 i]
  show lo i < hi i ↔ (if i = p then ps r else lo i) < (if i = r then hi p else hi i)
  by_cases e1 : i = r
  · subst e1
    rw [if_pos rfl, if_neg (show ¬ i = p from fun e => by subst e; omega)]
    omega
  · rw [if_neg e1]
    by_cases e2 : i = p
    · subst e2
      rw [if_pos rfl]
      omega
    · rw [if_neg e2]
def hL (S : Nat → Prop) (f : tT) (o : Option Nat) : Prop := ∀ i, o = some i → S i ∧ ¬ f i 1 = none
def hR (S : Nat → Prop) (f : tT) (o : Option Nat) : Prop := ∀ i, o = some i → S i ∧ ¬ f i 0 = none
theorem TY.rotL (h : TY np m f ps S) (ho : hL S f o) : TY np m (cf_rotL f o) ps S := by
  obtain ⟨lo, hi, h⟩ := h
  cases o with
  | none => exact ⟨lo, hi, h⟩
  | some p =>
    obtain ⟨a, b⟩ := ho p rfl
    exact (h.rotL a (P_some b)).y
theorem TY.rotR (h : TY np m f ps S) (ho : hR S f o) : TY np m (cf_rotR f o) ps S := by
  obtain ⟨lo, hi, h⟩ := h
  cases o with
  | none => exact ⟨lo, hi, h⟩
  | some p =>
    obtain ⟨a, b⟩ := ho p rfl
    exact (h.rotR a (P_some b)).y
theorem TX.kL (h : TX np m f lo hi ps S) (ho : hL S f o) {k j : Nat} (hj : 3 ≤ j) (h6 : j ≠ 6) : cf_rotL f o k j = f k j := by
  cases o with
  | none => rfl
  | some p =>
    obtain ⟨a, b⟩ := ho p rfl
    rw [E_rotL h.1 (h.s a) (P_some b), RLj hj h6]
theorem TX.kR (h : TX np m f lo hi ps S) (ho : hR S f o) {k j : Nat} (hj : 3 ≤ j) (h6 : j ≠ 6) : cf_rotR f o k j = f k j := by
  cases o with
  | none => rfl
  | some p =>
    obtain ⟨a, b⟩ := ho p rfl
    rw [E_rotR h.1 (h.s a) (P_some b)]
    show mir (RL (mir f) p _) k j = f k j
    rw [mirj (by omega), RLj hj h6, mirj (by omega)]
theorem TY.kL (h : TY np m f ps S) (ho : hL S f o) {k j : Nat} (hj : 3 ≤ j) (h6 : j ≠ 6) : cf_rotL f o k j = f k j := by
  obtain ⟨lo, hi, h⟩ := h
  exact h.kL ho hj h6
theorem TY.kR (h : TY np m f ps S) (ho : hR S f o) {k j : Nat} (hj : 3 ≤ j) (h6 : j ≠ 6) : cf_rotR f o k j = f k j := by
  obtain ⟨lo, hi, h⟩ := h
  exact h.kR ho hj h6
theorem KV.rf : KV f f := fun _ _ _ => rfl
theorem KV.tset {h : tT} (a : KV f h) : KV f (cf_tset h o b) := fun k j hj => (tset_j (by omega)).trans (a k j hj)
theorem KV.c3 {h : tT} {i : Nat} {x : Option Nat} (a : KV f h) : KV f (t2 h i 3 x) := fun k j hj => (t2_j (by omega)).trans (a k j hj)
theorem KV.rotL {h : tT} (hY : TY np m h ps S) (ho : hL S h o) (a : KV f h) : KV f (cf_rotL h o) := fun k j hj => (hY.kL ho (by omega) (by omega)).trans (a k j hj)
theorem KV.rotR {h : tT} (hY : TY np m h ps S) (ho : hR S h o) (a : KV f h) : KV f (cf_rotR h o) := fun k j hj => (hY.kR ho (by omega) (by omega)).trans (a k j hj)
theorem TY.rot (h : TY np m f ps S) {k : Nat} (hk : S k) : ¬ f 0 6 = none := fun e => by
  obtain ⟨lo, hi, h⟩ := h
  rcases h.1.2.2.2.2.1 with ⟨_, _, c⟩ | ⟨t, a, _⟩
  · exact c k (h.s hk)
  · rw [e] at a; cases a
theorem TY.up (h : TY np m f ps S) {k : Nat} (hk : S k) (c : ¬ some k = f 0 6) : ¬ f k 2 = none := fun e => by
  obtain ⟨lo, hi, h⟩ := h
  exact c (h.1.top (h.s hk) e).1.symm
theorem tpar_t {k : Option Nat} : cf_tpar (cf_tset f o b) k = cf_tpar f k := by
  cases k with
  | none => rfl
  | some i => rw [tpar_s, tpar_s, tset_j (by decide)]
theorem tlef_t {k : Option Nat} : cf_tlef (cf_tset f o b) k = cf_tlef f k := by
  cases k with
  | none => rfl
  | some i => rw [tlef_s, tlef_s, tset_j (by decide)]
theorem trig_t {k : Option Nat} : cf_trig (cf_tset f o b) k = cf_trig f k := by
  cases k with
  | none => rfl
  | some i => rw [trig_s, trig_s, tset_j (by decide)]
end T3

