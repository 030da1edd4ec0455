set_option maxRecDepth 100000
/-! Q1: the component's values as the reference's: Rf f, Vf w s f (w: the reference's other rows; s: what was seen before) -/
def Rf (f : Nat → Int32) (p : Nat) : Int32 := if p < 127 then f p else if p < 134 then (if p - 127 < nC f 18 then f (200 + (nC f 18 - 1 - (p - 127))) else 0) else if p < 170 then (if p - 134 < 3 * nC f 19 then f p else 0) else f p
def Vf (w : Nat → Nat → Int32) (s : Int32) (f : Nat → Int32) : Nat → Nat → Int32 := fun r k => if r = 1 then (if k < 170 then Rf f k else if k = 170 then s ||| f 177 else w 1 k) else w r k
section Q1
variable {w : Nat → Nat → Int32} {s : Int32} {f : Nat → Int32} {T np nz ng : Nat}
theorem Rf_at {p : Nat} (h : p < 127) : Rf f p = f p := if_pos h
theorem Vf_at {p : Nat} (h : p < 127) : Vf w s f 1 p = f p := by
  unfold Vf
  rw [if_pos rfl, if_pos (by omega), Rf_at h]
theorem Vf_r {r : Nat} (h : r ≠ 1) : Vf w s f r = w r := by
  funext k
  unfold Vf
  rw [if_neg h]
theorem Vf_170 : Vf w s f 1 170 = s ||| f 177 := by
  unfold Vf
  rw [if_pos rfl, if_neg (by decide), if_pos rfl]
theorem Vf_R {p : Nat} (h : p < 170) : Vf w s f 1 p = Rf f p := by
  unfold Vf
  rw [if_pos rfl, if_pos h]
theorem Vf_hi {p : Nat} (h : 170 < p) : Vf w s f 1 p = w 1 p := by
  unfold Vf
  rw [if_pos rfl, if_neg (by omega), if_neg (by omega)]
theorem Vf_n {p : Nat} (h : p < 127) : nC (Vf w s f 1) p = nC f p := by
  unfold nC
  rw [Vf_at h]
theorem IP_Vf (h : IP T np nz ng (Rf f)) : IP T np nz ng (Vf w s f 1) := h.at fun i => by
  by_cases c : i < 170
  · exact Or.inl (Vf_R c)
  · exact Or.inr (okc_free h.b (by omega))
theorem IP_Rf (h : IP T np nz ng (Vf w s f 1)) : IP T np nz ng (Rf f) := h.at fun i => by
  by_cases c : i < 170
  · exact Or.inl (Vf_R c).symm
  · exact Or.inr (okc_free h.b (by omega))
theorem Rf_cong {g : Nat → Int32} (h : ∀ p, p < 127 → g p = f p) (hn : ∀ j, 200 ≤ j → g j = f j) (he : ∀ p, 134 ≤ p → p < 170 → g p = f p) {p : Nat} (hp : p < 170) : Rf g p = Rf f p := by
  have e18 : nC g 18 = nC f 18 := by unfold nC; rw [h 18 (by decide)]
  have e19 : nC g 19 = nC f 19 := by unfold nC; rw [h 19 (by decide)]
  unfold Rf
  rw [e18, e19]
  by_cases c1 : p < 127
  · rw [if_pos c1, if_pos c1, h p c1]
  · rw [if_neg c1, if_neg c1]
    by_cases c2 : p < 134
    · rw [if_pos c2, if_pos c2, hn _ (by omega)]
    · rw [if_neg c2, if_neg c2, if_pos hp, if_pos hp, he p (by omega) hp]
theorem Vf_up {p : Nat} {x : Int32} (h : p < 127) (h18 : p ≠ 18) (h19 : p ≠ 19) : Vf w s (upd f p x) = u2 (Vf w s f) 1 p x := by
  have e : ∀ q, q ≠ p → upd f p x q = f q := fun q hq => pk_un hq
  have e18 : nC (upd f p x) 18 = nC f 18 := by unfold nC; rw [e 18 (Ne.symm h18)]
  have e19 : nC (upd f p x) 19 = nC f 19 := by unfold nC; rw [e 19 (Ne.symm h19)]
  funext r k
  by_cases hr : r = 1
  · subst hr
    by_cases hk : k = p
    · subst hk
      rw [u2_s, Vf_at h, pk_us]
    · rw [u2_k hk]
      by_cases c : k < 170
      · rw [Vf_R c, Vf_R c]
        unfold Rf
        rw [e18, e19, e k hk, e (200 + (nC f 18 - 1 - (k - 127))) (by omega)]
      · by_cases c2 : k = 170
        · subst c2
          rw [Vf_170, Vf_170, e 177 (by omega)]
        · rw [Vf_hi (by omega), Vf_hi (by omega)]
  · rw [u2_r hr, Vf_r hr, Vf_r hr]
theorem Vf_hid {p : Nat} {x : Int32} (h : 170 ≤ p) (h7 : p ≠ 177) (h2 : p < 200) : Vf w s (upd f p x) = Vf w s f := by
  have e : ∀ q, q ≠ p → upd f p x q = f q := fun q hq => pk_un hq
  funext r k
  by_cases hr : r = 1
  · subst hr
    by_cases c : k < 170
    · rw [Vf_R c, Vf_R c]
      exact Rf_cong (fun q hq => e q (by omega)) (fun q hq => e q (by omega)) (fun q _ hq => e q (by omega)) c
    · by_cases c2 : k = 170
      · subst c2
        rw [Vf_170, Vf_170, e 177 (by omega)]
      · rw [Vf_hi (by omega), Vf_hi (by omega)]
  · rw [Vf_r hr, Vf_r hr]
theorem Vf_told {b : Int32} : Vf w s (upd f 177 (f 177 ||| b)) = u2 (Vf w s f) 1 170 ((Vf w s f) 1 170 ||| b) := by
  have e : ∀ q, q ≠ 177 → upd f 177 (f 177 ||| b) q = f q := fun q hq => pk_un hq
  funext r k
  by_cases hr : r = 1
  · subst hr
    by_cases c : k < 170
    · rw [u2_k (by omega), Vf_R c, Vf_R c]
      exact Rf_cong (fun q hq => e q (by omega)) (fun q hq => e q (by omega)) (fun q _ hq => e q (by omega)) c
    · by_cases c2 : k = 170
      · subst c2
        rw [u2_s, Vf_170, Vf_170, pk_us, Int32.or_assoc]
      · rw [u2_k c2, Vf_hi (by omega), Vf_hi (by omega)]
  · rw [u2_r hr, Vf_r hr, Vf_r hr]
/-- what was told before a minute is kept in s -/
theorem Vf_new : Vf w (s ||| f 177) (upd f 177 0) = Vf w s f := by
  have e : ∀ q, q ≠ 177 → upd f 177 0 q = f q := fun q hq => pk_un hq
  funext r k
  by_cases hr : r = 1
  · subst hr
    by_cases c : k < 170
    · rw [Vf_R c, Vf_R c]
      exact Rf_cong (fun q hq => e q (by omega)) (fun q hq => e q (by omega)) (fun q _ hq => e q (by omega)) c
    · by_cases c2 : k = 170
      · subst c2
        rw [Vf_170, Vf_170, pk_us, Int32.or_zero]
      · rw [Vf_hi (by omega), Vf_hi (by omega)]
  · rw [Vf_r hr, Vf_r hr]
-- ---- the small ones
theorem E_between (x y z : Int64) : cf_isBetween x y z = mf_in x y z := rfl
theorem E_runs {k : Nat} (hk : k < 6) : cf_runs f k = mf_runs (Vf w s f) k := by
  simp only [cf_runs, mf_runs, mf_of, cf_runs_12, mf_runs_14, Vf_at (show 39 + (8 * k) + 4 < 127 by omega)]
theorem sub1_0 (x : Int32) : 1 - x = 0 ↔ x = 1 := by
  constructor
  · intro h
    have h2 : 1 - x + x = 0 + x := by rw [h]
    rw [Int32.sub_add_cancel, Int32.zero_add] at h2
    exact h2.symm
  · rintro rfl; rfl
theorem E_isReady {k : Nat} (hk : k < 6) : cf_isReady f k = mf_isReady (Vf w s f) k := by
  have h1 : mf_of (Vf w s f) k 3 = f (39 + (8 * k) + 3) := Vf_at (by omega)
  simp only [cf_isReady, mf_isReady, cf_isReady_19, cf_isReady_18, mf_isReady_23, mf_isReady_22, h1, sub1_0, E_runs (w := w) (s := s) hk]
theorem E_running_4 (hn : nC f 14 ≤ 6) : ∀ (n : Nat) (i : Int32) (k : Nat), cf_running_4 f n i k = mf_running_4 (Vf w s f) n i k := by
  intro n
  induction n with
  | zero => intro i k; rfl
  | succ n ih =>
    intro i k
    rw [cf_running_4, mf_running_4, Vf_n (by decide)]
    by_cases c : nC f 14 ≤ k
    · rw [if_pos c, if_pos c]
    · rw [if_neg c, if_neg c, E_runs (w := w) (s := s) (show k < 6 by omega)]
      simp only [cf_running_38, mf_running_29, ih]
theorem E_running (hn : nC f 14 ≤ 6) : cf_running f = mf_running (Vf w s f) := E_running_4 hn _ _ _
theorem E_openZones_4 (hz : nC f 15 ≤ 8) (hb : ∀ k, k < 8 → rg (f (87 + (2 * k) + 1)) 1) : ∀ (n : Nat) (i : Int32) (k : Nat), cf_openZones_4 f n i k = mf_openZones_4 (Vf w s f) n i k := by
  intro n
  induction n with
  | zero => intro i k; rfl
  | succ n ih =>
    intro i k
    rw [cf_openZones_4, mf_openZones_4, Vf_n (by decide)]
    by_cases c : nC f 15 ≤ k
    · rw [if_pos c, if_pos c]
    · rw [if_neg c, if_neg c]
      have h1 : Vf w s f 1 (87 + (2 * k) + 1) = f (87 + (2 * k) + 1) := Vf_at (by omega)
      obtain ⟨j, hj, e⟩ := hb k (by omega)
      obtain rfl | rfl : j = 0 ∨ j = 1 := by omega
      · have e1 : mf_isOpen (Vf w s f) k = false := by
          simp only [mf_isOpen, mf_isOpen_22, h1, e]; rfl
        rw [if_pos (by rw [e]; rfl), e1, if_neg (by decide)]
        simp only [cf_openZones_27, mf_openZones_29, ih]
      · have e1 : mf_isOpen (Vf w s f) k = true := by
          simp only [mf_isOpen, mf_isOpen_22, h1, e]; rfl
        rw [if_neg (by rw [e]; decide), e1, if_pos rfl]
        simp only [cf_openZones_27, mf_openZones_29, ih]
theorem E_openZones (hz : nC f 15 ≤ 8) (hb : ∀ k, k < 8 → rg (f (87 + (2 * k) + 1)) 1) : cf_openZones f = mf_openZones (Vf w s f) := E_openZones_4 hz hb _ _ _
theorem E_isOpen {k : Nat} (hk : k < 8) (hb : rg (f (87 + (2 * k) + 1)) 1) : (f (87 + (2 * k) + 1) = 0 ↔ ¬ mf_isOpen (Vf w s f) k = true) := by
  have h1 : Vf w s f 1 (87 + (2 * k) + 1) = f (87 + (2 * k) + 1) := Vf_at (by omega)
  obtain ⟨j, hj, e⟩ := hb
  obtain rfl | rfl : j = 0 ∨ j = 1 := by omega
  · simp only [mf_isOpen, mf_isOpen_22, h1, e]; decide
  · simp only [mf_isOpen, mf_isOpen_22, h1, e]; decide
theorem E_takes {k : Nat} (hk : k < 8) (hb : rg (f (87 + (2 * k) + 1)) 1) : cf_demandOf f k (f 1) = mf_takes (Vf w s f) k := by
  have h := E_isOpen (w := w) (s := s) hk hb
  simp only [cf_demandOf, mf_takes, cf_demandOf_25, mf_takes_34, Vf_at (show 87 + (2 * k) < 127 by omega), Vf_at (show 1 < 127 by decide)]
  by_cases c : f (87 + (2 * k) + 1) = 0
  · rw [if_pos c, if_neg (h.mp c)]
  · rw [if_neg c, if_pos (Classical.byContradiction fun q => c (h.mpr q))]
theorem E_demand_13 (hz : nC f 15 ≤ 8) (hb : ∀ k, k < 8 → rg (f (87 + (2 * k) + 1)) 1) : ∀ (n : Nat) (i : Int32) (k : Nat), cf_demand_13 f (f 1) n i k = mf_demand_21 (Vf w s f) n i k := by
  intro n
  induction n with
  | zero => intro i k; rfl
  | succ n ih =>
    intro i k
    rw [cf_demand_13, mf_demand_21, Vf_n (by decide)]
    by_cases c : nC f 15 ≤ k
    · rw [if_pos c, if_pos c]
    · rw [if_neg c, if_neg c, E_takes (w := w) (s := s) (by omega) (hb k (by omega)), ih]
theorem E_demand (hz : nC f 15 ≤ 8) (hb : ∀ k, k < 8 → rg (f (87 + (2 * k) + 1)) 1) : cf_demand f (f 1) = mf_demand (Vf w s f) := by
  rw [cf_demand, mf_demand, E_demand_13 (w := w) (s := s) hz hb, Vf_at (by decide), Vf_at (by decide)]
theorem E_forget : Vf w s (cf_forget f) = mf_beginAnew (Vf w s f) := by
  rw [cf_forget, mf_beginAnew, Vf_up (by decide) (by decide) (by decide), Vf_up (by decide) (by decide) (by decide), Vf_up (by decide) (by decide) (by decide)]
-- ---- tell
theorem event_3_at (v : Nat → Nat → Int32) (kind k : Int32) : ∀ (n m : Nat) (u : Nat → Nat → Int32), 2 ≤ m → m ≤ 35 → m < n + 2 → ∀ p, mf_event_3 v kind k n m u 1 p =
    if p = 134 then kind else if p = 135 then u 1 0 else if p = 136 then k else if 137 ≤ p ∧ p ≤ 134 + m then u 1 (p - 3) else if p = 19 then (if (12 : Int32) ≤ u 1 19 then u 1 19 else u 1 19 + 1) else if p = 170 then u 1 170 ||| ((1 : Int32) <<< (kind &&& 31)) else u 1 p := by
  intro n
  induction n with
  | zero => intro m u h1 h2 h3; omega
  | succ n ih =>
    intro m u h1 h2 h3 p
    rw [mf_event_3]
    by_cases c : m < 3
    · have hm : m = 2 := by omega
      subst hm
      rw [if_pos c]
      simp only [mf_event_93]
      have key : ∀ b : Bool, (if (12 : Int32) ≤ u 1 19 then u 1 19 else u 1 19 + 1) = u 1 19 + bI b → (u2 (u2 (u2 (u2 (u2 u 1 134 kind) 1 135 ((u2 u 1 134 kind) 1 0)) 1 136 k) 1 19 (((u2 (u2 (u2 u 1 134 kind) 1 135 ((u2 u 1 134 kind) 1 0)) 1 136 k) 1 19) + (bI b))) 1 170 (((u2 (u2 (u2 (u2 u 1 134 kind) 1 135 ((u2 u 1 134 kind) 1 0)) 1 136 k) 1 19 (((u2 (u2 (u2 u 1 134 kind) 1 135 ((u2 u 1 134 kind) 1 0)) 1 136 k) 1 19) + (bI b))) 1 170) ||| ((1 : Int32) <<< (kind &&& 31)))) 1 p = if p = 134 then kind else if p = 135 then u 1 0 else if p = 136 then k else if 137 ≤ p ∧ p ≤ 134 + 2 then u 1 (p - 3) else if p = 19 then (if (12 : Int32) ≤ u 1 19 then u 1 19 else u 1 19 + 1) else if p = 170 then u 1 170 ||| ((1 : Int32) <<< (kind &&& 31)) else u 1 p := by
        intro b hb
        rw [hb]
        rw [if_neg (show ¬ (137 ≤ p ∧ p ≤ 134 + 2) by omega)]
        by_cases p1 : p = 134
        · subst p1; simp [u2]
        · by_cases p2 : p = 135
          · subst p2; simp [u2]
          · by_cases p3 : p = 136
            · subst p3; simp [u2]
            · by_cases p4 : p = 19
              · subst p4; simp [u2]
              · by_cases p5 : p = 170
                · subst p5; simp [u2]
                · simp [u2, p1, p2, p3, p4, p5]
      have e19 : (u2 (u2 (u2 u 1 134 kind) 1 135 ((u2 u 1 134 kind) 1 0)) 1 136 k) 1 19 = u 1 19 := by
        rw [u2_k (by decide), u2_k (by decide), u2_k (by decide)]
      rw [e19]
      by_cases c2 : (12 : Int32) ≤ u 1 19
      · rw [if_pos c2, ← e19]
        exact key false (by rw [if_pos c2]; simp [bI])
      · rw [if_neg c2, ← e19]
        exact key true (by rw [if_neg c2]; simp [bI])
    · rw [if_neg c, ih (m - 1) _ (by omega) (by omega) (by omega)]
      have e : ∀ q, q ≠ 134 + m → u2 u 1 (134 + m) (u 1 ((134 + m) - 3)) 1 q = u 1 q := fun q hq => u2_k hq
      rw [e 0 (by omega), e 19 (by omega), e 170 (by omega)]
      by_cases c1 : 137 ≤ p ∧ p ≤ 134 + (m - 1)
      · rw [if_pos c1, if_pos (show 137 ≤ p ∧ p ≤ 134 + m by omega), e (p - 3) (by omega)]
      · rw [if_neg c1]
        by_cases c2 : p = 134 + m
        · subst c2
          rw [u2_s, if_pos (show 137 ≤ 134 + m ∧ 134 + m ≤ 134 + m by omega), if_neg (show ¬ 134 + m = 134 by omega), if_neg (show ¬ 134 + m = 134 by omega), if_neg (show ¬ 134 + m = 135 by omega), if_neg (show ¬ 134 + m = 135 by omega), if_neg (show ¬ 134 + m = 136 by omega), if_neg (show ¬ 134 + m = 136 by omega), if_neg (show ¬ 134 + m = 19 by omega), if_neg (show ¬ 134 + m = 170 by omega)]
        · rw [e p c2, if_neg (show ¬ (137 ≤ p ∧ p ≤ 134 + m) by omega)]
theorem event_at (v : Nat → Nat → Int32) (kind k : Int32) (p : Nat) : mf_event v kind k 1 p =
    if p = 134 then kind else if p = 135 then v 1 0 else if p = 136 then k else if 137 ≤ p ∧ p ≤ 169 then v 1 (p - 3) else if p = 19 then (if (12 : Int32) ≤ v 1 19 then v 1 19 else v 1 19 + 1) else if p = 170 then v 1 170 ||| ((1 : Int32) <<< (kind &&& 31)) else v 1 p := event_3_at v kind k 40 35 v (by decide) (by decide) (by decide) p
theorem tell_34_at (f0 : Nat → Int32) (kind k : Int32) : ∀ (n m : Nat) (u : Nat → Int32), m ≤ 11 → m < n → ∀ p, cf_tell_34 f0 kind k n m u p =
    if p = 134 then kind else if p = 135 then u 0 else if p = 136 then k else if 137 ≤ p ∧ p < 137 + 3 * m then u (p - 3) else u p := by
  intro n
  induction n with
  | zero => intro m u h1 h2; omega
  | succ n ih =>
    intro m u h1 h2 p
    rw [cf_tell_34]
    by_cases c : m = 0
    · subst c
      rw [if_pos rfl, if_neg (show ¬ (137 ≤ p ∧ p < 137 + 3 * 0) by omega)]
      by_cases p1 : p = 134
      · subst p1; simp [upd]
      · by_cases p2 : p = 135
        · subst p2; simp [upd]
        · by_cases p3 : p = 136
          · subst p3; simp [upd]
          · simp [upd, p1, p2, p3]
    · rw [if_neg c, ih (m - 1) _ (by omega) (by omega)]
      have e3 : 134 + (3 * m) = 137 + 3 * (m - 1) := by omega
      have eq : ∀ q, (upd (upd (upd u (134 + (3 * m)) (u (134 + (3 * (m - 1))))) (134 + (3 * m) + 1) ((upd u (134 + (3 * m)) (u (134 + (3 * (m - 1))))) (134 + (3 * (m - 1)) + 1))) (134 + (3 * m) + 2) ((upd (upd u (134 + (3 * m)) (u (134 + (3 * (m - 1))))) (134 + (3 * m) + 1) ((upd u (134 + (3 * m)) (u (134 + (3 * (m - 1))))) (134 + (3 * (m - 1)) + 1))) (134 + (3 * (m - 1)) + 2))) q = if 137 + 3 * (m - 1) ≤ q ∧ q < 137 + 3 * m then u (q - 3) else u q := by
        intro q
        by_cases q2 : q = 134 + (3 * m) + 2
        · subst q2
          rw [pk_us, if_pos (by omega), pk_un (by omega), pk_un (by omega)]
          congr 1
          omega
        · rw [pk_un q2]
          by_cases q1 : q = 134 + (3 * m) + 1
          · subst q1
            rw [pk_us, if_pos (by omega), pk_un (by omega)]
            congr 1
            omega
          · rw [pk_un q1]
            by_cases q0 : q = 134 + (3 * m)
            · subst q0
              rw [pk_us, if_pos (by omega)]
              congr 1
              omega
            · rw [pk_un q0, if_neg (by omega)]
      rw [eq 0, eq p, eq (p - 3), if_neg (show ¬ (137 + 3 * (m - 1) ≤ 0 ∧ 0 < 137 + 3 * m) by omega)]
      by_cases c1 : 137 ≤ p ∧ p < 137 + 3 * (m - 1)
      · rw [if_pos c1, if_neg (show ¬ (137 + 3 * (m - 1) ≤ p - 3 ∧ p - 3 < 137 + 3 * m) by omega), if_pos (show 137 ≤ p ∧ p < 137 + 3 * m by omega)]
      · rw [if_neg c1]
        by_cases c2 : 137 + 3 * (m - 1) ≤ p ∧ p < 137 + 3 * m
        · rw [if_pos c2, if_pos (show 137 ≤ p ∧ p < 137 + 3 * m by omega)]
        · rw [if_neg c2, if_neg (show ¬ (137 ≤ p ∧ p < 137 + 3 * m) by omega)]
theorem jmin_eq {ne : Nat} (hn : ne ≤ 12) : jmin 12 (nI ne + 1) = nI (min 12 (ne + 1)) := by
  rw [nI_1]
  unfold jmin
  by_cases c : nI (ne + 1) < 12
  · have := (nI_ltI (a := ne + 1) (b := 12) (by omega) (by omega)).mp c
    rw [if_pos c, show min 12 (ne + 1) = ne + 1 by omega]
  · have : ¬ ne + 1 < 12 := fun q => c ((nI_ltI (a := ne + 1) (b := 12) (by omega) (by omega)).mpr q)
    rw [if_neg c, show min 12 (ne + 1) = 12 by omega]
    rfl
theorem tell_at {ne : Nat} (he : f 19 = nI ne) (hn : ne ≤ 12) (kind k : Int32) (p : Nat) : cf_tell f kind k p =
    if p = 134 then kind else if p = 135 then f 0 else if p = 136 then k else if 137 ≤ p ∧ p < 137 + 3 * (min 12 (ne + 1) - 1) then f (p - 3) else if p = 19 then nI (min 12 (ne + 1)) else if p = 177 then f 177 ||| ((1 : Int32) <<< (kind &&& 31)) else f p := by
  have e19 : (upd f 177 ((f 177) ||| ((1 : Int32) <<< (kind &&& 31)))) 19 = nI ne := (pk_un (by decide)).trans he
  have ej := jmin_eq hn
  rw [cf_tell, e19, ej]
  have ec : nC (upd (upd f 177 ((f 177) ||| ((1 : Int32) <<< (kind &&& 31)))) 19 (nI (min 12 (ne + 1)))) 19 = min 12 (ne + 1) := nC_of pk_us (by omega)
  rw [ec, tell_34_at _ _ _ _ _ _ (by omega) (by omega), pk_un (by decide), pk_un (by decide)]
  by_cases c : 137 ≤ p ∧ p < 137 + 3 * (min 12 (ne + 1) - 1)
  · rw [if_pos c, if_pos c, pk_un (by omega), pk_un (by omega)]
  · rw [if_neg c, if_neg c]
    by_cases p4 : p = 19
    · subst p4
      rw [if_pos rfl, pk_us]
    · rw [if_neg p4, pk_un p4]
      by_cases p5 : p = 177
      · subst p5
        rw [if_pos rfl, pk_us]
      · rw [if_neg p5, pk_un p5]
theorem E_tell (he : rg (f 19) 12) (kind k : Int32) : Vf w s (cf_tell f kind k) = mf_event (Vf w s f) kind k := by
  obtain ⟨ne, hn, he⟩ := he
  have ta := tell_at he hn kind k
  have t19 : nC (cf_tell f kind k) 19 = min 12 (ne + 1) := nC_of (by rw [ta 19]; rfl) (by omega)
  have t18 : nC (cf_tell f kind k) 18 = nC f 18 := by
    unfold nC
    rw [ta 18]
    rfl
  have f19 : nC f 19 = ne := nC_of he (by omega)
  funext r p
  by_cases hr : r = 1
  · subst hr
    rw [event_at]
    by_cases c : p < 170
    · rw [Vf_R c]
      unfold Rf
      rw [t18, t19]
      by_cases c1 : p < 127
      · rw [if_pos c1, ta p, if_neg (show ¬ p = 134 by omega), if_neg (show ¬ p = 135 by omega), if_neg (show ¬ p = 136 by omega), if_neg (show ¬ (137 ≤ p ∧ p < 137 + 3 * (min 12 (ne + 1) - 1)) by omega), if_neg (show ¬ p = 134 by omega), if_neg (show ¬ p = 135 by omega), if_neg (show ¬ p = 136 by omega), if_neg (show ¬ (137 ≤ p ∧ p ≤ 169) by omega)]
        by_cases c9 : p = 19
        · subst c9
          rw [if_pos rfl, if_pos rfl, Vf_at (by decide), he]
          by_cases q : (12 : Int32) ≤ nI ne
          · have := (nI_leI (a := 12) (b := ne) (by omega) (by omega)).mp q
            rw [if_pos q, show min 12 (ne + 1) = ne by omega]
          · have : ¬ 12 ≤ ne := fun z => q ((nI_leI (a := 12) (b := ne) (by omega) (by omega)).mpr z)
            rw [if_neg q, nI_1, show min 12 (ne + 1) = ne + 1 by omega]
        · rw [if_neg c9, if_neg c9, if_neg (show ¬ p = 177 by omega), if_neg (show ¬ p = 170 by omega), Vf_at c1]
      · rw [if_neg c1]
        by_cases c2 : p < 134
        · rw [if_pos c2, if_neg (show ¬ p = 134 by omega), if_neg (show ¬ p = 135 by omega), if_neg (show ¬ p = 136 by omega), if_neg (show ¬ (137 ≤ p ∧ p ≤ 169) by omega), if_neg (show ¬ p = 19 by omega), if_neg (show ¬ p = 170 by omega), Vf_R c]
          unfold Rf
          rw [if_neg c1, if_pos c2, ta (200 + (nC f 18 - 1 - (p - 127))), if_neg (show ¬ 200 + (nC f 18 - 1 - (p - 127)) = 134 by omega), if_neg (show ¬ 200 + (nC f 18 - 1 - (p - 127)) = 135 by omega), if_neg (show ¬ 200 + (nC f 18 - 1 - (p - 127)) = 136 by omega), if_neg (show ¬ (137 ≤ 200 + (nC f 18 - 1 - (p - 127)) ∧ 200 + (nC f 18 - 1 - (p - 127)) < 137 + 3 * (min 12 (ne + 1) - 1)) by omega), if_neg (show ¬ 200 + (nC f 18 - 1 - (p - 127)) = 19 by omega), if_neg (show ¬ 200 + (nC f 18 - 1 - (p - 127)) = 177 by omega)]
        · rw [if_neg c2, if_pos c, ta p]
          by_cases d1 : p = 134
          · rw [if_pos d1, if_pos d1, if_pos (by omega)]
          · rw [if_neg d1, if_neg d1]
            by_cases d2 : p = 135
            · rw [if_pos d2, if_pos d2, if_pos (by omega), Vf_at (by decide)]
            · rw [if_neg d2, if_neg d2]
              by_cases d3 : p = 136
              · rw [if_pos d3, if_pos d3, if_pos (by omega)]
              · rw [if_neg d3, if_neg d3, if_pos (show 137 ≤ p ∧ p ≤ 169 by omega), Vf_R (by omega)]
                unfold Rf
                rw [if_neg (show ¬ p - 3 < 127 by omega), if_neg (show ¬ p - 3 < 134 by omega), if_pos (show p - 3 < 170 by omega), f19]
                by_cases c4 : p - 134 < 3 * min 12 (ne + 1)
                · rw [if_pos c4, if_pos (show 137 ≤ p ∧ p < 137 + 3 * (min 12 (ne + 1) - 1) by omega), if_pos (show p - 3 - 134 < 3 * ne by omega)]
                · rw [if_neg c4, if_neg (show ¬ p - 3 - 134 < 3 * ne by omega)]
    · by_cases c2 : p = 170
      · subst c2
        have e1 : cf_tell f kind k 177 = f 177 ||| ((1 : Int32) <<< (kind &&& 31)) := by
          rw [ta 177, if_neg (by omega), if_neg (by omega), if_neg (by omega), if_neg (by omega), if_neg (by omega), if_pos rfl]
        rw [Vf_170, Vf_170, e1, if_neg (by omega), if_neg (by omega), if_neg (by omega), if_neg (by omega), if_neg (by omega), if_pos rfl, Int32.or_assoc]
      · rw [Vf_hi (by omega), if_neg (show ¬ p = 134 by omega), if_neg (show ¬ p = 135 by omega), if_neg (show ¬ p = 136 by omega), if_neg (show ¬ (137 ≤ p ∧ p ≤ 169) by omega), if_neg (show ¬ p = 19 by omega), if_neg c2, Vf_hi (by omega)]
  · rw [event_row hr, Vf_r hr, Vf_r hr]
theorem tell_rg (he : rg (f 19) 12) (kind k : Int32) : rg (cf_tell f kind k 19) 12 := by
  obtain ⟨ne, hn, he⟩ := he
  rw [tell_at he hn]
  exact ⟨min 12 (ne + 1), by omega, rfl⟩
theorem tell_fr (he : rg (f 19) 12) (kind k : Int32) {p : Nat} (hp : p < 134) (h : p ≠ 19) : cf_tell f kind k p = f p := by
  obtain ⟨ne, hn, he⟩ := he
  rw [tell_at he hn, if_neg (by omega), if_neg (by omega), if_neg (by omega), if_neg (by omega), if_neg h, if_neg (by omega)]
theorem E_tell1 (he : rg (f 19) 12) (kind : Int32) : Vf w s (cf_tell1 f kind) = mf_event (Vf w s f) kind (-1) := E_tell he kind _
theorem E_goOn (he : rg (f 19) 12) : Vf w s (cf_goOn f) = mf_event (u2 (Vf w s f) 1 5 0) 5 (-1) := by
  rw [cf_goOn, cf_goOn_c7, E_tell1 (by rw [pk_un (by decide)]; exact he), Vf_up (by decide) (by decide) (by decide)]
theorem canGoOn_iff : cf_canGoOn f = true ↔ (¬ f 5 = 0 ∧ ¬ f 2 < f 32) := by
  rw [cf_canGoOn]
  by_cases c : f 5 = 0
  · rw [if_pos c]; simp [cf_canGoOn_25, cf_canGoOn_26, c]
  · rw [if_neg c]
    by_cases c2 : f 2 < f 32
    · rw [if_pos c2]; simp [cf_canGoOn_25, cf_canGoOn_26, c2]
    · rw [if_neg c2]; simp [cf_canGoOn_26, c, c2]
end Q1
