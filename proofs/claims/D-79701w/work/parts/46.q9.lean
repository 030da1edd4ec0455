set_option maxRecDepth 100000
set_option maxRecDepth 100000
/-! Q9: watch, stage, rotate -/
section Q9
variable {w : Nat → Nat → Int32} {s : Int32} {f g : Nat → Int32} {T np nz ng : Nat}
def vS (v : Nat → Nat → Int32) (x : Int32) : Bool := decide (v 1 4 = -1) || decide (mf_speedOfVariable v = x)
theorem ca_66 (v : Nat → Nat → Int32) (b1 b2 b3 : Bool) : mf_countAll_66 v b1 b2 b3 = mf_countAll_90 v b1 b2 b3 (decide (mf_running v = 1) && !decide (v 1 4 = -1)) := by
  rw [mf_countAll_66]
  by_cases c : mf_running v = 1
  · rw [if_pos c]
    by_cases d : v 1 4 = -1
    · rw [if_pos d, mf_countAll_89]; simp [d]
    · rw [if_neg d]; simp [c, d]
  · rw [if_neg c, mf_countAll_89]; simp [c]
theorem ca_38 (v : Nat → Nat → Int32) (b1 b2 : Bool) : mf_countAll_38 v b1 b2 = mf_countAll_66 v b1 b2 (vS v (mf_setting v 4)) := by
  unfold vS
  rw [mf_countAll_38]
  by_cases c : v 1 4 = -1
  · rw [if_pos c, mf_countAll_61]; simp [c]
  · rw [if_neg c]
    by_cases d : mf_speedOfVariable v = mf_setting v 4
    · rw [if_pos d, mf_countAll_61]; simp [d]
    · rw [if_neg d]; simp [c, d]
theorem ca_12 (v : Nat → Nat → Int32) (b1 : Bool) : mf_countAll_12 v b1 = mf_countAll_38 v b1 (vS v 1000) := by
  unfold vS
  rw [mf_countAll_12]
  by_cases c : v 1 4 = -1
  · rw [if_pos c, mf_countAll_33]; simp [c]
  · rw [if_neg c]
    by_cases d : mf_speedOfVariable v = 1000
    · rw [if_pos d, mf_countAll_33]; simp [d]
    · rw [if_neg d]; simp [c, d]
theorem ca_all (v : Nat → Nat → Int32) : mf_countAll v = mf_countAll_90 v (!decide (mf_running v ≤ 0)) (vS v 1000) (vS v (mf_setting v 4)) (decide (mf_running v = 1) && !decide (v 1 4 = -1)) := by
  rw [mf_countAll]
  by_cases c : mf_running v ≤ 0
  · rw [if_pos c, ca_12, ca_38, ca_66]; simp [c]
  · rw [if_neg c, ca_12, ca_38, ca_66]; simp [c]
theorem E_vS {x : Int32} (hI : IP T np nz ng (Rf f)) : vS (Vf w s f) x = true ↔ atS f x := by
  have v4 : Vf w s f 1 4 = f 4 := Vf_at (by decide)
  unfold vS atS
  rw [Bool.or_eq_true, decide_eq_true_iff, decide_eq_true_iff, v4]
  by_cases c : f 4 = -1
  · simp [c]
  · obtain ⟨e4, h4⟩ := isP_n (show isP np (f 4) from hI.var) c hI.n6
    have hn := hI.n6
    rw [mf_speedOfVariable, v4, E_of (by omega) (by decide)]
-- ---- the number of pumps that run
theorem running_4_cnt (hp : nC f 14 = np) : ∀ (n k i : Nat), k ≤ np → np < k + n → cf_running_4 f n (nI i) k = nI (i + cntF (cf_runs f) k (np - k)) := by
  intro n
  induction n with
  | zero => intro k i h1 h2; omega
  | succ n ih =>
    intro k i h1 h2
    rw [cf_running_4, hp]
    by_cases c : np ≤ k
    · have e : np - k = 0 := by omega
      rw [if_pos c, e, cntF, Nat.add_zero]
    · have e : np - k = (np - (k + 1)) + 1 := by omega
      rw [if_neg c]
      by_cases d : cf_runs f k = true
      · rw [if_pos d, cf_running_38, show nI i + bI true = nI (i + 1) from nI_1 i, ih (k + 1) (i + 1) (by omega) (by omega), e, cntF, if_pos d]
        rw [show i + 1 + cntF (cf_runs f) (k + 1) (np - (k + 1)) = i + (1 + cntF (cf_runs f) (k + 1) (np - (k + 1))) by omega]
      · rw [if_neg d, cf_running_38, show nI i + bI false = nI i from Int32.add_zero _, ih (k + 1) i (by omega) (by omega), e, cntF, if_neg d, Nat.zero_add]
theorem running_cnt (hn : np ≤ 6) (hp : nC f 14 = np) : cf_running f = nI (cntF (cf_runs f) 0 np) := by
  rw [cf_running, show (0 : Int32) = nI 0 from nI_0.symm, running_4_cnt hp 7 0 0 (by omega) (by omega), Nat.sub_zero, Nat.zero_add]
theorem cnt_le1 {P : Nat → Bool} {q : Nat} (h : ∀ j, j < np → P j = true → j = q) : cntF P 0 np ≤ 1 := by
  by_cases c : q < np
  · have h1 := cntF_le (P := P) (P' := fun j => false || j == q) np 0 (fun j _ hj hP => by rw [h j (by omega) hP]; simp)
    rw [cntF_add (P := fun _ => false) rfl np 0 (Nat.zero_le _) (by omega), cntF_0 np 0 (fun _ _ _ => rfl)] at h1
    exact h1
  · rw [cntF_0 np 0 (fun j _ hj => by
      rw [Bool.eq_false_iff]
      exact fun hP => by have := h j (by omega) hP; omega)]
    omega
theorem cntF_pos {P : Nat → Bool} {q : Nat} (hq : q < np) (h : P q = true) : 0 < cntF P 0 np := by
  have := cntF_lt (P := fun _ => false) (P' := P) (q := q) np 0 (fun _ _ _ h => absurd h Bool.false_ne_true) (Nat.zero_le _) (by omega) rfl h
  omega
theorem cnt_two {P : Nat → Bool} {q r : Nat} (hq : q < np) (hr : r < np) (hne : r ≠ q) (h : P q = true) (h2 : P r = true) : 1 < cntF P 0 np := by
  have h1 := cntF_lt (P := fun j => false || j == q) (P' := P) (q := r) np 0 (fun j _ _ e => by
    have : j = q := by simpa using e
    rw [this]; exact h) (Nat.zero_le _) (by omega) (by simpa using hne) h2
  rw [cntF_add (P := fun _ => false) rfl np 0 (Nat.zero_le _) (by omega), cntF_0 np 0 (fun _ _ _ => rfl)] at h1
  omega
theorem mostRun_none_4 (hp : nC f 14 = np) : ∀ (n : Nat) (o : Option Nat) (k : Nat), k ≤ np → np < k + n → (cf_mostRun_4 f n o k = none ↔ o = none ∧ ∀ j, k ≤ j → j < np → cf_runs f j = true → nI j = f 4) := by
  intro n
  induction n with
  | zero => intro o k h1 h2; omega
  | succ n ih =>
    intro o k h1 h2
    rw [cf_mostRun_4, hp]
    by_cases c : np ≤ k
    · rw [if_pos c]
      exact ⟨fun h => ⟨h, fun j a b => by omega⟩, fun h => h.1⟩
    · rw [if_neg c]
      have keep : (cf_runs f k = true → nI k = f 4) → (cf_mostRun_4 f n o (k + 1) = none ↔ o = none ∧ ∀ j, k ≤ j → j < np → cf_runs f j = true → nI j = f 4) := fun hk => by
        rw [ih o (k + 1) (by omega) (by omega)]
        refine ⟨fun h => ⟨h.1, fun j a b d => ?_⟩, fun h => ⟨h.1, fun j a b d => h.2 j (by omega) b d⟩⟩
        by_cases e : j = k
        · subst e; exact hk d
        · exact h.2 j (by omega) b d
      by_cases d : cf_runs f k = true
      · rw [if_pos d]
        by_cases d2 : nI k = f 4
        · rw [if_pos d2]
          exact keep (fun _ => d2)
        · rw [if_neg d2]
          have no : ¬ ∀ j, k ≤ j → j < np → cf_runs f j = true → nI j = f 4 := fun h => d2 (h k (Nat.le_refl _) (by omega) d)
          have new : ¬ cf_mostRun_4 f n (some k) (k + 1) = none := fun h => by
            have := ((ih (some k) (k + 1) (by omega) (by omega)).mp h).1
            cases this
          rw [cf_mostRun_47, if_pos rfl]
          by_cases c3 : o = none
          · rw [if_pos c3]
            exact ⟨fun h => absurd h new, fun h => absurd h.2 no⟩
          · rw [if_neg c3]
            split
            · refine ⟨fun h => absurd ((ih o (k + 1) (by omega) (by omega)).mp h).1 c3, fun h => absurd h.1 c3⟩
            · exact ⟨fun h => absurd h new, fun h => absurd h.2 no⟩
      · rw [if_neg d]
        exact keep (fun h => absurd h d)
theorem mostRun_none (hn : np ≤ 6) (hp : nC f 14 = np) : cf_mostRun f = none ↔ ∀ j, j < np → cf_runs f j = true → nI j = f 4 := by
  rw [cf_mostRun, mostRun_none_4 hp 7 none 0 (by omega) (by omega)]
  exact ⟨fun h j b d => h.2 j (by omega) b d, fun h => ⟨rfl, fun j _ b d => h j b d⟩⟩
/-- one more than the variable one runs -/
theorem most_iff (hS : SI T np nz ng f) (h0 : ¬ cf_running f = 0) : ((1 : Int32) < cf_running f ∨ f 4 = -1) ↔ ¬ cf_mostRun f = none := by
  have hn := hS.n6
  have hp := hS.cp
  have hc := cntF_n (P := cf_runs f) np 0
  rw [running_cnt hn hp] at h0 ⊢
  rw [mostRun_none hn hp]
  have h1 : (1 : Int32) < nI (cntF (cf_runs f) 0 np) ↔ 1 < cntF (cf_runs f) 0 np := nI_ltI (a := 1) (by decide) (by omega)
  rw [h1]
  by_cases c : f 4 = -1
  · refine ⟨fun _ h => ?_, fun _ => Or.inr c⟩
    refine h0 ?_
    rw [cntF_0 np 0 (fun j _ hj => by
      rw [Bool.eq_false_iff]
      exact fun hP => by
        have e := h j (by omega) hP
        rw [c] at e
        exact nI_pos (n := j) (by omega) (by rw [e]; decide))]
    exact nI_0
  · obtain ⟨e4, h4⟩ := isP_n hS.var c hn
    have hv : cf_runs f (tN (f 4)) = true := by
      rcases hS.vr with h | h
      · exact absurd h c
      · exact h.1
    constructor
    · rintro (h | h) hall
      · have := cnt_le1 (P := cf_runs f) (q := tN (f 4)) (np := np) (fun j hj hP => by
          have e := congrArg tN (hall j hj hP)
          rw [tN_nI (by omega)] at e
          exact e)
        omega
      · exact c h
    · intro h
      refine Or.inl (Classical.byContradiction fun hle => h fun j hj hP => ?_)
      by_cases e : j = tN (f 4)
      · rw [e]; exact e4.symm
      · exact absurd (cnt_two (P := cf_runs f) (q := tN (f 4)) (r := j) h4 hj e hv hP) hle
end Q9

