set_option maxRecDepth 100000
set_option maxRecDepth 100000
/-! Q8: regulate, watch, stage, rotate: as the reference's, and what they keep -/
theorem nIn_toInt {a : Nat} (ha : a < 2 ^ 30) : (-(nI a)).toInt = -(a : Int) := by
  rw [Int32.toInt_neg, nI_toInt (by omega), Int.bmod_def]
  omega
theorem nIa_toInt {a b : Nat} (ha : a < 2 ^ 30) (hb : b < 2 ^ 30) : (nI a + nI b).toInt = (a : Int) + b := by
  rw [Int32.toInt_add, nI_toInt (by omega), nI_toInt (by omega), Int.bmod_def]
  omega
theorem cond_lo {a b g : Nat} (ha : a < 2 ^ 30) (hb : b < 2 ^ 30) (hg : g < 2 ^ 30) : (-(nI g) ≤ nI a - nI b) ↔ (nI b - nI g ≤ nI a) := by
  rw [Int32.le_iff_toInt_le, Int32.le_iff_toInt_le, nIn_toInt hg, nIs_toInt ha hb, nIs_toInt hb hg, nI_toInt (by omega)]
  omega
theorem cond_hi {a b g : Nat} (ha : a < 2 ^ 30) (hb : b < 2 ^ 30) (hg : g < 2 ^ 30) : (nI a - nI b ≤ nI g) ↔ (nI a ≤ nI b + nI g) := by
  rw [Int32.le_iff_toInt_le, Int32.le_iff_toInt_le, nIs_toInt ha hb, nIa_toInt hb hg, nI_toInt (by omega), nI_toInt (by omega)]
  omega
theorem clamp_eq {lo hi x : Int32} (h : lo ≤ hi) : jmax lo (jmin hi x) = mf_within x lo hi := by
  rw [within_eq]
  unfold jmax jmin
  rw [Int32.le_iff_toInt_le] at h
  by_cases c1 : x < hi
  · rw [if_pos c1]
    rw [Int32.lt_iff_toInt_lt] at c1
    by_cases c2 : lo < x
    · rw [if_pos c2]
      rw [Int32.lt_iff_toInt_lt] at c2
      rw [if_pos (Int32.le_iff_toInt_le.mpr (by omega)), if_pos (Int32.le_iff_toInt_le.mpr (by omega))]
    · rw [if_neg c2]
      rw [Int32.lt_iff_toInt_lt] at c2
      by_cases c3 : lo ≤ x
      · rw [if_pos c3, if_pos (Int32.le_iff_toInt_le.mpr (by omega))]
        rw [Int32.le_iff_toInt_le] at c3
        exact Int32.toInt_inj.mp (by omega)
      · rw [if_neg c3]
  · rw [if_neg c1]
    rw [Int32.lt_iff_toInt_lt] at c1
    rw [if_pos (show lo ≤ x from Int32.le_iff_toInt_le.mpr (by omega))]
    by_cases c4 : x ≤ hi
    · rw [if_pos c4]
      rw [Int32.le_iff_toInt_le] at c4
      have e : x = hi := Int32.toInt_inj.mp (by omega)
      by_cases c2 : lo < hi
      · rw [if_pos c2, e]
      · rw [if_neg c2, e]
        rw [Int32.lt_iff_toInt_lt] at c2
        exact Int32.toInt_inj.mp (by omega)
    · rw [if_neg c4]
      by_cases c2 : lo < hi
      · rw [if_pos c2]
      · rw [if_neg c2]
        rw [Int32.lt_iff_toInt_lt] at c2
        exact Int32.toInt_inj.mp (by omega)
section Q8
variable {w : Nat → Nat → Int32} {s : Int32} {f g : Nat → Int32} {T np nz ng : Nat}
theorem regu_0 {v : Nat → Nat → Int32} (c : v 1 4 = -1) : mf_regulate v = v := by
  rw [mf_regulate, if_pos c, mf_regulate_73]
theorem regu_1 {v : Nat → Nat → Int32} (c : ¬ v 1 4 = -1) : mf_regulate v = mf_put v (tN (v 1 4)) 4 (mf_within ((mf_of v (tN (v 1 4)) 4) + (mf_within ((((mf_setting v 0) - (v 1 1)) * (mf_setting v 2)) / (100 : Int32)) (-(mf_setting v 3)) (mf_setting v 3))) (mf_setting v 4) (1000 : Int32)) := by
  rw [mf_regulate, if_neg c, mf_regulate_c70, mf_regulate_73]
theorem E_regulate (hI : IP T np nz ng (Rf f)) (c : ¬ f 4 = -1) : Vf w s (cf_cregulate f (tN (f 4))) = mf_regulate (Vf w s f) ∧ ∃ x, cf_cregulate f (tN (f 4)) = upd f (39 + (8 * tN (f 4)) + 4) x ∧ ¬ x ≤ 0 := by
  obtain ⟨e4, h4⟩ := isP_n (show isP np (f 4) from hI.var) c hI.n6
  have hn := hI.n6
  have v4 : Vf w s f 1 4 = f 4 := Vf_at (by decide)
  have v1 : Vf w s f 1 1 = f 1 := Vf_at (by decide)
  obtain ⟨a, a1, a2, a3⟩ := hI.set (k := 3) (by decide)
  obtain ⟨b, b1, b2, b3⟩ := hI.set (k := 4) (by decide)
  have f23 : f 23 = nI a := a3
  have f24 : f 24 = nI b := b3
  have a2' : a ≤ 500 := a2
  have b2' : b ≤ 900 := b2
  have b1' : 300 ≤ b := b1
  have k1 : -(f 23) ≤ f 23 := by
    rw [f23, Int32.le_iff_toInt_le, nIn_toInt (by omega), nI_toInt (by omega)]
    omega
  have k2 : f 24 ≤ (1000 : Int32) := by
    rw [f24]
    exact (nI_leI (a := b) (b := 1000) (by omega) (by omega)).mpr (by omega)
  have e : cf_cregulate f (tN (f 4)) = upd f (39 + (8 * tN (f 4)) + 4) (mf_within (f (39 + (8 * tN (f 4)) + 4) + mf_within (((f 20 - f 1) * f 22) / 100) (-(f 23)) (f 23)) (f 24) 1000) := by
    rw [cf_cregulate, clamp_eq k1, clamp_eq k2, cf_off, Int32.neg_sub]
  constructor
  · rw [regu_1 (by rw [v4]; exact c), v4, v1, E_of (by omega) (by decide), E_set (by decide), E_set (by decide), E_set (by decide), E_set (by decide), ← E_put (by omega) (by decide), e]
  · refine ⟨_, e, ?_⟩
    rw [f24, show (1000 : Int32) = nI 1000 from rfl]
    obtain ⟨j, j1, j2, j3⟩ := within_rgl (x := f (39 + (8 * tN (f 4)) + 4) + mf_within (((f 20 - f 1) * f 22) / 100) (-(f 23)) (f 23)) (a := b) (b := 1000) (by omega) (by omega)
    rw [j3]
    exact fun h => absurd ((nI_leI (a := j) (b := 0) (by omega) (by decide)).mp h) (by omega)
theorem SI_regulate (hS : SI T np nz ng f) (c : ¬ f 4 = -1) : SI T np nz ng (cf_cregulate f (tN (f 4))) := by
  obtain ⟨e4, h4⟩ := isP_n hS.var c hS.n6
  have hn := hS.n6
  obtain ⟨h1, x, e, hx⟩ := E_regulate (w := fun _ _ => 0) (s := 0) hS.ip c
  refine hS.of (IPg hS.ip h1 (IP_regulate (IP_Vf hS.ip))) (fun j _ => by rw [e]; exact pk_un (by omega)) (by rw [e]; exact pk_un (by omega)) (Or.inr ?_)
  rw [e, pk_un (by omega)]
  refine ⟨runs_iff.mpr (by rw [pk_us]; exact hx), ?_⟩
  rw [isVar_cong (f := f) (pk_un (by omega))]
  rcases hS.vr with h | h
  · exact absurd h c
  · exact h.2
-- ---- the watches
def atS (f : Nat → Int32) (x : Int32) : Prop := f 4 = -1 ∨ f (39 + (8 * tN (f 4)) + 4) = x
theorem isAtSpeed_iff {x : Int32} : cf_isAtSpeed f x = true ↔ atS f x := by
  unfold atS
  rw [cf_isAtSpeed]
  by_cases c : f 4 = -1
  · rw [if_pos c, cf_isAtSpeed_29, cf_isAtSpeed_34]; simp [c]
  · rw [if_neg c]
    by_cases d : f (39 + (8 * tN (f 4)) + 4) = x
    · rw [if_pos d, cf_isAtSpeed_29, cf_isAtSpeed_34]; simp [d]
    · rw [if_neg d, cf_isAtSpeed_34]; simp [c, d]
theorem isAlone_iff : cf_isAlone f = true ↔ (¬ f 4 = -1 ∧ cf_running f = 1 ∧ atS f (f 24)) := by
  rw [cf_isAlone]
  by_cases c : f 4 = -1
  · rw [if_pos c, cf_isAlone_33, cf_isAlone_34]; simp [c]
  · rw [if_neg c]
    by_cases d : cf_running f = 1
    · rw [if_pos d]
      by_cases e : cf_isAtSpeed f (f 24) = true
      · rw [if_pos e, cf_isAlone_34]; simp [c, d, isAtSpeed_iff.mp e]
      · rw [if_neg e, cf_isAlone_33, cf_isAlone_34]
        exact ⟨fun h => absurd h Bool.false_ne_true, fun h => absurd (isAtSpeed_iff.mpr h.2.2) e⟩
    · rw [if_neg d, cf_isAlone_33, cf_isAlone_34]; simp [d]
theorem watch0_iff : cf_watch0 f = true ↔ (¬ -(f 21) ≤ f 1 - f 20) ∧ atS f 1000 := by
  rw [cf_watch0, cf_off]
  by_cases c : -(f 21) ≤ f 1 - f 20
  · rw [if_pos c, cf_watch0_28, cf_watch0_29]; simp [c]
  · rw [if_neg c]
    by_cases d : cf_isAtSpeed f 1000 = true
    · rw [if_pos d, cf_watch0_29]; simp [c, isAtSpeed_iff.mp d]
    · rw [if_neg d, cf_watch0_28, cf_watch0_29]; exact ⟨fun h => absurd h Bool.false_ne_true, fun h => absurd (isAtSpeed_iff.mpr h.2) d⟩
theorem watch1_iff : cf_watch1 f = true ↔ (¬ f 1 - f 20 ≤ f 21) ∧ atS f (f 24) := by
  rw [cf_watch1, cf_off]
  by_cases c : f 1 - f 20 ≤ f 21
  · rw [if_pos c, cf_watch1_30, cf_watch1_31]; simp [c]
  · rw [if_neg c]
    by_cases d : cf_isAtSpeed f (f 24) = true
    · rw [if_pos d, cf_watch1_31]; simp [c, isAtSpeed_iff.mp d]
    · rw [if_neg d, cf_watch1_30, cf_watch1_31]; exact ⟨fun h => absurd h Bool.false_ne_true, fun h => absurd (isAtSpeed_iff.mpr h.2) d⟩
theorem watch2_iff : cf_watch2 f = true ↔ (¬ f 4 = -1 ∧ cf_running f = 1 ∧ atS f (f 24)) ∧ ¬ f 27 ≤ f 3 := by
  rw [cf_watch2]
  by_cases d : cf_isAlone f = true
  · rw [if_pos d]
    by_cases c : f 27 ≤ f 3
    · rw [if_pos c, cf_watch2_25, cf_watch2_26]; simp [c]
    · rw [if_neg c, cf_watch2_26]; simp only [true_iff]; exact ⟨isAlone_iff.mp d, c⟩
  · rw [if_neg d, cf_watch2_25, cf_watch2_26]
    exact ⟨fun h => absurd h Bool.false_ne_true, fun h => absurd (isAlone_iff.mpr h.1) d⟩
/-- what depends on the counts by nothing -/
theorem runs4_cong (h : ∀ p, p < 127 → p ≠ 10 → p ≠ 11 → p ≠ 12 → g p = f p) : ∀ (n : Nat) (i : Int32) (k : Nat), nC f 14 ≤ 6 → cf_running_4 g n i k = cf_running_4 f n i k := by
  intro n
  have e14 : nC g 14 = nC f 14 := congrArg tN (h 14 (by decide) (by decide) (by decide) (by decide))
  induction n with
  | zero => intro i k _; rfl
  | succ n ih =>
    intro i k hn
    rw [cf_running_4, cf_running_4, e14]
    by_cases c : nC f 14 ≤ k
    · rw [if_pos c, if_pos c]
    · rw [if_neg c, if_neg c, runs_cong (f := f) (h _ (by omega) (by omega) (by omega) (by omega)), cf_running_38, cf_running_38, cf_running_38, cf_running_38, ih _ _ hn, ih _ _ hn]
theorem running_cong (h : ∀ p, p < 127 → p ≠ 10 → p ≠ 11 → p ≠ 12 → g p = f p) (hn : nC f 14 ≤ 6) : cf_running g = cf_running f := runs4_cong h 7 0 0 hn
theorem atS_cong {x : Int32} (h4 : g 4 = f 4) (h : ¬ f 4 = -1 → g (39 + (8 * tN (f 4)) + 4) = f (39 + (8 * tN (f 4)) + 4)) : atS g x ↔ atS f x := by
  unfold atS
  rw [h4]
  by_cases c : f 4 = -1
  · simp [c]
  · rw [h c]
-- the reference's count
theorem ca_90 (v : Nat → Nat → Int32) (b1 b2 b3 b4 : Bool) : mf_countAll_90 v b1 b2 b3 b4 = mf_counts (mf_counts (mf_counts v 10 (b1 && b2 && !decide ((mf_setting v 0) - (mf_setting v 1) ≤ v 1 1))) 11 (b1 && b3 && !decide (v 1 1 ≤ (mf_setting v 0) + (mf_setting v 1)))) 12 (b4 && b3 && !decide (mf_setting v 7 ≤ v 1 3)) := by
  have k202 : ∀ a6 a7 a8 a9 a10 a11, mf_countAll_202 v a6 a7 a8 a9 a10 a11 true = mf_countAll_202 v a6 a7 a8 a9 a10 a11 true := fun _ _ _ _ _ _ => rfl
  have k167 : ∀ (u : Nat → Nat → Int32) (x y z : Bool), (∀ j, j ≠ 10 → j ≠ 11 → u 1 j = v 1 j) → mf_countAll_c167 v b1 b2 b3 b4 x u y (mf_counts u 11 z) = mf_counts (mf_counts u 11 z) 12 (b4 && b3 && !decide (mf_setting v 7 ≤ v 1 3)) := fun u x y z hu => by
    have e7 : mf_setting (mf_counts u 11 z) 7 = mf_setting v 7 := by rw [counts_eq, mf_setting, mf_setting, u2_k (by decide)]; exact hu _ (by decide) (by decide)
    have e3 : mf_counts u 11 z 1 3 = v 1 3 := by rw [counts_eq, u2_k (by decide)]; exact hu _ (by decide) (by decide)
    rw [mf_countAll_c167, e7, e3]
    cases b4 with
    | false => rw [if_neg Bool.false_ne_true, mf_countAll_201, mf_countAll_202, mf_countAll_c202]; rfl
    | true =>
      rw [if_pos rfl]
      cases b3 with
      | false => rw [if_neg Bool.false_ne_true, mf_countAll_201, mf_countAll_202, mf_countAll_c202]; rfl
      | true =>
        rw [if_pos rfl]
        by_cases c : mf_setting v 7 ≤ v 1 3
        · rw [if_pos c, mf_countAll_201, mf_countAll_202, mf_countAll_c202]; simp [c]
        · rw [if_neg c, mf_countAll_202, mf_countAll_c202]; simp [c]
  have k128 : ∀ (x z : Bool), mf_countAll_c128 v b1 b2 b3 b4 x (mf_counts v 10 z) = mf_counts (mf_counts (mf_counts v 10 z) 11 (b1 && b3 && !decide (v 1 1 ≤ (mf_setting v 0) + (mf_setting v 1)))) 12 (b4 && b3 && !decide (mf_setting v 7 ≤ v 1 3)) := fun x z => by
    have hu : ∀ j, j ≠ 10 → j ≠ 11 → mf_counts v 10 z 1 j = v 1 j := fun j h1 _ => by rw [counts_eq, u2_k h1]
    have e0 : mf_setting (mf_counts v 10 z) 0 = mf_setting v 0 := hu _ (by decide) (by decide)
    have e1 : mf_setting (mf_counts v 10 z) 1 = mf_setting v 1 := hu _ (by decide) (by decide)
    have ep : mf_counts v 10 z 1 1 = v 1 1 := hu _ (by decide) (by decide)
    rw [mf_countAll_c128, e0, e1, ep]
    have no : mf_countAll_166 v b1 b2 b3 b4 x (mf_counts v 10 z) = mf_counts (mf_counts (mf_counts v 10 z) 11 false) 12 (b4 && b3 && !decide (mf_setting v 7 ≤ v 1 3)) := by
      rw [mf_countAll_166, mf_countAll_167, k167 _ _ _ _ hu]
    cases b1 with
    | false => rw [if_neg Bool.false_ne_true, no]; rfl
    | true =>
      rw [if_pos rfl]
      cases b3 with
      | false => rw [if_neg Bool.false_ne_true, no]; rfl
      | true =>
        rw [if_pos rfl]
        by_cases c : v 1 1 ≤ (mf_setting v 0) + (mf_setting v 1)
        · rw [if_pos c, no]; simp [c]
        · rw [if_neg c, mf_countAll_167, k167 _ _ _ _ hu]; simp [c]
  have k1 : ∀ z, mf_countAll_128 v b1 b2 b3 b4 z = mf_counts (mf_counts (mf_counts v 10 z) 11 (b1 && b3 && !decide (v 1 1 ≤ (mf_setting v 0) + (mf_setting v 1)))) 12 (b4 && b3 && !decide (mf_setting v 7 ≤ v 1 3)) := fun z => by
    rw [mf_countAll_128, k128]
  rw [mf_countAll_90]
  have no : mf_countAll_127 v b1 b2 b3 b4 = mf_counts (mf_counts (mf_counts v 10 false) 11 (b1 && b3 && !decide (v 1 1 ≤ (mf_setting v 0) + (mf_setting v 1)))) 12 (b4 && b3 && !decide (mf_setting v 7 ≤ v 1 3)) := by
    rw [mf_countAll_127, k1]
  by_cases c1 : b1 = true
  · rw [if_pos c1]
    by_cases c2 : b2 = true
    · rw [if_pos c2]
      by_cases c : (mf_setting v 0) - (mf_setting v 1) ≤ v 1 1
      · rw [if_pos c, no]; simp [c]
      · rw [if_neg c, k1]; simp [c, c1, c2]
    · rw [if_neg c2, no]; simp [Bool.eq_false_iff.mpr c2]
  · rw [if_neg c1, no]; simp [Bool.eq_false_iff.mpr c1]
end Q8

