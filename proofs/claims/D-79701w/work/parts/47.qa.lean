set_option maxRecDepth 100000
set_option maxRecDepth 100000
/-! QA: watch, stage, rotate: the joined laws -/
section QA
variable {w : Nat → Nat → Int32} {s : Int32} {f g : Nat → Int32} {T np nz ng : Nat}
def cup (f : Nat → Int32) (a b d : Bool) : Nat → Int32 := upd (upd (upd f 10 (if a = true then f 10 + 1 else 0)) 11 (if b = true then f 11 + 1 else 0)) 12 (if d = true then f 12 + 1 else 0)
theorem cup_o {a b d : Bool} {p : Nat} (h1 : p ≠ 10) (h2 : p ≠ 11) (h3 : p ≠ 12) : cup f a b d p = f p := by
  unfold cup
  rw [pk_un h3, pk_un h2, pk_un h1]
theorem E_cup {a b d : Bool} : Vf w s (cup f a b d) = mf_counts (mf_counts (mf_counts (Vf w s f) 10 a) 11 b) 12 d := by
  unfold cup
  rw [Vf_up (by decide) (by decide) (by decide), Vf_up (by decide) (by decide) (by decide), Vf_up (by decide) (by decide) (by decide), counts_eq, counts_eq, counts_eq, u2_k (show (11 : Nat) ≠ 10 by decide), u2_k (show (12 : Nat) ≠ 11 by decide), u2_k (show (12 : Nat) ≠ 10 by decide), Vf_at (by decide), Vf_at (by decide), Vf_at (by decide)]
theorem w1_cong (hI : IP T np nz ng (Rf f)) (h : ∀ p, p ≠ 10 → p ≠ 11 → p ≠ 12 → g p = f p) : (cf_watch1 g = true ↔ cf_watch1 f = true) := by
  have hn := hI.n6
  rw [watch1_iff, watch1_iff, h 1 (by decide) (by decide) (by decide), h 20 (by decide) (by decide) (by decide), h 21 (by decide) (by decide) (by decide), h 24 (by decide) (by decide) (by decide), atS_cong (h 4 (by decide) (by decide) (by decide)) (fun c => h _ (by omega) (by omega) (by omega))]
theorem w2_cong (hI : IP T np nz ng (Rf f)) (h : ∀ p, p ≠ 10 → p ≠ 11 → p ≠ 12 → g p = f p) : (cf_watch2 g = true ↔ cf_watch2 f = true) := by
  have hn := hI.n6
  have hp : nC f 14 = np := nC_of (show f 14 = nI np from hI.enp) (by omega)
  rw [watch2_iff, watch2_iff, h 27 (by decide) (by decide) (by decide), h 3 (by decide) (by decide) (by decide), h 4 (by decide) (by decide) (by decide), h 24 (by decide) (by decide) (by decide), running_cong (fun p _ a b d => h p a b d) (by omega), atS_cong (h 4 (by decide) (by decide) (by decide)) (fun c => h _ (by omega) (by omega) (by omega))]
theorem watch_cup (hI : IP T np nz ng (Rf f)) : cf_watch f = cup f (cf_watch0 f) (cf_watch1 f) (cf_watch2 f) := by
  have k3 : ∀ a b : Bool, cf_watch_43b f (if a = true then f 10 + 1 else 0) (if b = true then f 11 + 1 else 0) = cup f a b (cf_watch2 f) := fun a b => by
    have hw := w2_cong hI (g := upd (upd f 10 (if a = true then f 10 + 1 else 0)) 11 (if b = true then f 11 + 1 else 0)) (fun p h1 h2 _ => by rw [pk_un h2, pk_un h1])
    rw [cf_watch_43b]
    by_cases c : cf_watch2 f = true
    · rw [if_pos (hw.mpr c), cf_watch_43c, pk_un (show (12 : Nat) ≠ 11 by decide), pk_un (show (12 : Nat) ≠ 10 by decide), c]
      rfl
    · rw [if_neg (fun h => c (hw.mp h)), cf_watch_43c, Bool.eq_false_iff.mpr c]
      rfl
  have k2 : ∀ a : Bool, cf_watch_43 f (if a = true then f 10 + 1 else 0) = cup f a (cf_watch1 f) (cf_watch2 f) := fun a => by
    have hw := w1_cong hI (g := upd f 10 (if a = true then f 10 + 1 else 0)) (fun p h1 _ _ => by rw [pk_un h1])
    rw [cf_watch_43]
    by_cases c : cf_watch1 f = true
    · rw [if_pos (hw.mpr c), pk_un (show (11 : Nat) ≠ 10 by decide), c]
      exact k3 a true
    · rw [if_neg (fun h => c (hw.mp h)), Bool.eq_false_iff.mpr c]
      exact k3 a false
  rw [cf_watch]
  by_cases c : cf_watch0 f = true
  · rw [if_pos c, c]
    exact k2 true
  · rw [if_neg c, Bool.eq_false_iff.mpr c]
    exact k2 false
theorem running_rg (hI : IP T np nz ng (Rf f)) : ∃ m, m ≤ 6 ∧ cf_running f = nI m := by
  have hn := hI.n6
  have hp : nC f 14 = np := nC_of (show f 14 = nI np from hI.enp) (by omega)
  have := cntF_n (P := cf_runs f) np 0
  exact ⟨_, by omega, running_cnt hn hp⟩
theorem E_watch (hI : IP T np nz ng (Rf f)) (h0 : ¬ cf_running f = 0) : Vf w s (cf_watch f) = mf_countAll (Vf w s f) := by
  have hn := hI.n6
  have hp : nC f 14 = np := nC_of (show f 14 = nI np from hI.enp) (by omega)
  have er : mf_running (Vf w s f) = cf_running f := (E_running (by omega)).symm
  have v4 : Vf w s f 1 4 = f 4 := Vf_at (by decide)
  have v1 : Vf w s f 1 1 = f 1 := Vf_at (by decide)
  have v3 : Vf w s f 1 3 = f 3 := Vf_at (by decide)
  have s0 : mf_setting (Vf w s f) 0 = f 20 := E_set (by decide)
  have s1 : mf_setting (Vf w s f) 1 = f 21 := E_set (by decide)
  have s4 : mf_setting (Vf w s f) 4 = f 24 := E_set (by decide)
  have s7 : mf_setting (Vf w s f) 7 = f 27 := E_set (by decide)
  obtain ⟨m, hm, em⟩ := running_rg hI
  have hpos : ¬ cf_running f ≤ 0 := by
    rw [em]
    rw [em] at h0
    intro h
    have := (nI_leI (a := m) (b := 0) (by omega) (by omega)).mp h
    exact h0 (by rw [show m = 0 by omega]; exact nI_0)
  obtain ⟨a, a1, a2⟩ := hI.press
  obtain ⟨b, _, b1, b2⟩ := hI.set (k := 0) (by decide)
  obtain ⟨d, _, d1, d2⟩ := hI.set (k := 1) (by decide)
  have f1 : f 1 = nI a := a2
  have f20 : f 20 = nI b := b2
  have f21 : f 21 = nI d := d2
  have b1' : b ≤ 900 := b1
  have d1' : d ≤ 100 := d1
  rw [watch_cup hI, E_cup, ca_all, ca_90, er, v4, v1, v3, s0, s1, s4, s7]
  have t0 : cf_watch0 f = ((!decide (cf_running f ≤ 0)) && vS (Vf w s f) 1000 && !decide (f 20 - f 21 ≤ f 1)) := by
    rw [Bool.eq_iff_iff, watch0_iff, Bool.and_eq_true, Bool.and_eq_true, E_vS hI, Bool.not_eq_true', decide_eq_false_iff_not, Bool.not_eq_true', decide_eq_false_iff_not, f1, f20, f21, cond_lo (by omega) (by omega) (by omega)]
    exact ⟨fun h => ⟨⟨hpos, h.2⟩, h.1⟩, fun h => ⟨h.2, h.1.2⟩⟩
  have t1 : cf_watch1 f = ((!decide (cf_running f ≤ 0)) && vS (Vf w s f) (f 24) && !decide (f 1 ≤ f 20 + f 21)) := by
    rw [Bool.eq_iff_iff, watch1_iff, Bool.and_eq_true, Bool.and_eq_true, E_vS hI, Bool.not_eq_true', decide_eq_false_iff_not, Bool.not_eq_true', decide_eq_false_iff_not, f1, f20, f21, cond_hi (by omega) (by omega) (by omega)]
    exact ⟨fun h => ⟨⟨hpos, h.2⟩, h.1⟩, fun h => ⟨h.2, h.1.2⟩⟩
  have t2 : cf_watch2 f = ((decide (cf_running f = 1) && !decide (f 4 = -1)) && vS (Vf w s f) (f 24) && !decide (f 27 ≤ f 3)) := by
    rw [Bool.eq_iff_iff, watch2_iff, Bool.and_eq_true, Bool.and_eq_true, Bool.and_eq_true, E_vS hI, Bool.not_eq_true', decide_eq_false_iff_not, Bool.not_eq_true', decide_eq_false_iff_not, decide_eq_true_iff]
    exact ⟨fun h => ⟨⟨⟨h.1.2.1, h.1.1⟩, h.1.2.2⟩, h.2⟩, fun h => ⟨⟨h.1.1.2, h.1.1.1, h.1.2⟩, h.2⟩⟩
  rw [t0, t1, t2]
theorem E_watch0 (hI : IP T np nz ng (Rf f)) (h0 : cf_running f = 0) : Vf w s (cf_forget f) = mf_countAll (Vf w s f) := by
  have hn := hI.n6
  have hp : nC f 14 = np := nC_of (show f 14 = nI np from hI.enp) (by omega)
  have er : mf_running (Vf w s f) = 0 := (E_running (by omega)).symm.trans h0
  rw [ca_all, ca_90, er, show decide ((0 : Int32) ≤ 0) = true from rfl, show decide ((0 : Int32) = 1) = false from rfl, E_forget, mf_beginAnew, counts_eq, counts_eq, counts_eq]
  rfl
/-- what stage asks -/
def st6 (f : Nat → Int32) : Prop := (cf_isDue f 1 6 = true → ¬ cf_running f = 0) ∧ (cf_isDue f 2 8 = true → ¬ f 4 = -1)
theorem isDue_iff {k j : Nat} : cf_isDue f k j = true ↔ ¬ f (10 + k) < f (20 + j) := by
  rw [cf_isDue]
  by_cases c : f (10 + k) < f (20 + j)
  · rw [if_pos c, cf_isDue_20]; simp [c]
  · rw [if_neg c, cf_isDue_20]; simp [c]
theorem set_pos (hI : IP T np nz ng (Rf f)) : (0 : Int32) < f 26 ∧ (0 : Int32) < f 28 := by
  obtain ⟨a, a1, a2, a3⟩ := hI.set (k := 6) (by decide)
  obtain ⟨b, b1, b2, b3⟩ := hI.set (k := 8) (by decide)
  have a1' : 1 ≤ a := a1
  have a2' : a ≤ 60 := a2
  have b1' : 1 ≤ b := b1
  have b2' : b ≤ 60 := b2
  rw [show f 26 = nI a from a3, show f 28 = nI b from b3]
  exact ⟨(nI_ltI (a := 0) (by decide) (by omega)).mpr (by omega), (nI_ltI (a := 0) (by decide) (by omega)).mpr (by omega)⟩
theorem st6_forget (hI : IP T np nz ng (Rf f)) : st6 (cf_forget f) := by
  obtain ⟨h1, h2⟩ := set_pos hI
  refine ⟨fun h => ?_, fun h => ?_⟩
  · rw [isDue_iff, cf_forget, pk_un (by decide), pk_us, pk_un (by decide), pk_un (by decide), pk_un (by decide)] at h
    exact absurd h1 h
  · rw [isDue_iff, cf_forget, pk_us, pk_un (by decide), pk_un (by decide), pk_un (by decide)] at h
    exact absurd h2 h
theorem st6_watch (hI : IP T np nz ng (Rf f)) (h0 : ¬ cf_running f = 0) : st6 (cf_watch f) := by
  have hn := hI.n6
  have hp : nC f 14 = np := nC_of (show f 14 = nI np from hI.enp) (by omega)
  obtain ⟨h1, h2⟩ := set_pos hI
  rw [watch_cup hI]
  refine ⟨fun _ => ?_, fun h => ?_⟩
  · rw [running_cong (f := f) (fun p _ a b d => cup_o a b d) (by omega)]
    exact h0
  · rw [cup_o (by decide) (by decide) (by decide)]
    by_cases c : cf_watch2 f = true
    · exact (watch2_iff.mp c).1.1
    · exfalso
      rw [isDue_iff, cup_o (p := 20 + 8) (by decide) (by decide) (by decide), Bool.eq_false_iff.mpr c] at h
      unfold cup at h
      rw [pk_us] at h
      exact h h2
theorem SI_watch (hS : SI T np nz ng f) (h0 : ¬ cf_running f = 0) : SI T np nz ng (cf_watch f) := by
  have hn := hS.n6
  refine hS.of (IPg hS.ip (E_watch hS.ip h0) (IP_countAll (IP_Vf hS.ip))) (fun j _ => ?_) ?_ ?_
  · rw [watch_cup hS.ip]; exact cup_o (by omega) (by omega) (by omega)
  · rw [watch_cup hS.ip]; exact cup_o (by omega) (by omega) (by omega)
  · rw [watch_cup hS.ip]
    exact hS.vr.cong (cup_o (by omega) (by omega) (by omega)) (fun _ => cup_o (by omega) (by omega) (by omega)) (fun _ => cup_o (by omega) (by omega) (by omega))
end QA

