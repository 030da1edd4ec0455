set_option maxRecDepth 100000
/-! FO: foresee -/
/-! FO: foreseen -/
theorem and1 (x : Int32) : x &&& 1 = 0 ∨ x &&& 1 = 1 := by
  have h : (x &&& 1).toBitVec = BitVec.setWidth 32 (BitVec.ofBool (x.toBitVec.getLsbD 0)) := by
    rw [Int32.toBitVec_and]
    exact BitVec.and_one_eq_setWidth_ofBool_getLsbD
  cases e : x.toBitVec.getLsbD 0
  · left
    apply Int32.toBitVec_inj.mp
    rw [h, e]; decide
  · right
    apply Int32.toBitVec_inj.mp
    rw [h, e]; decide
def fB (kd x : Int32) : Prop := (x >>> (kd &&& 31)) &&& (1 : Int32) = 0
theorem fB_or {kd x y : Int32} : fB kd (x ||| y) ↔ fB kd x ∧ fB kd y := by
  unfold fB
  generalize kd &&& 31 = c
  rw [Int32.shiftRight_or, show (x >>> c ||| y >>> c) &&& 1 = (x >>> c &&& 1) ||| (y >>> c &&& 1) from Int32.toBitVec_inj.mp (by simp only [Int32.toBitVec_and, Int32.toBitVec_or]; exact BitVec.and_or_distrib_right), Int32.or_eq_zero_iff]
theorem fB_0 {kd : Int32} : fB kd 0 := by
  unfold fB
  rw [Int32.zero_shiftRight]; decide
section FO
variable {G : mg} {own : Nat → Option Nat} {M M1 : mh} {ad : Nat → Nat} {np ng nz T n k hn tl fo : Nat} {f g g1 g9 : Nat → Int32} {ads : Nat → Nat → Nat} {nps ngs : Nat → Nat} {fs : Nat → Nat → Int32} {tb : Nat → Int32} {v v2 va vb : Nat → Nat → Int32} {s mi wh kd : Int32} {Z : Nat → Prop}
theorem op_same (hZ : ∀ q, Z q → M1 q ≠ none ∧ own q = none) (hX : CWX G fo own M1 ad np ng f hn ads nps ngs fs tl tb) (hV : RelV v2 s f hn fs tl tb) (hE : ∀ q, M1 q ≠ none → M q = M1 q) : CWP G fo Z M v2 ∧ ∀ q, Z q → M q = M1 q :=
  CWP.ext ⟨own, ad, np, ng, f, hn, ads, nps, ngs, fs, tl, tb, s, hX, hV, hZ⟩ hE
/-- the reference's numbers of the now are as they were -/
theorem RelV.bk (h : RelV v s f hn fs tl tb) (h1 : ∀ j, j < 170 → v2 1 j = v 1 j) (h0 : v2 0 2 = v 0 2 ∧ v2 0 6 = v 0 6) (h2 : v2 2 = v 2) (h4 : v2 4 = v 4) : ∃ s3, RelV v2 s3 f hn fs tl tb := by
  have hat := fun {k : Nat} (hk : k < 170) => h.at hk
  obtain ⟨a, -, b, c, d, e⟩ := h
  refine ⟨v2 1 170, a, Vf_row fun k hk => ?_, h0.1.trans b, fun i p hi hp => by rw [h2]; exact c i p hi hp, h0.2.trans d, fun i hi => by rw [h4]; exact e i hi⟩
  unfold Vf
  rw [if_pos rfl]
  by_cases c7 : k < 170
  · rw [if_pos c7, h1 k c7, hat c7, Rf_z7 c7]
  · rw [if_neg c7, if_pos (by omega), show z7 f 177 = 0 from pk_us, show k = 170 by omega]
    exact Int32.or_zero.symm
theorem layAside_2_row {r : Nat} (h : r ≠ 3) (v : Nat → Nat → Int32) : ∀ (n k : Nat) (w : Nat → Nat → Int32), mf_layAside_2 v n k w r = w r := by
  intro n
  induction n with
  | zero => intro k w; rfl
  | succ n ih =>
    intro k w
    rw [mf_layAside_2]
    split
    · rfl
    · rw [ih, u2_r h]
theorem layAside_row {r : Nat} (h : r ≠ 3) : mf_layAside v r = v r := by rw [mf_layAside]; exact layAside_2_row h v _ _ _
theorem Vf_g1 (hg : copyE f g1) {w : Nat → Nat → Int32} : Vf w s (z7 g1) = Vf w s (z7 f) := by
  have h0 : copyE (z7 f) g1 := ⟨fun p hp => (hg.1 p hp).trans (E7_z f p (by omega)).symm, fun p hp => (hg.2.1 p hp).trans (E7_z f p (by omega)).symm, hg.2.2⟩
  have h1 := Vf_copy h0 (w := w) (s := s)
  have h2 := Vf_z7 (w := w) (s := s) (f := g1)
  rw [show z7 f 177 = 0 from pk_us, Int32.or_zero] at h1
  rw [hg.2.2.2, Int32.or_zero] at h2
  rw [h2, h1]
theorem E7.rn4 (h : E7 f g) : ∀ (n : Nat) (i : Int32) (k : Nat), cf_running_4 g n i k = cf_running_4 f n i k := by
  intro n
  induction n with
  | zero => intro i k; rfl
  | succ n ih =>
    intro i k
    have en : nC g 14 = nC f 14 := by unfold nC; rw [h 14 (by decide)]
    rw [cf_running_4, cf_running_4, en, h.runs]
    by_cases c : nC f 14 ≤ k
    · rw [if_pos c, if_pos c]
    · rw [if_neg c, if_neg c]
      by_cases d : cf_runs f k = true
      · rw [if_pos d, if_pos d]; exact ih _ _
      · rw [if_neg d, if_neg d]; exact ih _ _
theorem E7.rng (h : E7 f g) : cf_running g = cf_running f := h.rn4 _ _ _
/-- minutes on what was laid aside -/
theorem fore_v (h : RelV v s f hn fs tl tb) (hg : copyE f g1) (hR : MinsR np nz ng T n g1 g) : ∃ s', minsV n (mf_layAside v) = Vf (mf_layAside v) s' (z7 g) := by
  obtain ⟨s', e⟩ := hR.vf (mf_layAside v) s
  refine ⟨s', ?_⟩
  have e1 : mf_layAside v = Vf (mf_layAside v) s (z7 g1) := by
    rw [Vf_g1 hg]
    refine Vf_row fun k hk => ?_
    rw [layAside_row (by decide)]
    have := congrFun (congrFun h.2.1 1) k
    rw [this]
    unfold Vf
    rw [if_pos rfl, if_pos rfl]
    by_cases c : k < 170
    · rw [if_pos c, if_pos c]
    · rw [if_neg c, if_neg c, if_pos (by omega), if_pos (by omega)]
  rw [← e1] at e
  exact e.symm
theorem back_v (h : RelV v s f hn fs tl tb) (e3 : vb 3 = mf_layAside v 3) (e0 : vb 0 = v 0) (e2 : vb 2 = v 2) (e4 : vb 4 = v 4) : ∃ s3, RelV (mf_takeBack vb) s3 f hn fs tl tb :=
  h.bk (fun j hj => by rw [takeBack_at, if_pos hj, e3, layAside_at hj]) ⟨by rw [takeBack_row (by decide), e0], by rw [takeBack_row (by decide), e0]⟩ (by rw [takeBack_row (by decide), e2]) (by rw [takeBack_row (by decide), e4])
theorem fore_b (h : RelV v s f hn fs tl tb) : ∃ s3, RelV (mf_takeBack (minsV n (mf_layAside v))) s3 f hn fs tl tb :=
  back_v h (minsV_row (by decide) _ _) ((minsV_row (by decide) _ _).trans (layAside_row (by decide))) ((minsV_row (by decide) _ _).trans (layAside_row (by decide))) ((minsV_row (by decide) _ _).trans (layAside_row (by decide)))
theorem fore_a (c : ¬ cf_isBetween mi.toInt64 (1 : Int64) (1440 : Int64) = true) : mf_foresee v mi wh = (-1000001, v) := by
  have c' : ¬ mf_in mi.toInt64 (1 : Int64) (1440 : Int64) = true := c
  rw [mf_foresee, if_neg c', mf_foresee_24]
theorem fore_b2 (c : ¬ cf_isBetween wh.toInt64 (0 : Int64) (4 : Int64) = true) : mf_foresee v mi wh = (-1000001, v) := by
  have c' : ¬ mf_in wh.toInt64 (0 : Int64) (4 : Int64) = true := c
  rw [mf_foresee, if_neg c', mf_foresee_24]
  split <;> rfl
theorem fore_c (c : cf_isBetween mi.toInt64 (1 : Int64) (1440 : Int64) = true) (d : cf_isBetween wh.toInt64 (0 : Int64) (4 : Int64) = true) : mf_foresee v mi wh = mf_foresee_c33 v mi wh (mf_layAside v) (minsV (tN mi) (mf_layAside v)) := by
  have c' : mf_in mi.toInt64 (1 : Int64) (1440 : Int64) = true := c
  have d' : mf_in wh.toInt64 (0 : Int64) (4 : Int64) = true := d
  rw [mf_foresee, if_pos c', if_pos d', mf_foresee_c28, minutes_eq]
theorem fore_79 {x : Int32} (c : ¬ (wh = 3 ∧ x = -1)) : mf_foresee_79 v mi wh va vb x = (x, mf_takeBack vb) := by
  rw [mf_foresee_79, mf_foresee_c81]
  by_cases d : wh = 3
  · rw [if_pos d, if_neg (fun z => c ⟨d, z⟩), mf_foresee_99, mf_foresee_100]
  · rw [if_neg d, mf_foresee_99, mf_foresee_100]
theorem fore_0 (h : RelV v s f hn fs tl tb) (hg : copyE f g1) (hR : MinsR np nz ng T (tN mi) g1 g) (hS : SI T np nz ng g1) (c : cf_isBetween mi.toInt64 (1 : Int64) (1440 : Int64) = true) (d : cf_isBetween wh.toInt64 (0 : Int64) (4 : Int64) = true) (k : wh = 0) : ∃ v2 s3, mf_foresee v mi wh = (g 1, v2) ∧ RelV v2 s3 f hn fs tl tb := by
  obtain ⟨s', e⟩ := fore_v h hg hR
  obtain ⟨s3, r⟩ := fore_b (n := tN mi) h
  refine ⟨_, s3, ?_, r⟩
  have at9 : ∀ p, p < 127 → minsV (tN mi) (mf_layAside v) 1 p = g p := fun p hp => by rw [e, Vf_at hp]; exact pk_un (by omega)
  rw [fore_c c d, mf_foresee_c33, if_neg (by rw [k]; decide), if_neg (by rw [k]; decide), if_neg (by rw [k]; decide), mf_foresee_78, fore_79 (fun z => absurd (k.symm.trans z.1) (by decide)), k]
  rw [show 1 + tN 0 = 1 from rfl, at9 1 (by decide)]
theorem fore_1 (h : RelV v s f hn fs tl tb) (hg : copyE f g1) (hR : MinsR np nz ng T (tN mi) g1 g) (hS : SI T np nz ng g1) (c : cf_isBetween mi.toInt64 (1 : Int64) (1440 : Int64) = true) (d : cf_isBetween wh.toInt64 (0 : Int64) (4 : Int64) = true) (k : wh = 1) : ∃ v2 s3, mf_foresee v mi wh = (g 2, v2) ∧ RelV v2 s3 f hn fs tl tb := by
  obtain ⟨s', e⟩ := fore_v h hg hR
  obtain ⟨s3, r⟩ := fore_b (n := tN mi) h
  refine ⟨_, s3, ?_, r⟩
  have at9 : ∀ p, p < 127 → minsV (tN mi) (mf_layAside v) 1 p = g p := fun p hp => by rw [e, Vf_at hp]; exact pk_un (by omega)
  rw [fore_c c d, mf_foresee_c33, if_neg (by rw [k]; decide), if_neg (by rw [k]; decide), if_neg (by rw [k]; decide), mf_foresee_78, fore_79 (fun z => absurd (k.symm.trans z.1) (by decide)), k]
  rw [show 1 + tN 1 = 2 from rfl, at9 2 (by decide)]
theorem fore_2 (h : RelV v s f hn fs tl tb) (hg : copyE f g1) (hR : MinsR np nz ng T (tN mi) g1 g) (hS : SI T np nz ng g1) (c : cf_isBetween mi.toInt64 (1 : Int64) (1440 : Int64) = true) (d : cf_isBetween wh.toInt64 (0 : Int64) (4 : Int64) = true) (k : wh = 2) : ∃ v2 s3, mf_foresee v mi wh = (cf_running g, v2) ∧ RelV v2 s3 f hn fs tl tb := by
  obtain ⟨s', e⟩ := fore_v h hg hR
  obtain ⟨s3, r⟩ := fore_b (n := tN mi) h
  refine ⟨_, s3, ?_, r⟩
  have at9 : ∀ p, p < 127 → minsV (tN mi) (mf_layAside v) 1 p = g p := fun p hp => by rw [e, Vf_at hp]; exact pk_un (by omega)
  have hS2 := hR.si hS
  have er : mf_running (minsV (tN mi) (mf_layAside v)) = cf_running g := by
    rw [e, ← E_running (f := z7 g) (by have := (SI_0 hS2).cp; have := hS2.n6; unfold z7; omega)]
    exact (E7_z g).rng
  rw [fore_c c d, mf_foresee_c33, if_pos k, fore_79 (fun z => absurd (k.symm.trans z.1) (by decide)), er]
theorem fore_3 (h : RelV v s f hn fs tl tb) (hg : copyE f g1) (hR : MinsR np nz ng T (tN mi) g1 g) (hS : SI T np nz ng g1) (c : cf_isBetween mi.toInt64 (1 : Int64) (1440 : Int64) = true) (d : cf_isBetween wh.toInt64 (0 : Int64) (4 : Int64) = true) (k : wh = 3) (q : g 4 = -1) : ∃ v2 s3, mf_foresee v mi wh = (-1000004, v2) ∧ RelV v2 s3 f hn fs tl tb := by
  obtain ⟨s', e⟩ := fore_v h hg hR
  obtain ⟨s3, r⟩ := fore_b (n := tN mi) h
  refine ⟨_, s3, ?_, r⟩
  have at9 : ∀ p, p < 127 → minsV (tN mi) (mf_layAside v) 1 p = g p := fun p hp => by rw [e, Vf_at hp]; exact pk_un (by omega)
  rw [fore_c c d, mf_foresee_c33, if_neg (by rw [k]; decide), if_pos k, mf_foresee_79, mf_foresee_c81, if_pos k, at9 4 (by decide), if_pos q, mf_foresee_100]
theorem fore_4 (h : RelV v s f hn fs tl tb) (hg : copyE f g1) (hR : MinsR np nz ng T (tN mi) g1 g) (hS : SI T np nz ng g1) (c : cf_isBetween mi.toInt64 (1 : Int64) (1440 : Int64) = true) (d : cf_isBetween wh.toInt64 (0 : Int64) (4 : Int64) = true) (k : wh = 3) (q : ¬ g 4 = -1) : ∃ v2 s3, mf_foresee v mi wh = (g 4, v2) ∧ RelV v2 s3 f hn fs tl tb := by
  obtain ⟨s', e⟩ := fore_v h hg hR
  obtain ⟨s3, r⟩ := fore_b (n := tN mi) h
  refine ⟨_, s3, ?_, r⟩
  have at9 : ∀ p, p < 127 → minsV (tN mi) (mf_layAside v) 1 p = g p := fun p hp => by rw [e, Vf_at hp]; exact pk_un (by omega)
  rw [fore_c c d, mf_foresee_c33, if_neg (by rw [k]; decide), if_pos k, at9 4 (by decide), fore_79 (fun z => q z.2)]
theorem fore_5 (h : RelV v s f hn fs tl tb) (hg : copyE f g1) (hR : MinsR np nz ng T (tN mi) g1 g) (hS : SI T np nz ng g1) (c : cf_isBetween mi.toInt64 (1 : Int64) (1440 : Int64) = true) (d : cf_isBetween wh.toInt64 (0 : Int64) (4 : Int64) = true) (k0 : ¬ wh = 0) (k1 : ¬ wh = 1) (k2 : ¬ wh = 2) (k3 : ¬ wh = 3) : ∃ v2 s3, mf_foresee v mi wh = (g 3, v2) ∧ RelV v2 s3 f hn fs tl tb := by
  obtain ⟨s', e⟩ := fore_v h hg hR
  obtain ⟨s3, r⟩ := fore_b (n := tN mi) h
  refine ⟨_, s3, ?_, r⟩
  have at9 : ∀ p, p < 127 → minsV (tN mi) (mf_layAside v) 1 p = g p := fun p hp => by rw [e, Vf_at hp]; exact pk_un (by omega)
  have k : wh = 4 := by
    obtain ⟨i1, -, i2⟩ := in_n (a := 0) (b := 4) (by decide) d
    rw [i1] at k0 k1 k2 k3 ⊢
    have z : tN wh = 0 ∨ tN wh = 1 ∨ tN wh = 2 ∨ tN wh = 3 ∨ tN wh = 4 := by omega
    rcases z with z | z | z | z | z <;> rw [z] at k0 k1 k2 k3 ⊢
    · exact absurd rfl k0
    · exact absurd rfl k1
    · exact absurd rfl k2
    · exact absurd rfl k3
    · rfl
  rw [fore_c c d, mf_foresee_c33, if_neg k2, if_neg k3, if_pos k, mf_foresee_78, fore_79 (fun z => k3 z.1), at9 3 (by decide)]
/-! the event foreseen -/
def fQ (v : Nat → Nat → Int32) (kd : Int32) (va : Nat → Nat → Int32) (k : Nat) (vb : Nat → Nat → Int32) : Prop := mf_foreseeEvent v kd = mf_foreseeEvent_26 v kd va (1442 - k) k vb ∧ fB kd (vb 1 170)
theorem fev_a (c : ¬ cf_isBetween kd.toInt64 (0 : Int64) (7 : Int64) = true) : mf_foreseeEvent v kd = (-1000001, v) := by
  have c' : ¬ mf_in kd.toInt64 (0 : Int64) (7 : Int64) = true := c
  rw [mf_foreseeEvent, if_neg c']
theorem fev_0 (c : cf_isBetween kd.toInt64 (0 : Int64) (7 : Int64) = true) : fQ v kd (mf_layAside v) 0 (u2 (mf_layAside v) 1 170 0) := by
  have c' : mf_in kd.toInt64 (0 : Int64) (7 : Int64) = true := c
  exact ⟨by rw [mf_foreseeEvent, if_pos c', mf_foreseeEvent_c16], by rw [u2_s]; exact fB_0⟩
theorem fev_step (h : fQ v kd va k vb) (hk : k < 1440) : mf_foreseeEvent v kd = mf_foreseeEvent_26 v kd va (1442 - (k + 1)) (k + 1) (mf_minute vb) := by
  obtain ⟨e, b⟩ := h
  unfold fB at b
  rw [e, show 1442 - k = (1442 - (k + 1)) + 1 by omega, mf_foreseeEvent_26, if_neg (by omega), if_pos b, mf_foreseeEvent_c45]
theorem fev_54 {rc : Nat → (Nat → Nat → Int32) → (Int32 × (Nat → Nat → Int32))} : mf_foreseeEvent_54 v kd va rc k vb = (if fB kd (vb 1 170) then -1000004 else nI k, mf_takeBack vb) := by
  rw [mf_foreseeEvent_54, mf_foreseeEvent_c55, takeBack_at, if_neg (by decide)]
  unfold fB
  by_cases c : (vb 1 170 >>> (kd &&& 31)) &&& (1 : Int32) = 0
  · rw [if_pos c, if_pos c, mf_foreseeEvent_75]
  · rw [if_neg c, if_neg c, mf_foreseeEvent_75]
theorem fev_e (hb : ¬ fB kd (vb 1 170)) {n : Nat} : mf_foreseeEvent_26 v kd va (n + 1) k vb = (nI k, mf_takeBack vb) := by
  rw [mf_foreseeEvent_26]
  by_cases c : 1440 ≤ k
  · rw [if_pos c, fev_54, if_neg hb]
  · rw [if_neg c, if_neg hb, fev_54, if_neg hb]
/-- the minutes' numbers -/
theorem fev_v (h : RelV v s f hn fs tl tb) (hg : copyE f g1) (hR : MinsR np nz ng T k g1 g) (hq : MinR np nz ng (T + k) g g9) : ∃ s', minsV k (u2 (mf_layAside v) 1 170 0) = Vf (u2 (mf_layAside v) 1 170 0) s' (z7 g) ∧ minsV (k + 1) (u2 (mf_layAside v) 1 170 0) = Vf (u2 (mf_layAside v) 1 170 0) s' g9 := by
  obtain ⟨s', e⟩ := hR.vf (u2 (mf_layAside v) 1 170 0) 0
  have e1 : u2 (mf_layAside v) 1 170 0 = Vf (u2 (mf_layAside v) 1 170 0) 0 (z7 g1) := by
    rw [Vf_g1 hg]
    refine Vf_row fun k hk => ?_
    unfold Vf
    rw [if_pos rfl]
    by_cases c : k < 170
    · rw [u2_k (by omega), if_pos c, layAside_row (by decide), h.at c, Rf_z7 c]
    · rw [if_neg c, if_pos (by omega), show k = 170 by omega, u2_s, show z7 f 177 = 0 from pk_us]; rfl
  rw [← e1] at e
  refine ⟨s', e.symm, ?_⟩
  show mf_minute (minsV k _) = _
  rw [← e]
  exact (hq.2.2 _ s').symm
theorem V170 {w : Nat → Nat → Int32} : Vf w s f 1 170 = s ||| f 177 := by
  unfold Vf
  rw [if_pos rfl, if_neg (by decide), if_pos rfl]
theorem fev_b (h : RelV v s f hn fs tl tb) : ∃ s3, RelV (mf_takeBack (minsV n (u2 (mf_layAside v) 1 170 0))) s3 f hn fs tl tb :=
  back_v h ((minsV_row (by decide) _ _).trans (u2_r (by decide))) (((minsV_row (by decide) _ _).trans (u2_r (by decide))).trans (layAside_row (by decide))) (((minsV_row (by decide) _ _).trans (u2_r (by decide))).trans (layAside_row (by decide))) (((minsV_row (by decide) _ _).trans (u2_r (by decide))).trans (layAside_row (by decide)))
theorem fev_k (h : RelV v s f hn fs tl tb) (hg : copyE f g1) (hR : MinsR np nz ng T k g1 g) (hq : MinR np nz ng (T + k) g g9) (hQ : fQ v kd va k (minsV k (u2 (mf_layAside v) 1 170 0))) : fB kd (minsV (k + 1) (u2 (mf_layAside v) 1 170 0) 1 170) ↔ fB kd (g9 177) := by
  obtain ⟨s', a, b⟩ := fev_v h hg hR hq
  have b1 := hQ.2
  rw [a, V170, show z7 g 177 = 0 from pk_us, Int32.or_zero] at b1
  rw [b, V170, fB_or]
  exact ⟨fun z => z.2, fun z => ⟨b1, z⟩⟩
theorem fev_s (h : RelV v s f hn fs tl tb) (hg : copyE f g1) (hR : MinsR np nz ng T k g1 g) (hq : MinR np nz ng (T + k) g g9) (hQ : fQ v kd (mf_layAside v) k (minsV k (u2 (mf_layAside v) 1 170 0))) (hk : k < 1440) (c : ¬ (g9 177 >>> (kd &&& 31)) &&& (1 : Int32) = 1) : fQ v kd (mf_layAside v) (k + 1) (minsV (k + 1) (u2 (mf_layAside v) 1 170 0)) :=
  ⟨fev_step hQ hk, (fev_k h hg hR hq hQ).mpr ((and1 _).resolve_right c)⟩
theorem fev_hit (h : RelV v s f hn fs tl tb) (hg : copyE f g1) (hR : MinsR np nz ng T k g1 g) (hq : MinR np nz ng (T + k) g g9) (hQ : fQ v kd (mf_layAside v) k (minsV k (u2 (mf_layAside v) 1 170 0))) (hk : k < 1440) (c : (g9 177 >>> (kd &&& 31)) &&& (1 : Int32) = 1) : ∃ v2 s3, mf_foreseeEvent v kd = (nI (k + 1), v2) ∧ RelV v2 s3 f hn fs tl tb := by
  have hb : ¬ fB kd (minsV (k + 1) (u2 (mf_layAside v) 1 170 0) 1 170) := fun z => by
    have := (fev_k h hg hR hq hQ).mp z
    unfold fB at this
    rw [c] at this
    exact absurd this (by decide)
  obtain ⟨s3, r⟩ := fev_b (n := k + 1) h
  refine ⟨_, s3, ?_, r⟩
  rw [fev_step hQ hk, show 1442 - (k + 1) = (1442 - (k + 1) - 1) + 1 by omega]
  exact fev_e hb
theorem fev_no (h : RelV v s f hn fs tl tb) (hQ : fQ v kd (mf_layAside v) 1440 (minsV 1440 (u2 (mf_layAside v) 1 170 0))) : ∃ v2 s3, mf_foreseeEvent v kd = (-1000004, v2) ∧ RelV v2 s3 f hn fs tl tb := by
  obtain ⟨s3, r⟩ := fev_b (n := 1440) h
  refine ⟨_, s3, ?_, r⟩
  rw [hQ.1, show 1442 - 1440 = 1 + 1 from rfl, mf_foreseeEvent_26, if_pos (Nat.le_refl _), fev_54, if_pos hQ.2]
end FO

set_option maxHeartbeats 4000000 in
set_option maxRecDepth 100000 in
theorem ct_foresee (l : Launch) (G : mg) (A : Nat → Prop) (M1 : mh) (fo : Nat) (Z : Nat → Prop) (v : Nat → Nat → Int32) (hW : CWP G fo Z M1 v) (mi wh : Int32) : Met l yX0_foresee (ws_ yX0_foresee cX0_foresee 5 (some .int)) ({ frames := 12, cells := 127, slots := 611, locals := 3136 }) (va_Pc [.ref fo, .int mi, .int wh] (mU G A (fun M => M = M1))) (mQi G A (fun r M => r = (mf_foresee v mi wh).1 ∧ CWP G fo Z M (mf_foresee v mi wh).2 ∧ ∀ q, Z q → M q = M1 q)) 127 611 A := by
  refine mx_ofi (by decide) (Nat.le_of_ble_eq_true rfl) ?_
  intro p e R s m av below meth c M H Q ls X hRf hRl hRc hRs hin eM w fin hl
  subst M
  have X : CallFix p m c cX0_foresee 5 s av lw_all "FieldPumps" := X
  have hx := X.1
  have hb := X.2.1
  have hl : lv_has ls 5 [(0, .ref fo), (1, .int mi), (2, .int wh)] := hl
  have hRf : R.frames = 12 := hRf
  have hRl : R.locals = 3136 := hRl
  have hRc : R.cells = 127 := hRc
  have hRs : R.slots = 611 := hRs
  generalize ([] : List Loc) = locs at w ⊢
  have hW0 := hW
  obtain ⟨own, ad, np, ng, f, hn, ads, nps, ngs, fs, tl, tb, s9, hX, hV, hZ⟩ := hW
  have hX0 := hX
  obtain ⟨⟨dq, tx, da, va, h, t, cap, gq, gb, ml, hfo, hdq, hda, hbb, hgq, htx, hw9⟩, hA, -, -⟩ := hX0
  have hM := hA.1
  obtain ⟨T, nz, hT, hS⟩ := hA.2.2.2.2
  have hn6 := hS.n6
  have hE : ∀ q, M1 q ≠ none → M1 q = M1 q := fun _ _ => rfl
  obtain ⟨nn, hn7, e18⟩ := hS.nights
  refine lv_iload_n hx hb dX0_foresee_0 rfl (lv_at hl 1 rfl) ?_
  refine lv_i2l hx hb dX0_foresee_1 rfl ?_
  refine lv_lconst (v := (1 : Int64)) hx hb dX0_foresee_2 (by decide) ?_
  refine lv_ldc2 (v := (1440 : Int64)) hx hb X.2.2.2.1 (X.2.2.2.2 _ q503) dX0_foresee_3 ?_
  refine mx_bi w (va_runS (As := [.long mi.toInt64, .long (1 : Int64), .long (1440 : Int64)]) (rest := []) X (ct_isBetween l G A _ mi.toInt64 (1 : Int64) (1440 : Int64)) (va_cwS 3 X.2.2.2.2 (lw_S q492 q493 q96 q494) rfl rfl rfl (by decide +kernel) ⟨by rw [hRf]; decide, by rw [hRl]; decide⟩) (mx_preS w rfl) rfl rfl hl.1 rfl (lv_room (Nat.le_of_ble_eq_true rfl)) dX0_foresee_6 ⟨by rw [hRc]; omega, by rw [hRs]; omega⟩) (fun r M9 H locs hp w => ?_)
  obtain ⟨eR, eM⟩ := hp; subst M9; subst eR
  refine mx_beq (tgt := 24) hx hb dX0_foresee_9 (by decide) (fun c_9 => ?_) (fun c_9 => ?_)
  · skip
    have hfin : (-1000001 : Int32) = (mf_foresee v mi wh).1 ∧ CWP G fo Z M1 (mf_foresee v mi wh).2 ∧ ∀ q, Z q → M1 q = M1 q := by rw [fore_a c_9]; exact ⟨rfl, hW0, fun _ _ => rfl⟩
    refine lv_ldc (v := (-1000001 : Int32)) hx hb X.2.2.2.1 (X.2.2.2.2 _ q505) dX0_foresee_24 ?_
    refine W.widen (k := 127) (n := 611) (by omega) (by omega) ?_
    exact fin (-1000001 : Int32) _ H locs ls 26 dX0_foresee_26 (hfin) w
  · skip
    have hmi := in_n (a := 1) (b := 1440) (by decide) c_9
    have hmi1 := hmi.2.2
    refine lv_iload_n hx hb dX0_foresee_12 rfl (lv_at hl 2 rfl) ?_
    refine lv_i2l hx hb dX0_foresee_13 rfl ?_
    refine lv_lconst (v := (0 : Int64)) hx hb dX0_foresee_14 (by decide) ?_
    refine lv_ldc2 (v := (4 : Int64)) hx hb X.2.2.2.1 (X.2.2.2.2 _ q1682) dX0_foresee_15 ?_
    refine mx_bi w (va_runS (As := [.long wh.toInt64, .long (0 : Int64), .long (4 : Int64)]) (rest := []) X (ct_isBetween l G A _ wh.toInt64 (0 : Int64) (4 : Int64)) (va_cwS 3 X.2.2.2.2 (lw_S q492 q493 q96 q494) rfl rfl rfl (by decide +kernel) ⟨by rw [hRf]; decide, by rw [hRl]; decide⟩) (mx_preS w rfl) rfl rfl hl.1 rfl (lv_room (Nat.le_of_ble_eq_true rfl)) dX0_foresee_18 ⟨by rw [hRc]; omega, by rw [hRs]; omega⟩) (fun r M9 H locs hp w => ?_)
    obtain ⟨eR, eM⟩ := hp; subst M9; subst eR
    refine mx_bne (tgt := 27) hx hb dX0_foresee_21 (by decide) (fun c_21 => ?_) (fun c_21 => ?_)
    · skip
      refine mx_new (T := TX1) X w in_X1 tyX1 tyX1_ok q146 q147 q97 (ci := 1) rfl (fs := [.null, .null, .null, .null, .null, .int (0 : Int32), .null, .null, .null, .null, .null, .null, .null, .null, .int (0 : Int32), .null, .int (0 : Int32), .int (0 : Int32), .int (0 : Int32), .int (0 : Int32), .int (0 : Int32), .int (0 : Int32), .int (0 : Int32), .int (0 : Int32), .int (0 : Int32), .int (0 : Int32), .int (0 : Int32), .int (0 : Int32), .int (0 : Int32), .int (0 : Int32)]) (fun j hj => vz_X1 j hj) (by rw [hRc]; omega) (by rw [hRs]; omega) dX0_foresee_27 (fun o H zo w => ?_)
      refine raw_gen (P := fun M => M o = some (.inr (1, [.null, .null, .null, .null, .null, .int (0 : Int32), .null, .null, .null, .null, .null, .null, .null, .null, .int (0 : Int32), .null, .int (0 : Int32), .int (0 : Int32), .int (0 : Int32), .int (0 : Int32), .int (0 : Int32), .int (0 : Int32), .int (0 : Int32), .int (0 : Int32), .int (0 : Int32), .int (0 : Int32), .int (0 : Int32), .int (0 : Int32), .int (0 : Int32), .int (0 : Int32)])) ∧ ∀ q, M1 q ≠ none → M q = M1 q) w ⟨va_up_s, ext_up1 hE zo⟩ (fun Mx w hP => ?_)
      obtain ⟨h_o, hE⟩ := hP
      refine lv_dup hx hb dX0_foresee_30 rfl ?_
      refine lv_aload_n hx hb dX0_foresee_31 rfl (lv_at hl 0 rfl) ?_
      refine mx_get (T := TX0) (v := .ref (ad 0)) X w in_X0 (ci := 0) rfl 0 (by decide) q472 (fun _ h => h) (ext_at hE hfo) rfl dX0_foresee_32 ?_
      refine mx_bv w (va_runI (As := [.ref (ad 0)]) (rest := [.ref o]) X (ct_st_copy l G A Mx o ad np ng nn f (hA.ext hE).1 h_o (fun r hr z => hA.ne hr (by rw [z]; exact zo)) (fun k hk => hS.io hk) hS.opb hS.b5 e18 hn7) (cwI 1 X.2.2.2.2 (lw_meth q512) rfl rfl rfl (X.2.2.2.2 _ q97) (X.2.2.2.2 _ q510) (X.2.2.2.2 _ q511) rfl (by decide +kernel) ⟨by rw [hRf]; decide, by rw [hRl]; decide⟩) (mx_preS w rfl) rfl rfl hl.1 rfl (lv_room (Nat.le_of_ble_eq_true rfl)) dX0_foresee_35 ⟨by rw [hRc]; omega, by rw [hRs]; omega⟩) (fun M9 H locs hp w => ?_)
      obtain ⟨ad1, g1, hN1, e01, hF1, hAN1, hg⟩ := hp
      subst e01
      have hg : copyE f g1 := hg
      have hT9 : T ≤ 20000 := hT
      have hS1 : SI T np nz ng g1 := hS.copy hg
      have hK : ∀ (M : mh) (g : Nat → Int32), Sta G ad1 np ng Mx M g → ∀ q, M1 q ≠ none → M q = M1 q := fun M g h9 q hq => (h9.kept hF1 (by rw [hE q hq]; exact hq) (fun z => hq (by rw [z]; exact zo))).trans (hE q hq)
      have hM : Sta G ad1 np ng Mx M9 g1 := hN1
      have ha35 := hS1.a35
      refine lv_astore_n (lv' := [(3, .ref (ad1 0)), (0, .ref fo), (1, .int mi), (2, .int wh)]) hx hb dX0_foresee_38 rfl hl (by decide) rfl (fun ls hl => ?_)
      refine lv_iconst (v := (0 : Int32)) hx hb dX0_foresee_39 (by decide) ?_
      refine lv_istore (lv' := [(4, .int (0 : Int32)), (3, .ref (ad1 0)), (0, .ref fo), (1, .int mi), (2, .int wh)]) hx hb dX0_foresee_40 hl (by decide) rfl (fun ls hl => ?_)
      have L42 : ∀ (n_42 : Nat) (n4_42 : Nat) (g_42 : (Nat → Int32)) (M : mh) (H : Heap) (locs : List Loc) (ls : Array Slot), (hk : n4_42 ≤ tN mi) → (hM : Sta G ad1 np ng Mx M g_42) → (hR : MinsR np nz ng T n4_42 g1 g_42) → (hm : tN mi < n4_42 + n_42) → lv_has ls 5 [(3, .ref (ad1 0)), (1, .int mi), (2, .int wh), (4, .int (nI n4_42))] → mW G A s M H locs → True → W p l e R s m av below meth c H locs (61 + 66 * hitN (tN (g1 35)) (tN (g1 36)) T n4_42) (440 + 171 * hitN (tN (g1 35)) (tN (g1 36)) T n4_42) Q (F0 m 42 ls []) := by
        intro n_42
        induction n_42 with
        | zero =>
          intro n4_42 g_42 M H locs ls hk hM hR hm hl w _hT
          exfalso; omega
        | succ n_42 ih_42 =>
          intro n4_42 g_42 M H locs ls hk hM hR hm hl w _hT
          refine lv_iload hx hb dX0_foresee_42 (lv_at hl 3 rfl) ?_
          refine lv_iload_n hx hb dX0_foresee_44 rfl (lv_at hl 1 rfl) ?_
          refine mx_cast (z := nI ((tN mi))) (hmi.1) ?_
          refine mx_nge (u := n4_42) (v := (tN mi)) (tgt := 58) hx hb rfl rfl (by omega) (by omega) dX0_foresee_45 (by decide) (fun c_45 => ?_) (fun c_45 => ?_)
          · skip
            have hh0 := hitN_le (a := tN (g1 35)) (b := tN (g1 36)) (T := T) ha35 n4_42 (by omega)
            have hkc : n4_42 = tN mi := by omega
            rw [hkc] at hR
            refine lv_iload_n hx hb dX0_foresee_58 rfl (lv_at hl 2 rfl) ?_
            by_cases c_59_0 : wh = (0 : Int32)
            · skip
              refine lv_tableIn (tgt := 88) hx hb dX0_foresee_59 (by rw [c_59_0]; decide) (by rw [c_59_0]; decide) (by rw [c_59_0]; rfl) (by decide) ?_
              have hfin : g_42 1 = (mf_foresee v mi wh).1 ∧ CWP G fo Z M (mf_foresee v mi wh).2 ∧ ∀ q, Z q → M q = M1 q := by
                obtain ⟨v2, s3, e7, hV2⟩ := fore_0 hV hg hR hS1 c_9 c_21 c_59_0
                rw [e7]
                exact ⟨rfl, op_same hZ hX hV2 (hK _ _ hM)⟩
              refine lv_aload_n hx hb dX0_foresee_88 rfl (lv_at hl 0 rfl) ?_
              refine mx_getN (T := TX1) (v := .int (g_42 1)) X w in_X1 (ci := 1) rfl 19 (by decide) (w.tblB q330 rfl rfl) (fun _ h => h) hM.st rfl dX0_foresee_89 ?_
              refine W.widen (k := 127) (n := 611) (by omega) (by omega) ?_
              exact fin (g_42 1) _ H locs ls 92 dX0_foresee_92 (hfin) w
            · skip
              by_cases c_59_1 : wh = (1 : Int32)
              · skip
                refine lv_tableIn (tgt := 93) hx hb dX0_foresee_59 (by rw [c_59_1]; decide) (by rw [c_59_1]; decide) (by rw [c_59_1]; rfl) (by decide) ?_
                have hfin : g_42 2 = (mf_foresee v mi wh).1 ∧ CWP G fo Z M (mf_foresee v mi wh).2 ∧ ∀ q, Z q → M q = M1 q := by
                  obtain ⟨v2, s3, e7, hV2⟩ := fore_1 hV hg hR hS1 c_9 c_21 c_59_1
                  rw [e7]
                  exact ⟨rfl, op_same hZ hX hV2 (hK _ _ hM)⟩
                refine lv_aload_n hx hb dX0_foresee_93 rfl (lv_at hl 0 rfl) ?_
                refine mx_getN (T := TX1) (v := .int (g_42 2)) X w in_X1 (ci := 1) rfl 20 (by decide) (w.tblB q334 rfl rfl) (fun _ h => h) hM.st rfl dX0_foresee_94 ?_
                refine W.widen (k := 127) (n := 611) (by omega) (by omega) ?_
                exact fin (g_42 2) _ H locs ls 97 dX0_foresee_97 (hfin) w
              · skip
                by_cases c_59_2 : wh = (2 : Int32)
                · skip
                  refine lv_tableIn (tgt := 98) hx hb dX0_foresee_59 (by rw [c_59_2]; decide) (by rw [c_59_2]; decide) (by rw [c_59_2]; rfl) (by decide) ?_
                  have hfin : cf_running g_42 = (mf_foresee v mi wh).1 ∧ CWP G fo Z M (mf_foresee v mi wh).2 ∧ ∀ q, Z q → M q = M1 q := by
                    obtain ⟨v2, s3, e7, hV2⟩ := fore_2 hV hg hR hS1 c_9 c_21 c_59_2
                    rw [e7]
                    exact ⟨rfl, op_same hZ hX hV2 (hK _ _ hM)⟩
                  refine lv_aload_n hx hb dX0_foresee_98 rfl (lv_at hl 0 rfl) ?_
                  refine mx_bi w (va_runV (As := []) (rest := []) X (ct_running l G A ad1 np ng Mx _ g_42 hM) (cwV 0 X.2.2.2.2 (lw_V q1684 q271 q272 q97 q273) rfl rfl rfl (by decide +kernel) ⟨by rw [hRf]; decide, by rw [hRl]; decide⟩) (mx_preV w rfl hM.st rfl) rfl rfl hl.1 rfl (lv_room (Nat.le_of_ble_eq_true rfl)) dX0_foresee_99 ⟨by rw [hRc]; omega, by rw [hRs]; omega⟩) (fun r M9 H locs hp w => ?_)
                  obtain ⟨eR, eM⟩ := hp; subst M9; subst eR
                  refine W.widen (k := 127) (n := 611) (by omega) (by omega) ?_
                  exact fin (cf_running g_42) _ H locs ls 102 dX0_foresee_102 (hfin) w
                · skip
                  by_cases c_59_3 : wh = (3 : Int32)
                  · skip
                    refine lv_tableIn (tgt := 103) hx hb dX0_foresee_59 (by rw [c_59_3]; decide) (by rw [c_59_3]; decide) (by rw [c_59_3]; rfl) (by decide) ?_
                    refine lv_aload_n hx hb dX0_foresee_103 rfl (lv_at hl 0 rfl) ?_
                    refine mx_getN (T := TX1) (v := .int (g_42 4)) X w in_X1 (ci := 1) rfl 22 (by decide) (w.tblB q338 rfl rfl) (fun _ h => h) hM.st rfl dX0_foresee_104 ?_
                    refine lv_iconst (v := (-1 : Int32)) hx hb dX0_foresee_107 (by decide) ?_
                    refine lv_icmp_ne (tgt := 116) hx hb dX0_foresee_108 (by decide) (fun c_108 => ?_) (fun c_108 => ?_)
                    · skip
                      have hfin : g_42 4 = (mf_foresee v mi wh).1 ∧ CWP G fo Z M (mf_foresee v mi wh).2 ∧ ∀ q, Z q → M q = M1 q := by
                        obtain ⟨v2, s3, e7, hV2⟩ := fore_4 hV hg hR hS1 c_9 c_21 c_59_3 c_108
                        rw [e7]
                        exact ⟨rfl, op_same hZ hX hV2 (hK _ _ hM)⟩
                      refine lv_aload_n hx hb dX0_foresee_116 rfl (lv_at hl 0 rfl) ?_
                      refine mx_getN (T := TX1) (v := .int (g_42 4)) X w in_X1 (ci := 1) rfl 22 (by decide) (w.tblB q338 rfl rfl) (fun _ h => h) hM.st rfl dX0_foresee_117 ?_
                      refine W.widen (k := 127) (n := 611) (by omega) (by omega) ?_
                      exact fin (g_42 4) _ H locs ls 120 dX0_foresee_120 (hfin) w
                    · skip
                      have hfin : (-1000004 : Int32) = (mf_foresee v mi wh).1 ∧ CWP G fo Z M (mf_foresee v mi wh).2 ∧ ∀ q, Z q → M q = M1 q := by
                        obtain ⟨v2, s3, e7, hV2⟩ := fore_3 hV hg hR hS1 c_9 c_21 c_59_3 c_108
                        rw [e7]
                        exact ⟨rfl, op_same hZ hX hV2 (hK _ _ hM)⟩
                      refine lv_ldc (v := (-1000004 : Int32)) hx hb X.2.2.2.1 (X.2.2.2.2 _ q1582) dX0_foresee_111 ?_
                      refine lv_goto (tgt := 120) hx hb dX0_foresee_113 (by decide) ?_
                      refine W.widen (k := 127) (n := 611) (by omega) (by omega) ?_
                      exact fin (-1000004 : Int32) _ H locs ls 120 dX0_foresee_120 (hfin) w
                  · skip
                    refine lv_tableOut (tgt := 121) hx hb dX0_foresee_59 (Classical.byContradiction fun hh => by
                      have h2 : wh.toInt = 0 ∨ wh.toInt = 1 ∨ wh.toInt = 2 ∨ wh.toInt = 3 := by omega
                      rcases h2 with h | h | h | h
                      · exact lv_neT c_59_0 rfl h
                      · exact lv_neT c_59_1 rfl h
                      · exact lv_neT c_59_2 rfl h
                      · exact lv_neT c_59_3 rfl h) (by decide) ?_
                    have hfin : g_42 3 = (mf_foresee v mi wh).1 ∧ CWP G fo Z M (mf_foresee v mi wh).2 ∧ ∀ q, Z q → M q = M1 q := by
                      obtain ⟨v2, s3, e7, hV2⟩ := fore_5 hV hg hR hS1 c_9 c_21 c_59_0 c_59_1 c_59_2 c_59_3
                      rw [e7]
                      exact ⟨rfl, op_same hZ hX hV2 (hK _ _ hM)⟩
                    refine lv_aload_n hx hb dX0_foresee_121 rfl (lv_at hl 0 rfl) ?_
                    refine mx_getN (T := TX1) (v := .int (g_42 3)) X w in_X1 (ci := 1) rfl 23 (by decide) (w.tblB q342 rfl rfl) (fun _ h => h) hM.st rfl dX0_foresee_122 ?_
                    refine W.widen (k := 127) (n := 611) (by omega) (by omega) ?_
                    exact fin (g_42 3) _ H locs ls 125 dX0_foresee_125 (hfin) w
          · skip
            refine lv_aload_n hx hb dX0_foresee_48 rfl (lv_at hl 0 rfl) ?_
            obtain ⟨hz9, ehb⟩ : ∃ hz9 : Nat, hz9 = if hitB (tN (g1 35)) (tN (g1 36)) (T + n4_42) = true then 1 else 0 := ⟨_, rfl⟩
            have hh : hitN (tN (g1 35)) (tN (g1 36)) T (n4_42 + 1) = hitN (tN (g1 35)) (tN (g1 36)) T n4_42 + hz9 := by rw [ehb]; rfl
            have hh1 := hitN_le (a := tN (g1 35)) (b := tN (g1 36)) (T := T) ha35 (n4_42 + 1) (by omega)
            refine mx_bv w (va_runV (As := []) (rest := []) X (ct_minute l G A ad1 np ng Mx g_42 (T + n4_42) nz (66 * hz9) (171 * hz9) (hR.si hS1) (by omega) (fun h9 => by rw [ehb, if_pos ((hR.ks.nt).mp h9)]; exact ⟨rfl, rfl⟩)) (cwV 0 X.2.2.2.2 (lw_V q1683 q862 q863 q97 q864) rfl rfl rfl (by decide +kernel) ⟨by rw [hRf]; exact Nat.le_of_ble_eq_true rfl, by rw [hRl]; exact Nat.le_of_ble_eq_true rfl⟩) (mx_preV w hM hM.st rfl) rfl rfl hl.1 rfl (lv_room (Nat.le_of_ble_eq_true rfl)) dX0_foresee_49 ⟨by rw [hRc]; omega, by rw [hRs]; omega⟩) (fun M9 H locs hp w => ?_)
            obtain ⟨g9, hM, hq9⟩ := hp
            have hR0 := hR
            have hR : MinsR np nz ng T (n4_42 + 1) g1 g9 := ⟨_, hR, hq9⟩
            refine lv_iinc (v := (nI (n4_42 + 1))) (lv' := [(4, .int (nI (n4_42 + 1))), (3, .ref (ad1 0)), (1, .int mi), (2, .int wh)]) hx hb dX0_foresee_52 hl (k := 3) rfl (nI_incr _ 1) (by decide) rfl (fun ls hl => ?_)
            refine lv_goto (tgt := 42) hx hb dX0_foresee_55 (by decide) ?_
            refine W.widen (k := (61 + 66 * hitN (tN (g1 35)) (tN (g1 36)) T (n4_42 + 1))) (n := (440 + 171 * hitN (tN (g1 35)) (tN (g1 36)) T (n4_42 + 1))) (by omega) (by omega) ?_
            exact ih_42 (n4_42 + 1) g9 _ H locs ls (by first | omega | assumption | exact (by omega)) (by first | omega | assumption | exact hM) (by first | omega | assumption | exact hR) (by first | omega | assumption) (lv_sub hl [1, 2, 3, 0] rfl) w trivial
      refine W.widen (k := (61 + 66 * hitN (tN (g1 35)) (tN (g1 36)) T 0)) (n := (440 + 171 * hitN (tN (g1 35)) (tN (g1 36)) T 0)) (by omega) (by omega) ?_
      exact L42 (tN mi + 1) 0 g1 _ H locs ls (by first | omega | assumption | exact (Nat.zero_le _)) (by first | omega | assumption | exact hM) (by first | omega | assumption | exact rfl) (by first | omega | assumption) (lv_sub hl [1, 3, 4, 0] rfl) w trivial
    · skip
      have hfin : (-1000001 : Int32) = (mf_foresee v mi wh).1 ∧ CWP G fo Z M1 (mf_foresee v mi wh).2 ∧ ∀ q, Z q → M1 q = M1 q := by rw [fore_b2 c_21]; exact ⟨rfl, hW0, fun _ _ => rfl⟩
      refine lv_ldc (v := (-1000001 : Int32)) hx hb X.2.2.2.1 (X.2.2.2.2 _ q505) dX0_foresee_24 ?_
      refine W.widen (k := 127) (n := 611) (by omega) (by omega) ?_
      exact fin (-1000001 : Int32) _ H locs ls 26 dX0_foresee_26 (hfin) w
set_option maxHeartbeats 4000000 in
set_option maxRecDepth 100000 in
theorem ct_foreseeEvent (l : Launch) (G : mg) (A : Nat → Prop) (M1 : mh) (fo : Nat) (Z : Nat → Prop) (v : Nat → Nat → Int32) (hW : CWP G fo Z M1 v) (kd : Int32) : Met l yX0_foreseeEvent (ws_ yX0_foreseeEvent cX0_foreseeEvent 4 (some .int)) ({ frames := 12, cells := 127, slots := 611, locals := 3136 }) (va_Pc [.ref fo, .int kd] (mU G A (fun M => M = M1))) (mQi G A (fun r M => r = (mf_foreseeEvent v kd).1 ∧ CWP G fo Z M (mf_foreseeEvent v kd).2 ∧ ∀ q, Z q → M q = M1 q)) 127 611 A := by
  refine mx_ofi (by decide) (Nat.le_of_ble_eq_true rfl) ?_
  intro p e R s m av below meth c M H Q ls X hRf hRl hRc hRs hin eM w fin hl
  subst M
  have X : CallFix p m c cX0_foreseeEvent 4 s av lw_all "FieldPumps" := X
  have hx := X.1
  have hb := X.2.1
  have hl : lv_has ls 4 [(0, .ref fo), (1, .int kd)] := hl
  have hRf : R.frames = 12 := hRf
  have hRl : R.locals = 3136 := hRl
  have hRc : R.cells = 127 := hRc
  have hRs : R.slots = 611 := hRs
  generalize ([] : List Loc) = locs at w ⊢
  have hW0 := hW
  obtain ⟨own, ad, np, ng, f, hn, ads, nps, ngs, fs, tl, tb, s9, hX, hV, hZ⟩ := hW
  have hX0 := hX
  obtain ⟨⟨dq, tx, da, va, h, t, cap, gq, gb, ml, hfo, hdq, hda, hbb, hgq, htx, hw9⟩, hA, -, -⟩ := hX0
  have hM := hA.1
  obtain ⟨T, nz, hT, hS⟩ := hA.2.2.2.2
  have hn6 := hS.n6
  have hE : ∀ q, M1 q ≠ none → M1 q = M1 q := fun _ _ => rfl
  obtain ⟨nn, hn7, e18⟩ := hS.nights
  refine lv_iload_n hx hb dX0_foreseeEvent_0 rfl (lv_at hl 1 rfl) ?_
  refine lv_i2l hx hb dX0_foreseeEvent_1 rfl ?_
  refine lv_lconst (v := (0 : Int64)) hx hb dX0_foreseeEvent_2 (by decide) ?_
  refine lv_ldc2 (v := (7 : Int64)) hx hb X.2.2.2.1 (X.2.2.2.2 _ q1689) dX0_foreseeEvent_3 ?_
  refine mx_bi w (va_runS (As := [.long kd.toInt64, .long (0 : Int64), .long (7 : Int64)]) (rest := []) X (ct_isBetween l G A _ kd.toInt64 (0 : Int64) (7 : Int64)) (va_cwS 3 X.2.2.2.2 (lw_S q492 q493 q96 q494) rfl rfl rfl (by decide +kernel) ⟨by rw [hRf]; decide, by rw [hRl]; decide⟩) (mx_preS w rfl) rfl rfl hl.1 rfl (lv_room (Nat.le_of_ble_eq_true rfl)) dX0_foreseeEvent_6 ⟨by rw [hRc]; omega, by rw [hRs]; omega⟩) (fun r M9 H locs hp w => ?_)
  obtain ⟨eR, eM⟩ := hp; subst M9; subst eR
  refine mx_bne (tgt := 15) hx hb dX0_foreseeEvent_9 (by decide) (fun c_9 => ?_) (fun c_9 => ?_)
  · skip
    refine mx_new (T := TX1) X w in_X1 tyX1 tyX1_ok q146 q147 q97 (ci := 1) rfl (fs := [.null, .null, .null, .null, .null, .int (0 : Int32), .null, .null, .null, .null, .null, .null, .null, .null, .int (0 : Int32), .null, .int (0 : Int32), .int (0 : Int32), .int (0 : Int32), .int (0 : Int32), .int (0 : Int32), .int (0 : Int32), .int (0 : Int32), .int (0 : Int32), .int (0 : Int32), .int (0 : Int32), .int (0 : Int32), .int (0 : Int32), .int (0 : Int32), .int (0 : Int32)]) (fun j hj => vz_X1 j hj) (by rw [hRc]; omega) (by rw [hRs]; omega) dX0_foreseeEvent_15 (fun o H zo w => ?_)
    refine raw_gen (P := fun M => M o = some (.inr (1, [.null, .null, .null, .null, .null, .int (0 : Int32), .null, .null, .null, .null, .null, .null, .null, .null, .int (0 : Int32), .null, .int (0 : Int32), .int (0 : Int32), .int (0 : Int32), .int (0 : Int32), .int (0 : Int32), .int (0 : Int32), .int (0 : Int32), .int (0 : Int32), .int (0 : Int32), .int (0 : Int32), .int (0 : Int32), .int (0 : Int32), .int (0 : Int32), .int (0 : Int32)])) ∧ ∀ q, M1 q ≠ none → M q = M1 q) w ⟨va_up_s, ext_up1 hE zo⟩ (fun Mx w hP => ?_)
    obtain ⟨h_o, hE⟩ := hP
    refine lv_dup hx hb dX0_foreseeEvent_18 rfl ?_
    refine lv_aload_n hx hb dX0_foreseeEvent_19 rfl (lv_at hl 0 rfl) ?_
    refine mx_get (T := TX0) (v := .ref (ad 0)) X w in_X0 (ci := 0) rfl 0 (by decide) q472 (fun _ h => h) (ext_at hE hfo) rfl dX0_foreseeEvent_20 ?_
    refine mx_bv w (va_runI (As := [.ref (ad 0)]) (rest := [.ref o]) X (ct_st_copy l G A Mx o ad np ng nn f (hA.ext hE).1 h_o (fun r hr z => hA.ne hr (by rw [z]; exact zo)) (fun k hk => hS.io hk) hS.opb hS.b5 e18 hn7) (cwI 1 X.2.2.2.2 (lw_meth q512) rfl rfl rfl (X.2.2.2.2 _ q97) (X.2.2.2.2 _ q510) (X.2.2.2.2 _ q511) rfl (by decide +kernel) ⟨by rw [hRf]; decide, by rw [hRl]; decide⟩) (mx_preS w rfl) rfl rfl hl.1 rfl (lv_room (Nat.le_of_ble_eq_true rfl)) dX0_foreseeEvent_23 ⟨by rw [hRc]; omega, by rw [hRs]; omega⟩) (fun M9 H locs hp w => ?_)
    obtain ⟨ad1, g1, hN1, e01, hF1, hAN1, hg⟩ := hp
    subst e01
    have hg : copyE f g1 := hg
    have hT9 : T ≤ 20000 := hT
    have hS1 : SI T np nz ng g1 := hS.copy hg
    have hK : ∀ (M : mh) (g : Nat → Int32), Sta G ad1 np ng Mx M g → ∀ q, M1 q ≠ none → M q = M1 q := fun M g h9 q hq => (h9.kept hF1 (by rw [hE q hq]; exact hq) (fun z => hq (by rw [z]; exact zo))).trans (hE q hq)
    have hM : Sta G ad1 np ng Mx M9 g1 := hN1
    have ha35 := hS1.a35
    refine lv_astore_n (lv' := [(2, .ref (ad1 0)), (0, .ref fo), (1, .int kd)]) hx hb dX0_foreseeEvent_26 rfl hl (by decide) rfl (fun ls hl => ?_)
    refine lv_iconst (v := (1 : Int32)) hx hb dX0_foreseeEvent_27 (by decide) ?_
    refine lv_istore_n (lv' := [(3, .int (1 : Int32)), (2, .ref (ad1 0)), (0, .ref fo), (1, .int kd)]) hx hb dX0_foreseeEvent_28 rfl hl (by decide) rfl (fun ls hl => ?_)
    have L29 : ∀ (n_29 : Nat) (n3_29 : Nat) (g_29 : (Nat → Int32)) (kk_29 : Nat) (M : mh) (H : Heap) (locs : List Loc) (ls : Array Slot), (hk : kk_29 ≤ 1440) → (hk3 : n3_29 = kk_29 + 1) → (hM : Sta G ad1 np ng Mx M g_29) → (hR : MinsR np nz ng T kk_29 g1 g_29) → (hQ : fQ v kd (mf_layAside v) kk_29 (minsV kk_29 (u2 (mf_layAside v) 1 170 0))) → (hm : 1440 < kk_29 + n_29) → lv_has ls 4 [(2, .ref (ad1 0)), (1, .int kd), (3, .int (nI n3_29))] → mW G A s M H locs → True → W p l e R s m av below meth c H locs (61 + 66 * hitN (tN (g1 35)) (tN (g1 36)) T kk_29) (440 + 171 * hitN (tN (g1 35)) (tN (g1 36)) T kk_29) Q (F0 m 29 ls []) := by
      intro n_29
      induction n_29 with
      | zero =>
        intro n3_29 g_29 kk_29 M H locs ls hk hk3 hM hR hQ hm hl w _hT
        exfalso; omega
      | succ n_29 ih_29 =>
        intro n3_29 g_29 kk_29 M H locs ls hk hk3 hM hR hQ hm hl w _hT
        refine lv_iload_n hx hb dX0_foreseeEvent_29 rfl (lv_at hl 2 rfl) ?_
        refine lv_sipush (v := (1440 : Int32)) hx hb dX0_foreseeEvent_30 (by decide) ?_
        refine mx_ngt (u := n3_29) (v := 1440) (tgt := 60) hx hb rfl rfl (by omega) (by omega) dX0_foreseeEvent_33 (by decide) (fun c_33 => ?_) (fun c_33 => ?_)
        · skip
          have hh0 := hitN_le (a := tN (g1 35)) (b := tN (g1 36)) (T := T) ha35 kk_29 (by omega)
          have hkc : kk_29 = 1440 := by omega
          rw [hkc] at hR hQ
          have hfin : (-1000004 : Int32) = (mf_foreseeEvent v kd).1 ∧ CWP G fo Z M (mf_foreseeEvent v kd).2 ∧ ∀ q, Z q → M q = M1 q := by
            obtain ⟨v2, s3, e7, hV2⟩ := fev_no hV hQ
            rw [e7]
            exact ⟨rfl, op_same hZ hX hV2 (hK _ _ hM)⟩
          refine lv_ldc (v := (-1000004 : Int32)) hx hb X.2.2.2.1 (X.2.2.2.2 _ q1582) dX0_foreseeEvent_60 ?_
          refine W.widen (k := 127) (n := 611) (by omega) (by omega) ?_
          exact fin (-1000004 : Int32) _ H locs ls 62 dX0_foreseeEvent_62 (hfin) w
        · skip
          have hkl : kk_29 < 1440 := by omega
          refine lv_aload_n hx hb dX0_foreseeEvent_36 rfl (lv_at hl 0 rfl) ?_
          obtain ⟨hz9, ehb⟩ : ∃ hz9 : Nat, hz9 = if hitB (tN (g1 35)) (tN (g1 36)) (T + kk_29) = true then 1 else 0 := ⟨_, rfl⟩
          have hh : hitN (tN (g1 35)) (tN (g1 36)) T (kk_29 + 1) = hitN (tN (g1 35)) (tN (g1 36)) T kk_29 + hz9 := by rw [ehb]; rfl
          have hh1 := hitN_le (a := tN (g1 35)) (b := tN (g1 36)) (T := T) ha35 (kk_29 + 1) (by omega)
          refine mx_bv w (va_runV (As := []) (rest := []) X (ct_minute l G A ad1 np ng Mx g_29 (T + kk_29) nz (66 * hz9) (171 * hz9) (hR.si hS1) (by omega) (fun h9 => by rw [ehb, if_pos ((hR.ks.nt).mp h9)]; exact ⟨rfl, rfl⟩)) (cwV 0 X.2.2.2.2 (lw_V q1683 q862 q863 q97 q864) rfl rfl rfl (by decide +kernel) ⟨by rw [hRf]; exact Nat.le_of_ble_eq_true rfl, by rw [hRl]; exact Nat.le_of_ble_eq_true rfl⟩) (mx_preV w hM hM.st rfl) rfl rfl hl.1 rfl (lv_room (Nat.le_of_ble_eq_true rfl)) dX0_foreseeEvent_37 ⟨by rw [hRc]; omega, by rw [hRs]; omega⟩) (fun M9 H locs hp w => ?_)
          obtain ⟨g9, hM, hq9⟩ := hp
          have hR0 := hR
          have hR : MinsR np nz ng T (kk_29 + 1) g1 g9 := ⟨_, hR, hq9⟩
          refine lv_aload_n hx hb dX0_foreseeEvent_40 rfl (lv_at hl 0 rfl) ?_
          refine mx_getN (T := TX1) (v := .int (g9 177)) X w in_X1 (ci := 1) rfl 16 (by decide) (w.tblB q321 rfl rfl) (fun _ h => h) hM.st rfl dX0_foreseeEvent_41 ?_
          refine lv_iload_n hx hb dX0_foreseeEvent_44 rfl (lv_at hl 1 rfl) ?_
          refine lv_ishr hx hb dX0_foreseeEvent_45 ?_
          refine lv_iconst (v := (1 : Int32)) hx hb dX0_foreseeEvent_46 (by decide) ?_
          refine lv_iand hx hb dX0_foreseeEvent_47 ?_
          refine lv_iconst (v := (1 : Int32)) hx hb dX0_foreseeEvent_48 (by decide) ?_
          refine lv_icmp_ne (tgt := 54) hx hb dX0_foreseeEvent_49 (by decide) (fun c_49 => ?_) (fun c_49 => ?_)
          · skip
            have hQ := fev_s hV hg hR0 hq9 hQ hkl c_49
            refine lv_iinc (v := (nI (n3_29 + 1))) (lv' := [(3, .int (nI (n3_29 + 1))), (2, .ref (ad1 0)), (1, .int kd)]) hx hb dX0_foreseeEvent_54 hl (k := 2) rfl (nI_incr _ 1) (by decide) rfl (fun ls hl => ?_)
            refine lv_goto (tgt := 29) hx hb dX0_foreseeEvent_57 (by decide) ?_
            refine W.widen (k := (61 + 66 * hitN (tN (g1 35)) (tN (g1 36)) T (kk_29 + 1))) (n := (440 + 171 * hitN (tN (g1 35)) (tN (g1 36)) T (kk_29 + 1))) (by omega) (by omega) ?_
            exact ih_29 (n3_29 + 1) g9 (kk_29 + 1) _ H locs ls (by first | omega | assumption | exact (by omega)) (by first | omega | assumption | exact (by omega)) (by first | omega | assumption | exact hM) (by first | omega | assumption | exact hR) (by first | omega | assumption | exact hQ) (by first | omega | assumption) (lv_sub hl [1, 2, 0] rfl) w trivial
          · skip
            have hfin : nI n3_29 = (mf_foreseeEvent v kd).1 ∧ CWP G fo Z M9 (mf_foreseeEvent v kd).2 ∧ ∀ q, Z q → M9 q = M1 q := by
              obtain ⟨v2, s3, e7, hV2⟩ := fev_hit hV hg hR0 hq9 hQ hkl c_49
              rw [e7, hk3]
              exact ⟨rfl, op_same hZ hX hV2 (hK _ _ hM)⟩
            refine lv_iload_n hx hb dX0_foreseeEvent_52 rfl (lv_at hl 2 rfl) ?_
            refine W.widen (k := 127) (n := 611) (by omega) (by omega) ?_
            exact fin (nI n3_29) _ H locs ls 53 dX0_foreseeEvent_53 (hfin) w
    refine W.widen (k := (61 + 66 * hitN (tN (g1 35)) (tN (g1 36)) T 0)) (n := (440 + 171 * hitN (tN (g1 35)) (tN (g1 36)) T 0)) (by omega) (by omega) ?_
    exact L29 1441 1 g1 0 _ H locs ls (by first | omega | assumption | exact (Nat.zero_le _)) (by first | omega | assumption | exact rfl) (by first | omega | assumption | exact hM) (by first | omega | assumption | exact rfl) (by first | omega | assumption | exact (fev_0 c_9)) (by first | omega | assumption) (lv_sub hl [1, 3, 0] rfl) w trivial
  · skip
    have hfin : (-1000001 : Int32) = (mf_foreseeEvent v kd).1 ∧ CWP G fo Z M1 (mf_foreseeEvent v kd).2 ∧ ∀ q, Z q → M1 q = M1 q := by rw [fev_a c_9]; exact ⟨rfl, hW0, fun _ _ => rfl⟩
    refine lv_ldc (v := (-1000001 : Int32)) hx hb X.2.2.2.1 (X.2.2.2.2 _ q505) dX0_foreseeEvent_12 ?_
    refine W.widen (k := 127) (n := 611) (by omega) (by omega) ?_
    exact fin (-1000001 : Int32) _ H locs ls 14 dX0_foreseeEvent_14 (hfin) w
