set_option maxRecDepth 100000
/-! pure: what the first methods of the reference leave alone -/
theorem event_3_fr (v : Nat → Nat → Int32) (kind k : Int32) : ∀ (n i : Nat) (w : Nat → Nat → Int32) (j : Nat), j < 134 → j ≠ 19 → mf_event_3 v kind k n i w 1 j = w 1 j := by
  intro n
  induction n with
  | zero => intro i w j _ _; rfl
  | succ n ih =>
    intro i w j h1 h2
    have e1 : ¬ j = 134 := by omega
    have e2 : ¬ j = 135 := by omega
    have e3 : ¬ j = 136 := by omega
    have e4 : ¬ j = 170 := by omega
    rw [mf_event_3]
    split
    · split <;> simp [mf_event_93, u2, e1, e2, e3, e4, h2]
    · rw [ih _ _ _ h1 h2, u2_k (by omega)]
theorem event_3_row (v : Nat → Nat → Int32) (kind k : Int32) : ∀ (n i : Nat) (w : Nat → Nat → Int32) (r : Nat), r ≠ 1 → mf_event_3 v kind k n i w r = w r := by
  intro n
  induction n with
  | zero => intro i w r _; rfl
  | succ n ih =>
    intro i w r h
    rw [mf_event_3]
    split
    · split <;> (funext j; simp [mf_event_93, u2, h])
    · rw [ih _ _ _ h, u2_r h]
theorem event_fr {v : Nat → Nat → Int32} {kind k : Int32} {j : Nat} (h1 : j < 134) (h2 : j ≠ 19) : mf_event v kind k 1 j = v 1 j := event_3_fr v kind k _ _ _ j h1 h2
theorem event_row {v : Nat → Nat → Int32} {kind k : Int32} {r : Nat} (h : r ≠ 1) : mf_event v kind k r = v r := event_3_row v kind k _ _ _ r h
theorem event_3_19 (v : Nat → Nat → Int32) (kind k : Int32) : ∀ (n i : Nat) (w : Nat → Nat → Int32), mf_event_3 v kind k n i w 1 19 = w 1 19 ∨ mf_event_3 v kind k n i w 1 19 = (if (12 : Int32) ≤ w 1 19 then w 1 19 else w 1 19 + 1) := by
  intro n
  induction n with
  | zero => intro i w; exact Or.inl rfl
  | succ n ih =>
    intro i w
    rw [mf_event_3]
    split
    · right
      have e : u2 (u2 (u2 w 1 134 kind) 1 135 ((u2 w 1 134 kind) 1 0)) 1 136 k 1 19 = w 1 19 := by simp [u2]
      rw [e]
      split <;> simp [mf_event_93, u2, bI]
    · have e : u2 w 1 (134 + i) (w 1 ((134 + i) - 3)) 1 19 = w 1 19 := u2_k (by omega)
      have := ih (i - 1) (u2 w 1 (134 + i) (w 1 ((134 + i) - 3)))
      rw [e] at this
      exact this
theorem IP_event {T np nz ng : Nat} {v : Nat → Nat → Int32} {kind k : Int32} (h : IP T np nz ng (v 1)) : IP T np nz ng (mf_event v kind k 1) := h.at fun j => by
  by_cases h1 : j < 134
  · by_cases h2 : j = 19
    · subst h2
      right
      refine okc_19 h.b ?_
      obtain ⟨n, n1, n2⟩ := h.ne
      rcases event_3_19 v kind k 40 35 v with e | e
      · rw [show mf_event v kind k 1 19 = v 1 19 from e]; exact ⟨n, n1, n2⟩
      · rw [show mf_event v kind k 1 19 = _ from e, n2]
        by_cases q : n = 12
        · subst q; exact ⟨12, by decide, rfl⟩
        · rw [if_neg (fun z => q (by have := (nI_leI (a := 12) (b := n) (by decide) (by omega)).mp z; omega)), nI_1]
          exact ⟨n + 1, by omega, rfl⟩
    · exact Or.inl (event_fr h1 h2)
  · exact Or.inr (okc_free h.b (by omega))
theorem nextVariable_4_P {np : Nat} (v : Nat → Nat → Int32) (hc : nC (v 1) 14 = np) : ∀ (n : Nat) (i : Int32) (k : Nat), isP np i → isP np (mf_nextVariable_4 v n i k) := by
  intro n
  induction n with
  | zero => intro i k _; exact isP_m1
  | succ n ih =>
    intro i k h
    rw [mf_nextVariable_4]
    simp only [mf_nextVariable_36, mf_nextVariable_37, mf_nextVariable_62, mf_nextVariable_66, mf_nextVariable_67]
    repeat' split
    all_goals first | exact h | exact ih _ _ h | exact ih _ _ (isP_nI (by omega))
theorem nextVariable_P {np : Nat} {v : Nat → Nat → Int32} (hc : nC (v 1) 14 = np) : isP np (mf_nextVariable v) := nextVariable_4_P v hc _ _ _ isP_m1
theorem ready_18_P {np : Nat} (v : Nat → Nat → Int32) (index : Int32) (rc : Nat → Int32) (k : Nat) (hk : k < np) (hr : ∀ x, isP np (rc x)) : ∀ (n : Nat) (a : Int32) (o : Nat), isP np (mf_ready_18 v index rc k n a o) := by
  intro n
  induction n with
  | zero => intro a o; exact isP_m1
  | succ n ih =>
    intro a o
    rw [mf_ready_18]
    simp only [mf_ready_84, mf_ready_60, mf_ready_61]
    repeat' split
    all_goals first | exact hr _ | exact ih _ _ | exact isP_nI hk
theorem ready_2_P {np : Nat} (v : Nat → Nat → Int32) (index : Int32) (hc : nC (v 1) 14 = np) : ∀ (n k : Nat), isP np (mf_ready_2 v index n k) := by
  intro n
  induction n with
  | zero => intro k; exact isP_m1
  | succ n ih =>
    intro k
    rw [mf_ready_2]
    split
    · exact isP_m1
    · exact ready_18_P v index _ k (by omega) ih _ _ _
theorem ready_P {np : Nat} {v : Nat → Nat → Int32} (index : Int32) (hc : nC (v 1) 14 = np) : isP np (mf_ready v index) := ready_2_P v index hc _ _
theorem IP_stop {T np nz ng : Nat} {v : Nat → Nat → Int32} {k : Nat} (hk : k < 6) (h : IP T np nz ng (v 1)) : IP T np nz ng (mf_stop v k 1) := by
  have h2 : IP T np nz ng (mf_put (mf_put v k 4 0) k 6 0 1) := IP_put hk (by decide) (IP_put hk (by decide) h (fun _ => pmR_4 rg_0)) (fun _ => pmR_5 (by decide))
  simp only [mf_stop, mf_stop_c4, mf_stop_c12, mf_stop_43, mf_stop_c47]
  split
  · exact IP_event (h2.up (okc_4 h.b (nextVariable_P h2.cp)))
  · exact IP_event (h2.up (okc_4 h.b h2.var))
theorem IP_begins {T np nz ng : Nat} {v : Nat → Nat → Int32} {k : Nat} {speed : Int32} {vb : Bool} (hk : k < np) (hs : rg speed 1000) (h : IP T np nz ng (v 1)) : IP T np nz ng (mf_begins v k speed vb 1) := by
  have hk6 : k < 6 := by have := h.n6; omega
  simp only [mf_begins, mf_begins_c4, mf_begins_c12, mf_begins_c28, mf_begins_50, mf_begins_c54]
  generalize hy : mf_of (mf_put (mf_put v k 4 speed) k 6 0) k 7 + 1 = y
  have h2 : IP T np nz ng (mf_put (mf_put (mf_put v k 4 speed) k 6 0) k 7 y 1) := IP_put hk6 (by decide) (IP_put hk6 (by decide) (IP_put hk6 (by decide) h (fun _ => pmR_4 hs)) (fun _ => pmR_5 (by decide))) (fun _ => pmR_5 (by decide))
  split
  · exact IP_event (h2.up (okc_4 h.b (isP_nI hk)))
  · exact IP_event (h2.up (okc_4 h.b h2.var))
theorem rg_1000 : rg 1000 1000 := ⟨1000, Nat.le_refl _, rfl⟩
theorem set4_rg {T np nz ng : Nat} {w : Nat → Nat → Int32} (h : IP T np nz ng (w 1)) : rg (mf_setting w 4) 1000 := by
  obtain ⟨j, -, j2, j3⟩ := h.set (k := 4) (by decide)
  rw [mf_setting]
  exact ⟨j, Nat.le_trans j2 (by decide), j3⟩
theorem IP_start {T np nz ng : Nat} {v : Nat → Nat → Int32} {k : Nat} (hk : k < np) (h : IP T np nz ng (v 1)) : IP T np nz ng (mf_start v k 1) := by
  rw [mf_start]
  split
  · rw [mf_start_c15]
    exact IP_begins hk rg_1000 h
  · split
    · rw [mf_start_43, mf_start_c51]
      exact IP_begins hk (set4_rg h) h
    · rename_i c2
      have hj := isP_n h.var c2 h.n6
      have h2 : IP T np nz ng (mf_put v (tN (v 1 4)) 4 1000 1) := IP_put (by have := h.n6; omega) (by decide) h (fun _ => pmR_4 rg_1000)
      rw [mf_start_c40, mf_start_43, mf_start_c51]
      exact IP_begins hk (set4_rg h2) h2
/-! the root and the flow -/
theorem root_step {l x : Int64} {nn n : Nat} (hx : x = lN nn) (hn : nn ≤ 2000000) (h : ∃ r : Nat, l = lN r ∧ r * r ≤ nn ∧ 1500 < r + (n + 1)) (c : ¬ 0 < lg_cmp ((l + 1) * (l + 1)) x) : ∃ r : Nat, l + 1 = lN r ∧ r * r ≤ nn ∧ 1500 < r + n := by
  obtain ⟨r, rfl, h1, h2⟩ := h
  subst hx
  have hr : r ≤ 1415 := by
    apply Classical.byContradiction
    intro q
    have : 1416 * 1416 ≤ r * r := Nat.mul_le_mul (by omega) (by omega)
    omega
  have hb : (r + 1) * (r + 1) ≤ 1416 * 1416 := Nat.mul_le_mul (by omega) (by omega)
  rw [lg_cmp_gt, lN_1, lN_mul, pk_lLT (by omega) (by omega)] at c
  exact ⟨r + 1, lN_1 r, by omega, by omega⟩
theorem root_zero {l : Int64} {nn : Nat} (hn : nn ≤ 2000000) (h : ∃ r : Nat, l = lN r ∧ r * r ≤ nn ∧ 1500 < r + 0) : False := by
  obtain ⟨r, -, h1, h2⟩ := h
  have : 1501 * 1501 ≤ r * r := Nat.mul_le_mul (by omega) (by omega)
  omega
theorem flow_nz {v : Nat → Nat → Int32} {k : Nat} {speed pressure : Int32} (h : FlowOk v k speed pressure) : ¬ (mf_of v k 2).toInt64 = 0 := by
  obtain ⟨sp, pr, sh, st, -, -, -, -, -, -, e, e1, e2⟩ := h
  rw [show mf_of v k 2 = nI st from e, nI_l (by omega)]
  intro q
  have := (pk_lEQ (a := st) (b := 0) (by omega) (by omega)).mp q
  omega
theorem flow_lift {v : Nat → Nat → Int32} {k : Nat} {speed pressure : Int32} (h : FlowOk v k speed pressure) : ∃ sp pr sh st : Nat, speed = nI sp ∧ pressure = nI pr ∧ mf_of v k 1 = nI sh ∧ mf_of v k 2 = nI st ∧ sp ≤ 1000 ∧ pr ≤ 2000 ∧ sh ≤ 2000 ∧ 1 ≤ st ∧ st ≤ 1000 ∧ sh * sp * sp ≤ 2000000000 ∧ (((mf_of v k 1).toInt64 * speed.toInt64) * speed.toInt64) / 1000000 = lN (sh * sp * sp / 1000000) := by
  obtain ⟨sp, pr, sh, st, a1, a2, b1, b2, c1, c2, d1, d2, d3⟩ := h
  have hb : sh * sp * sp ≤ 2000 * 1000 * 1000 := Nat.mul_le_mul (Nat.mul_le_mul c2 a2) a2
  refine ⟨sp, pr, sh, st, a1, b1, c1, d1, a2, b2, c2, d2, d3, by omega, ?_⟩
  rw [show mf_of v k 1 = nI sh from c1, a1, nI_l (by omega), nI_l (by omega), lN_mul, lN_mul]
  exact pk_lDiv (b := 1000000) (by omega) (by decide) (by decide)
theorem flow_root {v : Nat → Nat → Int32} {k : Nat} {speed pressure : Int32} (h : FlowOk v k speed pressure) (c : 0 < lg_cmp ((((mf_of v k 1).toInt64 * speed.toInt64) * speed.toInt64) / 1000000) pressure.toInt64) : ∃ nn : Nat, nn ≤ 2000000 ∧ ((((((mf_of v k 1).toInt64 * speed.toInt64) * speed.toInt64) / 1000000) - pressure.toInt64) * 1000) / (mf_of v k 2).toInt64 = lN nn := by
  obtain ⟨sp, pr, sh, st, a, b, c1, d, h1, h2, h3, h4, h5, h6, e⟩ := flow_lift h
  rw [e, b, nI_l (by omega), lg_cmp_gt, pk_lLT (by omega) (by omega)] at c
  refine ⟨(sh * sp * sp / 1000000 - pr) * 1000 / st, ?_, ?_⟩
  · refine Nat.le_trans (Nat.div_le_self _ _) ?_
    omega
  · rw [e, b, d, nI_l (by omega), nI_l (by omega), lN_sub (by omega)]
    rw [show (lN (sh * sp * sp / 1000000 - pr) * 1000 : Int64) = lN ((sh * sp * sp / 1000000 - pr) * 1000) from lN_mul _ 1000]
    exact pk_lDiv (by omega) h4 (by omega)
