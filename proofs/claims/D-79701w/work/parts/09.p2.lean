set_option maxRecDepth 100000
/-! pure: the day's methods keep the state well (IP) -/
theorem rg_mono {x : Int32} {a b : Nat} (h : rg x a) (hab : a ≤ b) : rg x b := by
  obtain ⟨j, h1, h2⟩ := h
  exact ⟨j, by omega, h2⟩
theorem okc_mono {T np nz ng i : Nat} {x : Int32} (h : okc T np nz ng i x) (hi : i ≠ 0) : okc (T + 1) np nz ng i x := by
  obtain ⟨_, h1, h2, h3, h4, h5, h6, h7, h8, h9, h10, h11, h12, h13, h14, h15, h16, h17, h18, h19⟩ := h
  exact ⟨fun e => absurd e hi, h1, h2, h3, h4, h5, fun e => rg_mono (h6 e) (by omega), h7, h8, h9, h10, h11, h12, h13, h14, h15, h16, h17, h18, h19⟩
theorem okc_time {T np nz ng : Nat} : okc T np nz ng 0 (nI T) := ⟨fun _ => rfl, fun e => absurd e (by omega), fun e => absurd e (by omega), fun e => absurd e (by omega), fun e => absurd e (by omega), fun e => absurd e (by omega), fun e => absurd e (by omega), fun e => absurd e (by omega), fun e => absurd e (by omega), fun e => absurd e (by omega), fun e => absurd e (by omega), fun e => absurd e (by omega), fun e => absurd e (by omega), fun _ _ e => absurd e (by omega), fun _ _ _ _ e => absurd e (by omega), fun _ _ e => absurd e (by omega), fun _ _ e => absurd e (by omega), fun _ _ e => absurd e (by omega), fun _ _ e => absurd e (by omega), fun _ _ e => absurd e (by omega)⟩
theorem IP_time {T np nz ng : Nat} {v : Nat → Nat → Int32} (h : IP T np nz ng (v 1)) (hT : T < 1000000) : IP (T + 1) np nz ng (u2 v 1 0 (v 1 0 + 1) 1) := by
  refine h.to ⟨by omega, h.1.2.1, h.1.2.2.1, h.1.2.2.2⟩ fun i hi => ?_
  by_cases e : i = 0
  · subst e
    rw [u2_s, h.time, nI_1]
    exact okc_time
  · rw [u2_k e]
    exact okc_mono hi e
theorem within_eq (x lo hi : Int32) : mf_within x lo hi = if lo ≤ x then (if x ≤ hi then x else hi) else lo := by
  simp only [mf_within, mf_within_19]
theorem nI_nn {x : Int32} {a : Nat} (ha : a < 2 ^ 31) (h : nI a ≤ x) : ¬ x < 0 := by
  rw [Int32.lt_iff_toInt_lt, Int32.toInt_zero]
  rw [Int32.le_iff_toInt_le, nI_toInt ha] at h
  omega
theorem within_rgl {x : Int32} {a b : Nat} (hb : b < 2 ^ 31) (hab : a ≤ b) : rgl (mf_within x (nI a) (nI b)) a b := by
  rw [within_eq]
  split
  · rename_i h1
    split
    · rename_i h2
      obtain ⟨j, j1, rfl⟩ := nI_of2 (nI_toInt hb) (nI_nn (by omega) h1) h2
      exact ⟨j, (nI_leI (by omega) (by omega)).mp h1, j1, rfl⟩
    · exact ⟨b, hab, Nat.le_refl _, rfl⟩
  · exact ⟨a, Nat.le_refl _, hab, rfl⟩
theorem rgl_rg {x : Int32} {a b : Nat} (h : rgl x a b) : rg x b := by
  obtain ⟨j, _, h1, h2⟩ := h
  exact ⟨j, h1, h2⟩
theorem root_2_eq {x : Int64} {nn : Nat} (hx : x = lN nn) (hn : nn ≤ 2000000) : ∀ (n r : Nat), r * r ≤ nn → 1500 < r + n → ∃ q : Nat, mf_root_2 x n (lN r) = nI q ∧ q * q ≤ nn ∧ nn < (q + 1) * (q + 1) := by
  intro n
  induction n with
  | zero =>
    intro r h1 h2
    exact (root_zero hn ⟨r, rfl, h1, h2⟩).elim
  | succ n ih =>
    intro r h1 h2
    rw [mf_root_2]
    split
    · rename_i c
      refine ⟨r, lN_i r, h1, ?_⟩
      subst hx
      have hr : r ≤ 1415 := by
        apply Classical.byContradiction
        intro q
        have : 1416 * 1416 ≤ r * r := Nat.mul_le_mul (by omega) (by omega)
        omega
      have hb : (r + 1) * (r + 1) ≤ 1416 * 1416 := Nat.mul_le_mul (by omega) (by omega)
      rw [lg_cmp_gt, lN_1, lN_mul, pk_lLT (by omega) (by omega)] at c
      exact c
    · rename_i c
      obtain ⟨q, hq, q1, q2⟩ := root_step hx hn ⟨r, rfl, h1, h2⟩ c
      have e := lN_1 r
      rw [e]
      rw [e] at hq
      have : r + 1 = q := by
        have hr : r ≤ 1415 := by
          apply Classical.byContradiction
          intro z
          have : 1416 * 1416 ≤ r * r := Nat.mul_le_mul (by omega) (by omega)
          omega
        have hq' : q ≤ 1415 := by
          apply Classical.byContradiction
          intro z
          have : 1416 * 1416 ≤ q * q := Nat.mul_le_mul (by omega) (by omega)
          omega
        exact (pk_lEQ (by omega) (by omega)).mp hq
      subst this
      exact ih (r + 1) q1 q2
theorem root_eq {x : Int64} {nn : Nat} (hx : x = lN nn) (hn : nn ≤ 2000000) : ∃ q : Nat, mf_root x = nI q ∧ q * q ≤ nn ∧ nn < (q + 1) * (q + 1) := by
  rw [mf_root]
  exact root_2_eq hx hn 1502 0 (Nat.zero_le _) (by omega)
theorem root_le {q nn : Nat} (hn : nn ≤ 2000000) (h : q * q ≤ nn) : q ≤ 1415 := by
  apply Classical.byContradiction
  intro z
  have : 1416 * 1416 ≤ q * q := Nat.mul_le_mul (by omega) (by omega)
  omega
theorem flow_rg {v : Nat → Nat → Int32} {k : Nat} {speed pressure : Int32} (h : FlowOk v k speed pressure) : rg (mf_flow v k speed pressure) 1415 := by
  rw [mf_flow]
  split
  · rename_i c
    obtain ⟨nn, n1, n2⟩ := flow_root h c
    obtain ⟨q, q1, q2, _⟩ := root_eq n2 n1
    rw [mf_flow_51]
    exact ⟨q, root_le n1 q2, q1⟩
  · rw [mf_flow_51]
    exact rg_0
theorem IP_programmes_7 {T np nz ng : Nat} (v : Nat → Nat → Int32) : ∀ (n k : Nat) (w : Nat → Nat → Int32), IP T np nz ng (w 1) → IP T np nz ng (mf_programmes_7 v n k w 1) := by
  intro n
  induction n with
  | zero => intro k w h; exact h
  | succ n ih =>
    intro k w h
    rw [mf_programmes_7]
    simp only [mf_programmes_85]
    have hc := h.cg
    have hb := h.b
    split
    · exact h
    · rename_i c
      obtain ⟨z1, z2⟩ := h.pzn (show k < ng by omega)
      have key : ∀ x, rg x 1 → IP T np nz ng (u2 w 1 (87 + 2 * tN (w 1 (103 + (3 * k))) + 1) x 1) := fun x hx => h.up (okc_open h.b (by omega) ⟨hx, fun z => absurd z2 (by omega)⟩)
      split
      · exact ih _ _ (key _ (rg_1 (by decide)))
      · split
        · exact ih _ _ (key _ rg_0)
        · exact ih _ _ (key _ (h.opn (by omega)).1)
theorem IP_programmes {T np nz ng : Nat} {v : Nat → Nat → Int32} (h : IP T np nz ng (v 1)) : IP T np nz ng (mf_programmes v 1) := IP_programmes_7 v 9 0 v h
theorem programmes_7_6 {T np nz ng : Nat} (v : Nat → Nat → Int32) : ∀ (n k : Nat) (w : Nat → Nat → Int32) (j : Nat), j < 87 → mf_programmes_7 v n k w 1 j = w 1 j := by
  intro n
  induction n with
  | zero => intro k w j h; rfl
  | succ n ih =>
    intro k w j h
    rw [mf_programmes_7]
    simp only [mf_programmes_85]
    repeat' split
    all_goals first | rfl | (rw [ih _ _ _ h, u2_k (by omega)])
theorem programmes_fr {v : Nat → Nat → Int32} {j : Nat} (h : j < 87) : mf_programmes v 1 j = v 1 j := programmes_7_6 (T := 0) (np := 0) (nz := 0) (ng := 0) v 9 0 v j h
theorem IP_water_99 {T np nz ng : Nat} (v : Nat → Nat → Int32) (rc : Int32 → Nat → (Nat → Nat → Int32) → (Nat → Nat → Int32)) (i : Int32) (k : Nat) {w : Nat → Nat → Int32} {s : Int32} (h : IP T np nz ng (w 1)) (hs : rg s 20000) : IP T np nz ng (mf_water_99 v rc i k w s 1) := by
  rw [mf_water_99]
  have hb := h.b
  exact ((((h.up (okc_3 hb hs)).up (okc_free hb (by omega))).up (okc_2 hb (rgl_rg (within_rgl (a := 0) (b := 20000) (by decide) (by decide))))).up (okc_1 hb (rgl_rg (within_rgl (a := 0) (b := 2000) (by decide) (by decide)))))
theorem IP_water_4 {T np nz ng : Nat} (v : Nat → Nat → Int32) : ∀ (n : Nat) (i : Int32) (k : Nat) (w : Nat → Nat → Int32), IP T np nz ng (w 1) → k ≤ np → rg i (k * 1415) → IP T np nz ng (mf_water_4 v n i k w 1) := by
  intro n
  induction n with
  | zero => intro i k w h _ _; exact h
  | succ n ih =>
    intro i k w h hk hi
    rw [mf_water_4]
    have hc := h.cp
    have hb := h.b
    obtain ⟨a, a1, a2⟩ := hi
    obtain ⟨lv, l1, l2⟩ := h.level
    split
    · split
      · rename_i c
        refine IP_water_99 v _ i k h ?_
        rw [a2, l2] at c
        exact ⟨a, Nat.le_trans ((nI_leI (by omega) (by omega)).mp c) l1, a2⟩
      · exact IP_water_99 v _ i k h h.level
    · rename_i c
      split
      · rw [mf_water_c54, mf_water_c70, mf_water_73]
        have hkn : k < np := by omega
        refine ih _ _ _ (IP_put (by omega) (by decide) (IP_put (by omega) (by decide) h (fun _ => pmR_5 (by decide))) (fun _ => pmR_5 (by decide))) (by omega) ?_
        obtain ⟨q, q1, q2⟩ := flow_rg (h.flow hkn ((h.pump hkn (w := 4) (by decide)).2.2.2.2 rfl) h.press)
        rw [a2, show mf_flow w k (mf_of w k 4) (w 1 1) = nI q from q2, nI_add]
        exact ⟨a + q, by omega, rfl⟩
      · rw [mf_water_73]
        exact ih _ _ _ h (by omega) ⟨a, by omega, a2⟩
theorem IP_water {T np nz ng : Nat} {v : Nat → Nat → Int32} (h : IP T np nz ng (v 1)) : IP T np nz ng (mf_water v 1) := IP_water_4 v 7 0 0 v h (Nat.zero_le _) rg_0
theorem water_99_fr (v : Nat → Nat → Int32) (rc : Int32 → Nat → (Nat → Nat → Int32) → (Nat → Nat → Int32)) (i : Int32) (k : Nat) (w : Nat → Nat → Int32) (s : Int32) {j : Nat} (h : j < 39) (h1 : j ≠ 1 ∧ j ≠ 2 ∧ j ≠ 3 ∧ j ≠ 13) : mf_water_99 v rc i k w s 1 j = w 1 j := by
  rw [mf_water_99, u2_k h1.1, u2_k h1.2.1, u2_k h1.2.2.2, u2_k h1.2.2.1]
theorem put_fr {v : Nat → Nat → Int32} {k w : Nat} {x : Int32} {j : Nat} (h : j < 39) : mf_put v k w x 1 j = v 1 j := by
  rw [mf_put, u2_k (by omega)]
theorem water_4_fr (v : Nat → Nat → Int32) {j : Nat} (h : j < 39) (h1 : j ≠ 1 ∧ j ≠ 2 ∧ j ≠ 3 ∧ j ≠ 13) : ∀ (n : Nat) (i : Int32) (k : Nat) (w : Nat → Nat → Int32), mf_water_4 v n i k w 1 j = w 1 j := by
  intro n
  induction n with
  | zero => intro i k w; rfl
  | succ n ih =>
    intro i k w
    rw [mf_water_4]
    split
    · split <;> rw [water_99_fr v _ _ _ _ _ h h1]
    · split
      · rw [mf_water_c54, mf_water_c70, mf_water_73, ih, put_fr h, put_fr h]
      · rw [mf_water_73, ih]
theorem water_fr {v : Nat → Nat → Int32} {j : Nat} (h : j < 39) (h1 : j ≠ 1 ∧ j ≠ 2 ∧ j ≠ 3 ∧ j ≠ 13) : mf_water v 1 j = v 1 j := water_4_fr v h h1 7 0 0 v
theorem IP_night_113 {T np nz ng : Nat} (v v0 : Nat → Nat → Int32) : ∀ (n i : Nat) (w : Nat → Nat → Int32), IP T np nz ng (w 1) → IP T np nz ng (mf_night_113 v v0 n i w 1) := by
  intro n
  induction n with
  | zero => intro i w h; exact h
  | succ n ih =>
    intro i w h
    rw [mf_night_113]
    have hb := h.b
    split
    · have h2 : IP T np nz ng (u2 (u2 w 1 127 (w 1 8)) 1 8 (0 : Int32) 1) := (h.up (okc_free hb (by omega))).up (okc_free hb (by omega))
      obtain ⟨q, q1, q2⟩ := h2.nn
      split
      · rename_i c
        rw [mf_night_190]
        refine h2.up (okc_18 hb ?_)
        rw [q2]
        exact ⟨q, q1, by rw [bI_0]; exact Int32.add_zero _⟩
      · rename_i c
        rw [mf_night_190]
        refine h2.up (okc_18 hb ?_)
        rw [q2] at c ⊢
        have : ¬ 7 ≤ q := fun z => c ((nI_leI (a := 7) (by decide) (by omega)).mpr z)
        exact ⟨q + 1, by omega, nI_1 q⟩
    · exact ih _ _ (h.up (okc_free hb (by omega)))
theorem IP_night {T np nz ng : Nat} {v : Nat → Nat → Int32} (h : IP T np nz ng (v 1)) : IP T np nz ng (mf_night v 1) := by
  have hb := h.b
  have h8 : ∀ x, IP T np nz ng (u2 v 1 8 x 1) := fun x => h.up (okc_free hb (by omega))
  rw [mf_night]
  split
  · split
    · split
      · rw [mf_night_110]; exact IP_night_113 _ _ _ _ _ (h8 _)
      · split
        · rw [mf_night_110]; exact IP_night_113 _ _ _ _ _ (h8 _)
        · rw [mf_night_c107, mf_night_110]; exact IP_night_113 _ _ _ _ _ (IP_event ((h8 _).up (okc_free hb (by omega))))
    · exact h8 _
  · exact h
theorem night_113_fr (v v0 : Nat → Nat → Int32) {j : Nat} (h : j < 127) (h8 : j ≠ 8) (h18 : j ≠ 18) : ∀ (n i : Nat) (w : Nat → Nat → Int32), mf_night_113 v v0 n i w 1 j = w 1 j := by
  intro n
  induction n with
  | zero => intro i w; rfl
  | succ n ih =>
    intro i w
    rw [mf_night_113]
    split
    · split <;> (rw [mf_night_190, u2_k h18, u2_k h8, u2_k (by omega)])
    · rw [ih, u2_k (by omega)]
theorem night_fr {v : Nat → Nat → Int32} {j : Nat} (h : j < 127) (h8 : j ≠ 8) (h18 : j ≠ 18) (h9 : j ≠ 9) (h19 : j ≠ 19) : mf_night v 1 j = v 1 j := by
  rw [mf_night]
  split
  · split
    · split
      · rw [mf_night_110, night_113_fr _ _ h h8 h18, u2_k h8]
      · split
        · rw [mf_night_110, night_113_fr _ _ h h8 h18, u2_k h8]
        · rw [mf_night_c107, mf_night_110, night_113_fr _ _ h h8 h18, event_fr (by omega) h19, u2_k h9, u2_k h8]
    · exact u2_k h8
  · rfl
theorem stop_fr {v : Nat → Nat → Int32} {k j : Nat} (h : j < 39) (h4 : j ≠ 4) (h19 : j ≠ 19) : mf_stop v k 1 j = v 1 j := by
  simp only [mf_stop, mf_stop_c4, mf_stop_c12, mf_stop_43, mf_stop_c47]
  split <;> rw [event_fr (by omega) h19, u2_k h4, put_fr h, put_fr h]
theorem IP_dryness_116 {T np nz ng : Nat} (v : Nat → Nat → Int32) (x : Int32) {w : Nat → Nat → Int32} (h : IP T np nz ng (w 1)) : IP T np nz ng (mf_dryness_116 v x w 1) := by
  rw [mf_dryness_116]
  have hb := h.b
  repeat' split
  all_goals first | (rw [mf_dryness_165]; exact h) | (rw [mf_dryness_c162, mf_dryness_165]; exact IP_event (h.up (okc_5 hb rg_0)))
theorem IP_dryness_69 {T np nz ng : Nat} (v : Nat → Nat → Int32) (x : Int32) (hT : 1 ≤ T) : ∀ (n k : Nat) (w : Nat → Nat → Int32), IP T np nz ng (w 1) → rg (w 1 6) (T - 1) → IP T np nz ng (mf_dryness_69 v x n k w 1) := by
  intro n
  induction n with
  | zero => intro k w h _; exact h
  | succ n ih =>
    intro k w h h6
    rw [mf_dryness_69]
    have hb := h.b
    have hc := h.cp
    split
    · rw [mf_dryness_c113]
      refine IP_dryness_116 v x (IP_event (h.up (okc_6 hb ?_)))
      obtain ⟨q, q1, q2⟩ := h6
      rw [q2]
      exact ⟨q + 1, by omega, nI_1 q⟩
    · split
      · rw [mf_dryness_c90, mf_dryness_93]
        exact ih _ _ (IP_stop (by omega) h) (by rw [stop_fr (by decide) (by decide) (by decide)]; exact h6)
      · rw [mf_dryness_93]
        exact ih _ _ h h6
theorem IP_dryness {T np nz ng : Nat} {v : Nat → Nat → Int32} (hT : 1 ≤ T) (h : IP T np nz ng (v 1)) (h6 : rg (v 1 6) (T - 1)) : IP T np nz ng (mf_dryness v 1) := by
  have hb := h.b
  have key : ∀ x, IP T np nz ng (mf_dryness_34 v x 1) := fun x => by
    have h7 : IP T np nz ng (u2 v 1 7 x 1) := h.up (okc_free hb (by omega))
    rw [mf_dryness_34]
    split
    · exact IP_dryness_116 v x h7
    · split
      · exact IP_dryness_69 v x hT _ _ _ (h7.up (okc_5 hb (rg_1 (by decide)))) (by rw [u2_k (by decide), u2_k (by decide)]; exact h6)
      · exact IP_dryness_116 v x h7
  rw [mf_dryness]
  split <;> exact key _
theorem IP_regulate {T np nz ng : Nat} {v : Nat → Nat → Int32} (h : IP T np nz ng (v 1)) : IP T np nz ng (mf_regulate v 1) := by
  rw [mf_regulate]
  split
  · rw [mf_regulate_73]; exact h
  · rename_i c
    obtain ⟨hj1, hj2⟩ := isP_n h.var c h.n6
    rw [mf_regulate_c70, mf_regulate_73]
    refine IP_put (by have := h.n6; omega) (by decide) h (fun _ => pmR_4 ?_)
    obtain ⟨a, a1, a2⟩ := set4_rg h
    rw [a2]
    exact rgl_rg (within_rgl (a := a) (b := 1000) (by decide) a1)
theorem counts_eq (v : Nat → Nat → Int32) (what : Nat) (b : Bool) : mf_counts v what b = u2 v 1 what (if b = true then v 1 what + 1 else 0) := by
  rw [mf_counts]
  split <;> rw [mf_counts_21]
theorem countAll_c167 (v : Nat → Nat → Int32) (b1 b2 b3 b4 b5 : Bool) (v1 : Nat → Nat → Int32) (b6 : Bool) (w : Nat → Nat → Int32) : ∃ b : Bool, (b = true → b4 = true) ∧ mf_countAll_c167 v b1 b2 b3 b4 b5 v1 b6 w = mf_counts w 12 b := by
  rw [mf_countAll_c167]
  simp only [mf_countAll_201, mf_countAll_202, mf_countAll_c202]
  split
  · rename_i h
    repeat' split
    all_goals exact ⟨_, fun _ => h, rfl⟩
  · exact ⟨false, fun h => (by cases h), rfl⟩
theorem countAll_c128 (v : Nat → Nat → Int32) (b1 b2 b3 b4 b5 : Bool) (w : Nat → Nat → Int32) : ∃ b b' : Bool, (b = true → b4 = true) ∧ mf_countAll_c128 v b1 b2 b3 b4 b5 w = mf_counts (mf_counts w 11 b') 12 b := by
  have key : ∀ x, ∃ b b' : Bool, (b = true → b4 = true) ∧ mf_countAll_167 v b1 b2 b3 b4 b5 w x = mf_counts (mf_counts w 11 b') 12 b := fun x => by
    obtain ⟨b, h1, h2⟩ := countAll_c167 v b1 b2 b3 b4 b5 w x (mf_counts w 11 x)
    exact ⟨b, x, h1, by rw [mf_countAll_167]; exact h2⟩
  rw [mf_countAll_c128]
  repeat' split
  all_goals first | exact key _ | (rw [mf_countAll_166]; exact key _)
theorem countAll_90 (v : Nat → Nat → Int32) (b1 b2 b3 b4 : Bool) : ∃ b b' b'' : Bool, (b = true → b4 = true) ∧ mf_countAll_90 v b1 b2 b3 b4 = mf_counts (mf_counts (mf_counts v 10 b'') 11 b') 12 b := by
  have key : ∀ x, ∃ b b' b'' : Bool, (b = true → b4 = true) ∧ mf_countAll_128 v b1 b2 b3 b4 x = mf_counts (mf_counts (mf_counts v 10 b'') 11 b') 12 b := fun x => by
    obtain ⟨b, b', h1, h2⟩ := countAll_c128 v b1 b2 b3 b4 x (mf_counts v 10 x)
    exact ⟨b, b', x, h1, by rw [mf_countAll_128]; exact h2⟩
  rw [mf_countAll_90]
  repeat' split
  all_goals first | exact key _ | (rw [mf_countAll_127]; exact key _)
theorem countAll_eq (v : Nat → Nat → Int32) : ∃ b b' b'' : Bool, (b = true → ¬ v 1 4 = -1) ∧ mf_countAll v = mf_counts (mf_counts (mf_counts v 10 b'') 11 b') 12 b := by
  have k66 : ∀ b1 b2 b3, ∃ b b' b'' : Bool, (b = true → ¬ v 1 4 = -1) ∧ mf_countAll_66 v b1 b2 b3 = mf_counts (mf_counts (mf_counts v 10 b'') 11 b') 12 b := fun b1 b2 b3 => by
    rw [mf_countAll_66]
    split
    · split
      · rw [mf_countAll_89]
        obtain ⟨b, b', b'', h1, h2⟩ := countAll_90 v b1 b2 b3 false
        exact ⟨b, b', b'', fun z => (by have := h1 z; cases this), h2⟩
      · rename_i c
        obtain ⟨b, b', b'', h1, h2⟩ := countAll_90 v b1 b2 b3 true
        exact ⟨b, b', b'', fun _ => c, h2⟩
    · rw [mf_countAll_89]
      obtain ⟨b, b', b'', h1, h2⟩ := countAll_90 v b1 b2 b3 false
      exact ⟨b, b', b'', fun z => (by have := h1 z; cases this), h2⟩
  have k38 : ∀ b1 b2, ∃ b b' b'' : Bool, (b = true → ¬ v 1 4 = -1) ∧ mf_countAll_38 v b1 b2 = mf_counts (mf_counts (mf_counts v 10 b'') 11 b') 12 b := fun b1 b2 => by
    rw [mf_countAll_38]
    repeat' split
    all_goals first | exact k66 _ _ _ | (rw [mf_countAll_61]; exact k66 _ _ _)
  have k12 : ∀ b1, ∃ b b' b'' : Bool, (b = true → ¬ v 1 4 = -1) ∧ mf_countAll_12 v b1 = mf_counts (mf_counts (mf_counts v 10 b'') 11 b') 12 b := fun b1 => by
    rw [mf_countAll_12]
    repeat' split
    all_goals first | exact k38 _ _ | (rw [mf_countAll_33]; exact k38 _ _)
  rw [mf_countAll]
  split <;> exact k12 _
theorem IP_countAll {T np nz ng : Nat} {v : Nat → Nat → Int32} (h : IP T np nz ng (v 1)) : IP T np nz ng (mf_countAll v 1) := by
  have hb := h.b
  obtain ⟨b, b', b'', _, e⟩ := countAll_eq v
  rw [e, counts_eq, counts_eq, counts_eq]
  exact ((h.up (okc_free hb (by omega))).up (okc_free hb (by omega))).up (okc_free hb (by omega))
/-- who sleeps has a variable pump -/
theorem countAll_sl {T np nz ng : Nat} {v : Nat → Nat → Int32} (h : IP T np nz ng (v 1)) : ¬ mf_countAll v 1 12 < mf_setting (mf_countAll v) 8 → ¬ mf_countAll v 1 4 = -1 := by
  obtain ⟨b, b', b'', h1, e⟩ := countAll_eq v
  have e4 : mf_countAll v 1 4 = v 1 4 := by rw [e, counts_eq, counts_eq, counts_eq, u2_k (by decide), u2_k (by decide), u2_k (by decide)]
  have e28 : mf_setting (mf_countAll v) 8 = v 1 28 := by rw [mf_setting, e, counts_eq, counts_eq, counts_eq, u2_k (by decide), u2_k (by decide), u2_k (by decide)]
  intro c
  rw [e4]
  cases b with
  | true => exact h1 rfl
  | false =>
    exfalso
    rw [e28] at c
    have e12 : mf_countAll v 1 12 = 0 := by rw [e, counts_eq, u2_s]; rfl
    rw [e12] at c
    obtain ⟨j, j1, j2, j3⟩ := h.set (k := 8) (by decide)
    rw [show v 1 28 = nI j from j3] at c
    have j1' : 1 ≤ j := j1
    have j2' : j ≤ 60 := j2
    exact c ((nI_ltI (a := 0) (by decide) (by omega)).mpr (by omega))
theorem IP_beginAnew {T np nz ng : Nat} {v : Nat → Nat → Int32} (h : IP T np nz ng (v 1)) : IP T np nz ng (mf_beginAnew v 1) := by
  have hb := h.b
  rw [mf_beginAnew]
  exact ((h.up (okc_free hb (by omega))).up (okc_free hb (by omega))).up (okc_free hb (by omega))
theorem IP_cascade {T np nz ng : Nat} {v : Nat → Nat → Int32} (h : IP T np nz ng (v 1)) (hsl : ¬ v 1 12 < mf_setting v 8 → ¬ v 1 4 = -1) : IP T np nz ng (mf_cascade v 1) := by
  have hr := ready_P 0 h.cp
  have hl := longest_P h.cp
  have hn := h.n6
  have k115 : ∀ w : Nat → Nat → Int32, IP T np nz ng (w 1) → IP T np nz ng (mf_cascade_115 v w 1) := fun w hw => by rw [mf_cascade_115]; exact hw
  have k79 : IP T np nz ng (mf_cascade_79 v 1) := by
    rw [mf_cascade_79]
    split
    · exact k115 _ h
    · rename_i c
      have hj := (isP_n h.var (hsl c) hn).2
      rw [mf_cascade_c102, mf_cascade_c108, mf_cascade_c112]
      exact k115 _ (IP_beginAnew (IP_event (IP_stop (by omega) h)))
  have k40 : IP T np nz ng (mf_cascade_40 v 1) := by
    rw [mf_cascade_40]
    split
    · exact k79
    · split
      · exact k79
      · rename_i c
        have hj := (isP_n hl c hn).2
        rw [mf_cascade_c69, mf_cascade_c73]
        exact k115 _ (IP_beginAnew (IP_stop (by omega) h))
  rw [mf_cascade]
  split
  · exact k40
  · split
    · exact k40
    · rename_i c
      have hj := (isP_n hr c hn).2
      rw [mf_cascade_c30, mf_cascade_c34]
      exact k115 _ (IP_beginAnew (IP_start hj h))
theorem IP_rotate_42 {T np nz ng : Nat} {v : Nat → Nat → Int32} (h : IP T np nz ng (v 1)) (c4 : ¬ v 1 4 = -1) : ∀ (n : Nat) (i : Int32) (k : Nat), isP np i → IP T np nz ng (mf_rotate_42 v n i k 1) := by
  have hn := h.n6
  have hj := (isP_n h.var c4 hn).2
  have hc := h.cp
  intro n
  induction n with
  | zero => intro i k _; exact h
  | succ n ih =>
    intro i k hi
    rw [mf_rotate_42]
    simp only [mf_rotate_89, mf_rotate_90, mf_rotate_117, mf_rotate_121, mf_rotate_122, mf_rotate_158, mf_rotate_c143, mf_rotate_c150, mf_rotate_c155]
    split
    · split
      · exact h
      · rename_i c
        have hf := (isP_n hi c hn).2
        exact IP_stop (by omega) (IP_event (IP_begins hf ((h.pump hj (w := 4) (by decide)).2.2.2.2 rfl) h))
    · repeat' split
      all_goals first | exact ih _ _ hi | exact ih _ _ (isP_nI (by omega))
theorem IP_rotate {T np nz ng : Nat} {v : Nat → Nat → Int32} (h : IP T np nz ng (v 1)) : IP T np nz ng (mf_rotate v 1) := by
  rw [mf_rotate]
  simp only [mf_rotate_37]
  repeat' split
  all_goals first | exact h | exact IP_rotate_42 h (by assumption) _ _ _ isP_m1
