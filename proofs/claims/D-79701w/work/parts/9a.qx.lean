set_option maxRecDepth 100000
/-! QX: a minute, whole: what holds of a station is kept, and it is the reference's -/
section QX
variable {w : Nat → Nat → Int32} {s : Int32} {f g : Nat → Int32} {T np nz ng nn : Nat}
theorem SI_0 (hS : SI T np nz ng f) : SI T np nz ng (upd f 177 0) := by
  have hn := hS.n6
  refine hS.of (IP_Rf (w := fun _ _ => 0) (s := (0 : Int32) ||| f 177) (by rw [Vf_new]; exact IP_Vf hS.ip)) (fun j _ => pk_un (by omega)) (pk_un (by decide)) (hS.vr.cong (pk_un (by decide)) (fun d => ?_) (fun d => ?_))
  · obtain ⟨e5, h5⟩ := isP_n hS.var d hn
    exact pk_un (by omega)
  · obtain ⟨e5, h5⟩ := isP_n hS.var d hn
    exact pk_un (by omega)
theorem SI_go1 (hS : SI T np nz ng f) (hT : T < 1000000) : SI (T + 1) np nz ng (cf_go1 f) ∧ runT T np (cf_go1 f) := by
  have hn := hS.n6
  obtain ⟨e, o⟩ := E_go1 (w := fun _ _ => 0) (s := 0) hS.ip
  have hr : runT T np (cf_go1 f) := fun k hk => by
    rw [o _ (by omega) (by omega)]
    exact hS.2.1 k hk
  refine ⟨⟨IP_Rf (w := fun _ _ => 0) (s := 0) (by rw [e]; exact IP_programmes (IP_time (IP_Vf hS.ip) hT)), fun k hk => rg_mono (hr k hk) (Nat.le_succ T), by rw [o _ (by decide) (by omega)]; exact hS.q, hS.vr.cong (o _ (by decide) (by omega)) (fun d => ?_) (fun d => ?_)⟩, hr⟩
  · obtain ⟨e5, h5⟩ := isP_n hS.var d hn
    exact o _ (by omega) (by omega)
  · obtain ⟨e5, h5⟩ := isP_n hS.var d hn
    exact o _ (by omega) (by omega)
theorem go2_o {p : Nat} (h1 : p ≠ 1) (h2 : p ≠ 2) (h3 : p ≠ 3) (h13 : p ≠ 13) : cf_go2 f p = f p := by
  rw [go2_eq, pk_un h1]
  unfold watA
  rw [pk_un h2, pk_un h13, pk_un h3]
theorem go3_run (f0 : Nat → Int32) {j T0 : Nat} : ∀ (n k : Nat) (g : Nat → Int32), (if j < k then rg (g (39 + (8 * j) + 5)) (T0 + 1) else rg (g (39 + (8 * j) + 5)) T0) → rg (cf_go3_2 f0 n k g (39 + (8 * j) + 5)) (T0 + 1) := by
  have mono : ∀ (k : Nat) (x : Int32), (if j < k then rg x (T0 + 1) else rg x T0) → rg x (T0 + 1) := fun k x h => by
    by_cases c : j < k
    · rwa [if_pos c] at h
    · rw [if_neg c] at h
      exact rg_mono h (Nat.le_succ _)
  intro n
  induction n with
  | zero => intro k g h; exact mono k _ h
  | succ n ih =>
    intro k g h
    by_cases c : nC g 14 ≤ k
    · rw [cf_go3_2, if_pos c]
      exact mono k _ h
    · rw [go3_step f0 n k c]
      refine ih _ _ ?_
      by_cases e : j = k
      · subst e
        rw [if_pos (Nat.lt_succ_self j)]
        rw [if_neg (Nat.lt_irrefl j)] at h
        obtain ⟨a, a1, a2⟩ := h
        unfold runK
        rw [pk_un (by omega), pk_us, a2]
        by_cases d : cf_runs g j = true
        · rw [d, bI_1, nI_1]
          exact ⟨a + 1, by omega, rfl⟩
        · rw [show cf_runs g j = false from by simpa using d, bI_0, Int32.add_zero]
          exact ⟨a, by omega, rfl⟩
      · rw [runK_o (by omega) (by omega)]
        by_cases c2 : j < k
        · rw [if_pos c2] at h
          rw [if_pos (by omega)]
          exact h
        · rw [if_neg c2] at h
          rw [if_neg (by omega)]
          exact h
theorem go23_o {p : Nat} (hS : SI T np nz ng f) (h1 : p ≠ 1) (h2 : p ≠ 2) (h3 : p ≠ 3) (h13 : p ≠ 13) (hp : ∀ k, k < np → p ≠ 39 + (8 * k) + 5 ∧ p ≠ 39 + (8 * k) + 6) : cf_go3 (cf_go2 f) p = f p :=
  (go3_o2 (np := np) (cf_go2 f) hp 7 0 (cf_go2 f) ((congrArg tN (go2_o (by decide) (by decide) (by decide) (by decide))).trans hS.cp)).trans (go2_o h1 h2 h3 h13)
theorem SI_go23 {T0 : Nat} (hS : SI T np nz ng f) (hr : runT T0 np f) (h : T0 + 1 ≤ T) : SI T np nz ng (cf_go3 (cf_go2 f)) := by
  have hn := hS.n6
  refine ⟨IP_Rf (w := fun _ _ => 0) (s := 0) (by rw [E_go23 hS.ip]; exact IP_water (IP_Vf hS.ip)), fun k hk => ?_, by rw [go23_o hS (by decide) (by decide) (by decide) (by decide) (fun k _ => by omega)]; exact hS.q, hS.vr.cong (go23_o hS (by decide) (by decide) (by decide) (by decide) (fun k _ => by omega)) (fun d => ?_) (fun d => ?_)⟩
  · refine rg_mono (go3_run (T0 := T0) (cf_go2 f) 7 0 (cf_go2 f) ?_) h
    rw [if_neg (by omega), go2_o (by omega) (by omega) (by omega) (by omega)]
    exact hr k hk
  · obtain ⟨e5, h5⟩ := isP_n hS.var d hn
    exact go23_o hS (by omega) (by omega) (by omega) (by omega) (fun k _ => by omega)
  · obtain ⟨e5, h5⟩ := isP_n hS.var d hn
    exact go23_o hS (by omega) (by omega) (by omega) (by omega) (fun k _ => by omega)
theorem nightT_p {p : Nat} (h : p < 200) (h8 : p ≠ 8) (h18 : p ≠ 18) (h174 : p ≠ 174) : nightT f nn p = f p := by
  unfold nightT
  rw [pk_un h8]
  by_cases c : 7 < nn + 1
  · rw [if_pos c, nRem_o h h18 h174, nAdd_o h h18 h174]
  · rw [if_neg c, nAdd_o h h18 h174]
theorem f4_o {p : Nat} (h8 : p ≠ 8) : f4 f p = f p := by
  unfold f4
  rw [pk_un h8]
theorem Go4_o {p : Nat} (he : rg (f 19) 12) (hg : Go4 f nn g) (h : p < 134 ∨ (170 ≤ p ∧ p ≠ 177 ∧ p < 200)) (h8 : p ≠ 8) (h9 : p ≠ 9) (h18 : p ≠ 18) (h19 : p ≠ 19) (h174 : p ≠ 174) : g p = f p := by
  unfold Go4 at hg
  by_cases c : n4 f = f 36 - (1 : Int32)
  · rw [if_pos c] at hg
    obtain ⟨mid, _, rfl⟩ := hg
    unfold nightF
    rw [nightT_p (by omega) h8 h18 h174]
    unfold night1
    by_cases d : 3 ≤ nn ∧ mid + f4 f 37 < f4 f 8
    · rw [if_pos d, tell1_o (by rw [pk_un (by decide), f4_o (by decide)]; exact he) _ (by omega) h19, pk_un h9, f4_o h8]
    · rw [if_neg d, f4_o h8]
  · rw [if_neg c] at hg
    rw [hg, f4_o h8]
theorem SI_go4 (hS : SI T np nz ng f) (h18 : f 18 = nI nn) (hn7 : nn ≤ 7) (hg : Go4 f nn g) : SI T np nz ng g := by
  have hn := hS.n6
  obtain ⟨a, a0, a1, a2⟩ := hS.ip.set (k := 16) (by decide)
  have f36 : f 36 = nI a := a2
  have a0' : 1 ≤ a := a0
  have a1' : a ≤ 600 := a1
  have o : ∀ p, p < 134 ∨ (170 ≤ p ∧ p ≠ 177 ∧ p < 200) → p ≠ 8 → p ≠ 9 → p ≠ 18 → p ≠ 19 → p ≠ 174 → g p = f p := fun p h h8 h9 h18 h19 h174 => Go4_o hS.ne hg h h8 h9 h18 h19 h174
  refine hS.of (IP_Rf (w := fun _ _ => 0) (s := 0) (by rw [E_go4 h18 hn7 hS.ne a0' (by omega) f36 hg]; exact IP_night (IP_Vf hS.ip))) (fun j _ => o _ (by omega) (by omega) (by omega) (by omega) (by omega) (by omega)) (o _ (by omega) (by omega) (by omega) (by omega) (by omega) (by omega)) (hS.vr.cong (o _ (by omega) (by omega) (by omega) (by omega) (by omega) (by omega)) (fun d => ?_) (fun d => ?_))
  · obtain ⟨e5, h5⟩ := isP_n hS.var d hn
    exact o _ (by omega) (by omega) (by omega) (by omega) (by omega) (by omega)
  · obtain ⟨e5, h5⟩ := isP_n hS.var d hn
    exact o _ (by omega) (by omega) (by omega) (by omega) (by omega) (by omega)
theorem go5_53_o (f0 : Nat → Int32) (y : Int32) {p : Nat} (he : rg (g 19) 12) (h5 : p ≠ 5) (h19 : p ≠ 19) (hp : p < 134 ∨ (170 ≤ p ∧ p ≠ 177)) : cf_go5_53 f0 y g p = g p := by
  unfold cf_go5_53 cf_go5_72 cf_go5_c69 cf_go5_72
  by_cases c : cf_canGoOn g = true
  · rw [if_pos c]
    by_cases d : (3 : Int32) ≤ g 6
    · rw [if_pos d]
    · rw [if_neg d]
      unfold cf_goOn cf_goOn_c7
      rw [tell1_o (by rw [pk_un (by decide)]; exact he) _ hp h19, pk_un h5]
  · rw [if_neg c]
theorem trip_2_o (f0 : Nat → Int32) {p : Nat} (hn6 : np ≤ 6) (h4 : p ≠ 4) (h5 : p ≠ 5) (h6 : p ≠ 6) (h19 : p ≠ 19) (hp : p < 134 ∨ (170 ≤ p ∧ p ≠ 177)) (hk : ∀ k, k < np → p ≠ 39 + (8 * k) + 4 ∧ p ≠ 39 + (8 * k) + 6) : ∀ (n k : Nat) (f : Nat → Int32), nC f 14 = np → rg (f 19) 12 → cf_trip_2 f0 n k f p = f p := by
  intro n
  induction n with
  | zero => intro k f _ _; rfl
  | succ n ih =>
    intro k f hc he
    rw [cf_trip_2, hc]
    by_cases c : np ≤ k
    · rw [if_pos c]
      unfold cf_trip_c78
      rw [tell1_o (by rw [pk_un (by decide), pk_un (by decide), pk_un (by decide)]; exact he) _ hp h19, pk_un h6, pk_un h5, pk_un h4]
    · rw [if_neg c]
      by_cases d : cf_runs f k = true
      · rw [if_pos d]
        unfold cf_trip_c41 cf_trip_c47 cf_trip_50
        have he1 : rg (cf_pstop f k 19) 12 := pstop_19 he
        rw [ih _ _ (by rw [← hc]; unfold nC; rw [tell_fr he1 _ _ (by decide) (by decide), pstop_fr (by omega) (by omega)]) (tell_rg he1 _ _), tell_o he1 _ _ hp h19, pstop_fr (hk k (by omega)).1 (hk k (by omega)).2]
      · rw [if_neg d]
        unfold cf_trip_50
        exact ih _ _ hc he
theorem trip_2_4 (f0 : Nat → Int32) : ∀ (n k : Nat) (f : Nat → Int32), np < n + k → nC f 14 = np → rg (f 19) 12 → k ≤ np → cf_trip_2 f0 n k f 4 = -1 := by
  intro n
  induction n with
  | zero => intro k f h1 _ _ h2; omega
  | succ n ih =>
    intro k f h1 hp he h2
    rw [cf_trip_2, hp]
    by_cases c : np ≤ k
    · rw [if_pos c]
      unfold cf_trip_c78
      rw [tell1_o (by rw [pk_un (by decide), pk_un (by decide), pk_un (by decide)]; exact he) _ (by omega) (by decide), pk_un (by decide), pk_un (by decide), pk_us]
    · rw [if_neg c]
      by_cases d : cf_runs f k = true
      · rw [if_pos d]
        unfold cf_trip_c41 cf_trip_c47 cf_trip_50
        have he1 : rg (cf_pstop f k 19) 12 := pstop_19 he
        refine ih _ _ (by omega) ?_ (tell_rg he1 _ _) (by omega)
        rw [← hp]
        unfold nC
        rw [tell_fr he1 _ _ (by decide) (by decide), pstop_fr (by omega) (by omega)]
      · rw [if_neg d]
        unfold cf_trip_50
        exact ih _ _ (by omega) hp he (by omega)
theorem go5_cases (f : Nat → Int32) : ∃ y : Int32, cf_go5 f = cf_go5_53 f y (upd f 7 y) ∨ cf_go5 f = cf_go5_53 f y (cf_trip (upd f 7 y)) := by
  have key : ∀ y, cf_go5_25 f y = cf_go5_53 f y (upd f 7 y) ∨ cf_go5_25 f y = cf_go5_53 f y (cf_trip (upd f 7 y)) := fun y => by
    unfold cf_go5_25 cf_go5_c50
    by_cases a : upd f 7 y 7 < upd f 7 y 33
    · rw [if_pos a]; exact Or.inl rfl
    · rw [if_neg a]
      by_cases b : upd f 7 y 5 = 0
      · rw [if_pos b]; exact Or.inr rfl
      · rw [if_neg b]; exact Or.inl rfl
  by_cases c : f 31 ≤ f 2
  · exact ⟨0, by rw [cf_go5, if_pos c]; exact key 0⟩
  · exact ⟨f 7 + 1, by rw [cf_go5, if_neg c]; exact key _⟩
theorem SI_go5 (hS : SI T np nz ng f) (h1 : 1 ≤ T) (h6 : rg (f 6) (T - 1)) : SI T np nz ng (cf_go5 f) := by
  have hn := hS.n6
  have he := hS.ne
  have hI : IP T np nz ng (Rf (cf_go5 f)) := IP_Rf (w := fun _ _ => 0) (s := 0) (by rw [E_go5 hS]; exact IP_dryness h1 (IP_Vf hS.ip) (by rw [Vf_at (by decide)]; exact h6))
  obtain ⟨y, e | e⟩ := go5_cases f
  · have he7 : rg (upd f 7 y 19) 12 := by rw [pk_un (by decide)]; exact he
    have o : ∀ p, p ≠ 5 → p ≠ 7 → p ≠ 19 → p < 134 ∨ (170 ≤ p ∧ p ≠ 177) → cf_go5 f p = f p := fun p h5 h7 h19 hp => by
      rw [e, go5_53_o _ _ he7 h5 h19 hp, pk_un h7]
    refine hS.of hI (fun j _ => o _ (by omega) (by omega) (by omega) (by omega)) (o _ (by omega) (by omega) (by omega) (by omega)) (hS.vr.cong (o _ (by omega) (by omega) (by omega) (by omega)) (fun d => ?_) (fun d => ?_))
    · obtain ⟨e5, h5⟩ := isP_n hS.var d hn
      exact o _ (by omega) (by omega) (by omega) (by omega)
    · obtain ⟨e5, h5⟩ := isP_n hS.var d hn
      exact o _ (by omega) (by omega) (by omega) (by omega)
  · have he7 : rg (upd f 7 y 19) 12 := by rw [pk_un (by decide)]; exact he
    have hc : nC (upd f 7 y) 14 = np := (congrArg tN (pk_un (by decide))).trans hS.cp
    have o : ∀ p, p ≠ 4 → p ≠ 5 → p ≠ 6 → p ≠ 7 → p ≠ 19 → p < 134 ∨ (170 ≤ p ∧ p ≠ 177) → (∀ k, k < np → p ≠ 39 + (8 * k) + 4 ∧ p ≠ 39 + (8 * k) + 6) → cf_go5 f p = f p := fun p h4 h5 h6 h7 h19 hp hk => by
      rw [e, go5_53_o _ _ (trip_19 he7) h5 h19 hp]
      unfold cf_trip
      rw [trip_2_o (upd f 7 y) hn h4 h5 h6 h19 hp hk 7 0 _ hc he7, pk_un h7]
    refine hS.of hI (fun j _ => o _ (by omega) (by omega) (by omega) (by omega) (by omega) (by omega) (fun k _ => by omega)) (o _ (by omega) (by omega) (by omega) (by omega) (by omega) (by omega) (fun k _ => by omega)) (Or.inl ?_)
    rw [e, go5_53_o _ _ (trip_19 he7) (by decide) (by decide) (by omega)]
    unfold cf_trip
    exact trip_2_4 (np := np) (upd f 7 y) 7 0 _ (by omega) hc he7 (Nat.zero_le _)
theorem minute_eq (v : Nat → Nat → Int32) : mf_minute v = if mf_dryness (mf_night (mf_water (mf_programmes (u2 v 1 0 (v 1 0 + 1))))) 1 5 = 1 then mf_beginAnew (mf_dryness (mf_night (mf_water (mf_programmes (u2 v 1 0 (v 1 0 + 1)))))) else mf_rotate (mf_cascade (mf_countAll (ctlW (mf_regulate (mf_dryness (mf_night (mf_water (mf_programmes (u2 v 1 0 (v 1 0 + 1)))))))))) := by
  rw [mf_minute, mf_minute_c11, mf_minute_c15, mf_minute_c19, mf_minute_c23, mf_minute_c37, min_c42]
theorem minute_all (hS : SI T np nz ng f) (hT : T < 1000000) (h18 : f 18 = nI nn) (hn7 : nn ≤ 7) :
    zOk ng (upd f 177 0) ∧ SI (T + 1) np nz ng (cf_go1 (upd f 177 0)) ∧ SI (T + 1) np nz ng (gm3 f) ∧ gm3 f 18 = nI nn ∧ (∀ p, 20 ≤ p → p < 39 → gm3 f p = f p) ∧ ∀ g, Go4 (gm3 f) nn g → (rg (g 19) 12 ∧ SI (T + 1) np nz ng (cf_go5 g)) ∧ SI (T + 1) np nz ng (cf_go6 (cf_go5 g)) ∧ ∀ (w : Nat → Nat → Int32) (s : Int32), Vf w s (cf_go6 (cf_go5 g)) = mf_minute (Vf w s (upd f 177 0)) := by
  have hS0 := SI_0 hS
  obtain ⟨hS1, hr1⟩ := SI_go1 hS0 hT
  have hS3 : SI (T + 1) np nz ng (gm3 f) := SI_go23 hS1 hr1 (Nat.le_refl _)
  have o1 : ∀ p, p ≠ 0 → p ≠ 177 → (p < 87 ∨ 103 ≤ p) → cf_go1 (upd f 177 0) p = f p := fun p h0 h7 hp => ((E_go1 (w := fun _ _ => 0) (s := 0) hS0.ip).2 p h0 hp).trans (pk_un h7)
  have o3 : ∀ p, p < 39 → p ≠ 0 → p ≠ 1 → p ≠ 2 → p ≠ 3 → p ≠ 13 → gm3 f p = f p := fun p hp h0 h1 h2 h3 h13 => (go23_o hS1 h1 h2 h3 h13 (fun k _ => by omega)).trans (o1 p h0 (by omega) (by omega))
  have e18 : gm3 f 18 = nI nn := (o3 18 (by decide) (by decide) (by decide) (by decide) (by decide) (by decide)).trans h18
  refine ⟨z_ok hS0.ip, hS1, hS3, e18, fun p h1 h2 => o3 p h2 (by omega) (by omega) (by omega) (by omega) (by omega), fun g hg => ?_⟩
  have hS4 := SI_go4 hS3 e18 hn7 hg
  have h6 : rg (g 6) (T + 1 - 1) := by
    rw [Go4_o hS3.ne hg (by omega) (by decide) (by decide) (by decide) (by decide) (by decide), o3 6 (by decide) (by decide) (by decide) (by decide) (by decide) (by decide)]
    have := hS.ip.trips
    rwa [Rf_at (by decide)] at this
  have hS5 := SI_go5 hS4 (by omega) h6
  refine ⟨⟨hS4.ne, hS5⟩, (E_go6 (w := fun _ _ => 0) (s := 0) hS5).2, fun w s => ?_⟩
  obtain ⟨a, a0, a1, a2⟩ := hS3.ip.set (k := 16) (by decide)
  have f36 : gm3 f 36 = nI a := a2
  have a0' : 1 ≤ a := a0
  have a1' : a ≤ 600 := a1
  have e1 := (E_go1 (w := w) (s := s) hS0.ip).1
  have e3 : Vf w s (gm3 f) = mf_water (Vf w s (cf_go1 (upd f 177 0))) := E_go23 hS1.ip
  have e4 := E_go4 (w := w) (s := s) e18 hn7 hS3.ne a0' (by omega) f36 hg
  have e5 := E_go5 (w := w) (s := s) hS4
  rw [(E_go6 (w := w) (s := s) hS5).1, minute_eq, ← e1, ← e3, ← e4, ← e5]
theorem n4_nat {a : Nat} (h0 : f 0 = nI T) (hT : T < 2000000) (h35 : f 35 = nI a) (ha : a ≤ 1439) : n4 f = nI ((T % 1440 + 1440 - a) % 1440) := by
  have e1440 : (1440 : Int32) = nI 1440 := rfl
  have dv : ∀ x : Nat, x < 2000000 → nI x - nI x / nI 1440 * nI 1440 = nI (x % 1440) := fun x hx => by
    rw [pk_div (by omega) (by omega) (by omega), nI_mul, nI_sub (by omega)]
    congr 1
    omega
  have sw : nI (T % 1440) - nI a + nI 1440 = nI (T % 1440 + 1440 - a) := by
    rw [Int32.sub_eq_add_neg, Int32.add_assoc, Int32.add_comm (-nI a), ← Int32.add_assoc, ← Int32.sub_eq_add_neg, nI_add, nI_sub (by omega)]
  unfold n4
  rw [h0, h35, e1440, dv T hT, sw, dv _ (by omega)]
end QX

