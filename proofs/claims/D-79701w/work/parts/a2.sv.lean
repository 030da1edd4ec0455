set_option maxRecDepth 100000
/-! SV -/
/-! SV: the station's values, the counts -/
section SV
variable {w : Nat → Nat → Int32} {s : Int32} {f : Nat → Int32} {T np nz ng nn n : Nat} {wh : Int32}
theorem SI.opb (hS : SI T np nz ng f) : ∀ k, k < 8 → rg (f (87 + (2 * k) + 1)) 1 := fun k hk => by
  have hr := (hS.ip.opn hk).1
  rwa [Rf_at (by omega)] at hr
theorem SI.nz8 (hS : SI T np nz ng f) : nC f 15 ≤ 8 := by
  have := hS.ip.z8
  rw [nC_of (show f 15 = nI nz from hS.ip.enz) (by omega)]
  exact this
theorem stn_0 (c : wh = 0) : f 1 = mf_station (Vf w s f) wh := by
  subst c
  rw [mf_station, if_pos (show mf_in (0 : Int32).toInt64 (0 : Int64) (14 : Int64) = true by decide), if_pos rfl]
  exact (Vf_at (show 1 < 127 by decide)).symm
theorem stn_1 (c : wh = 1) : f 2 = mf_station (Vf w s f) wh := by
  subst c
  rw [mf_station, if_pos (show mf_in (1 : Int32).toInt64 (0 : Int64) (14 : Int64) = true by decide), if_neg (show ¬ (1 : Int32) = 0 by decide), if_pos rfl]
  exact (Vf_at (show 2 < 127 by decide)).symm
theorem stn_2 (c : wh = 2) : f 3 = mf_station (Vf w s f) wh := by
  subst c
  rw [mf_station, if_pos (show mf_in (2 : Int32).toInt64 (0 : Int64) (14 : Int64) = true by decide), if_neg (show ¬ (2 : Int32) = 0 by decide), if_neg (show ¬ (2 : Int32) = 1 by decide), if_pos rfl]
  exact (Vf_at (show 3 < 127 by decide)).symm
theorem stn_7 (c : wh = 7) : f 6 = mf_station (Vf w s f) wh := by
  subst c
  rw [mf_station, if_pos (show mf_in (7 : Int32).toInt64 (0 : Int64) (14 : Int64) = true by decide), if_neg (show ¬ (7 : Int32) = 0 by decide), if_neg (show ¬ (7 : Int32) = 1 by decide), if_neg (show ¬ (7 : Int32) = 2 by decide), if_neg (show ¬ (7 : Int32) = 3 by decide), if_neg (show ¬ (7 : Int32) = 4 by decide), if_neg (show ¬ (7 : Int32) = 5 by decide), if_neg (show ¬ (7 : Int32) = 6 by decide), if_pos rfl]
  exact (Vf_at (show 6 < 127 by decide)).symm
theorem stn_8 (c : wh = 8) : f 7 = mf_station (Vf w s f) wh := by
  subst c
  rw [mf_station, if_pos (show mf_in (8 : Int32).toInt64 (0 : Int64) (14 : Int64) = true by decide), if_neg (show ¬ (8 : Int32) = 0 by decide), if_neg (show ¬ (8 : Int32) = 1 by decide), if_neg (show ¬ (8 : Int32) = 2 by decide), if_neg (show ¬ (8 : Int32) = 3 by decide), if_neg (show ¬ (8 : Int32) = 4 by decide), if_neg (show ¬ (8 : Int32) = 5 by decide), if_neg (show ¬ (8 : Int32) = 6 by decide), if_neg (show ¬ (8 : Int32) = 7 by decide), if_pos rfl]
  exact (Vf_at (show 7 < 127 by decide)).symm
theorem stn_9 (c : wh = 9) : f 8 = mf_station (Vf w s f) wh := by
  subst c
  rw [mf_station, if_pos (show mf_in (9 : Int32).toInt64 (0 : Int64) (14 : Int64) = true by decide), if_neg (show ¬ (9 : Int32) = 0 by decide), if_neg (show ¬ (9 : Int32) = 1 by decide), if_neg (show ¬ (9 : Int32) = 2 by decide), if_neg (show ¬ (9 : Int32) = 3 by decide), if_neg (show ¬ (9 : Int32) = 4 by decide), if_neg (show ¬ (9 : Int32) = 5 by decide), if_neg (show ¬ (9 : Int32) = 6 by decide), if_neg (show ¬ (9 : Int32) = 7 by decide), if_neg (show ¬ (9 : Int32) = 8 by decide), if_pos rfl]
  exact (Vf_at (show 8 < 127 by decide)).symm
theorem stn_10 (c : wh = 10) : f 9 = mf_station (Vf w s f) wh := by
  subst c
  rw [mf_station, if_pos (show mf_in (10 : Int32).toInt64 (0 : Int64) (14 : Int64) = true by decide), if_neg (show ¬ (10 : Int32) = 0 by decide), if_neg (show ¬ (10 : Int32) = 1 by decide), if_neg (show ¬ (10 : Int32) = 2 by decide), if_neg (show ¬ (10 : Int32) = 3 by decide), if_neg (show ¬ (10 : Int32) = 4 by decide), if_neg (show ¬ (10 : Int32) = 5 by decide), if_neg (show ¬ (10 : Int32) = 6 by decide), if_neg (show ¬ (10 : Int32) = 7 by decide), if_neg (show ¬ (10 : Int32) = 8 by decide), if_neg (show ¬ (10 : Int32) = 9 by decide), if_pos rfl]
  exact (Vf_at (show 9 < 127 by decide)).symm
theorem stn_14 (c : wh = 14) : f 13 = mf_station (Vf w s f) wh := by
  subst c
  rw [mf_station, if_pos (show mf_in (14 : Int32).toInt64 (0 : Int64) (14 : Int64) = true by decide), if_neg (show ¬ (14 : Int32) = 0 by decide), if_neg (show ¬ (14 : Int32) = 1 by decide), if_neg (show ¬ (14 : Int32) = 2 by decide), if_neg (show ¬ (14 : Int32) = 3 by decide), if_neg (show ¬ (14 : Int32) = 4 by decide), if_neg (show ¬ (14 : Int32) = 5 by decide), if_neg (show ¬ (14 : Int32) = 6 by decide), if_neg (show ¬ (14 : Int32) = 7 by decide), if_neg (show ¬ (14 : Int32) = 8 by decide), if_neg (show ¬ (14 : Int32) = 9 by decide), if_neg (show ¬ (14 : Int32) = 10 by decide), if_neg (show ¬ (14 : Int32) = 11 by decide), if_neg (show ¬ (14 : Int32) = 12 by decide), if_neg (show ¬ (14 : Int32) = 13 by decide), if_pos rfl]
  exact (Vf_at (show 13 < 127 by decide)).symm
theorem stn_3 (hS : SI T np nz ng f) (c : wh = 3) : cf_demand f (f 1) = mf_station (Vf w s f) wh := by
  subst c
  rw [mf_station, if_pos (show mf_in (3 : Int32).toInt64 (0 : Int64) (14 : Int64) = true by decide), if_neg (show ¬ (3 : Int32) = 0 by decide), if_neg (show ¬ (3 : Int32) = 1 by decide), if_neg (show ¬ (3 : Int32) = 2 by decide), if_pos rfl]
  exact E_demand hS.nz8 hS.opb
theorem stn_4 (c : wh = 4) : (if f 4 = -1 then -1000004 else f 4) = mf_station (Vf w s f) wh := by
  subst c
  rw [mf_station, if_pos (show mf_in (4 : Int32).toInt64 (0 : Int64) (14 : Int64) = true by decide), if_neg (show ¬ (4 : Int32) = 0 by decide), if_neg (show ¬ (4 : Int32) = 1 by decide), if_neg (show ¬ (4 : Int32) = 2 by decide), if_neg (show ¬ (4 : Int32) = 3 by decide), if_pos rfl]
  rw [show Vf w s f 1 4 = f 4 from Vf_at (by decide), mf_station_139, mf_station_139]
theorem stn_5 (hS : SI T np nz ng f) (c : wh = 5) : cf_running f = mf_station (Vf w s f) wh := by
  subst c
  rw [mf_station, if_pos (show mf_in (5 : Int32).toInt64 (0 : Int64) (14 : Int64) = true by decide), if_neg (show ¬ (5 : Int32) = 0 by decide), if_neg (show ¬ (5 : Int32) = 1 by decide), if_neg (show ¬ (5 : Int32) = 2 by decide), if_neg (show ¬ (5 : Int32) = 3 by decide), if_neg (show ¬ (5 : Int32) = 4 by decide), if_pos rfl]
  exact E_running (by have := hS.cp; have := hS.n6; omega)
theorem stn_6 (c : wh = 6) : f 5 = mf_station (Vf w s f) wh := by
  subst c
  rw [mf_station, if_pos (show mf_in (6 : Int32).toInt64 (0 : Int64) (14 : Int64) = true by decide), if_neg (show ¬ (6 : Int32) = 0 by decide), if_neg (show ¬ (6 : Int32) = 1 by decide), if_neg (show ¬ (6 : Int32) = 2 by decide), if_neg (show ¬ (6 : Int32) = 3 by decide), if_neg (show ¬ (6 : Int32) = 4 by decide), if_neg (show ¬ (6 : Int32) = 5 by decide), if_pos rfl]
  exact (Vf_at (show 5 < 127 by decide)).symm
theorem stn_11 (c : wh = 11) : f (10 + tN (wh - (11 : Int32))) = mf_station (Vf w s f) wh := by
  rw [c, show f (10 + tN ((11 : Int32) - (11 : Int32))) = f 10 from rfl]
  rw [mf_station, if_pos (show mf_in (11 : Int32).toInt64 (0 : Int64) (14 : Int64) = true by decide), if_neg (show ¬ (11 : Int32) = 0 by decide), if_neg (show ¬ (11 : Int32) = 1 by decide), if_neg (show ¬ (11 : Int32) = 2 by decide), if_neg (show ¬ (11 : Int32) = 3 by decide), if_neg (show ¬ (11 : Int32) = 4 by decide), if_neg (show ¬ (11 : Int32) = 5 by decide), if_neg (show ¬ (11 : Int32) = 6 by decide), if_neg (show ¬ (11 : Int32) = 7 by decide), if_neg (show ¬ (11 : Int32) = 8 by decide), if_neg (show ¬ (11 : Int32) = 9 by decide), if_neg (show ¬ (11 : Int32) = 10 by decide), if_pos rfl]
  exact (Vf_at (show 10 < 127 by decide)).symm
theorem stn_12 (c : wh = 12) : f (10 + tN (wh - (11 : Int32))) = mf_station (Vf w s f) wh := by
  rw [c, show f (10 + tN ((12 : Int32) - (11 : Int32))) = f 11 from rfl]
  rw [mf_station, if_pos (show mf_in (12 : Int32).toInt64 (0 : Int64) (14 : Int64) = true by decide), if_neg (show ¬ (12 : Int32) = 0 by decide), if_neg (show ¬ (12 : Int32) = 1 by decide), if_neg (show ¬ (12 : Int32) = 2 by decide), if_neg (show ¬ (12 : Int32) = 3 by decide), if_neg (show ¬ (12 : Int32) = 4 by decide), if_neg (show ¬ (12 : Int32) = 5 by decide), if_neg (show ¬ (12 : Int32) = 6 by decide), if_neg (show ¬ (12 : Int32) = 7 by decide), if_neg (show ¬ (12 : Int32) = 8 by decide), if_neg (show ¬ (12 : Int32) = 9 by decide), if_neg (show ¬ (12 : Int32) = 10 by decide), if_neg (show ¬ (12 : Int32) = 11 by decide), if_pos rfl]
  exact (Vf_at (show 11 < 127 by decide)).symm
theorem stn_13 (c : wh = 13) : f (10 + tN (wh - (11 : Int32))) = mf_station (Vf w s f) wh := by
  rw [c, show f (10 + tN ((13 : Int32) - (11 : Int32))) = f 12 from rfl]
  rw [mf_station, if_pos (show mf_in (13 : Int32).toInt64 (0 : Int64) (14 : Int64) = true by decide), if_neg (show ¬ (13 : Int32) = 0 by decide), if_neg (show ¬ (13 : Int32) = 1 by decide), if_neg (show ¬ (13 : Int32) = 2 by decide), if_neg (show ¬ (13 : Int32) = 3 by decide), if_neg (show ¬ (13 : Int32) = 4 by decide), if_neg (show ¬ (13 : Int32) = 5 by decide), if_neg (show ¬ (13 : Int32) = 6 by decide), if_neg (show ¬ (13 : Int32) = 7 by decide), if_neg (show ¬ (13 : Int32) = 8 by decide), if_neg (show ¬ (13 : Int32) = 9 by decide), if_neg (show ¬ (13 : Int32) = 10 by decide), if_neg (show ¬ (13 : Int32) = 11 by decide), if_neg (show ¬ (13 : Int32) = 12 by decide), if_pos rfl]
  exact (Vf_at (show 12 < 127 by decide)).symm
theorem stn_6a (hS : SI T np nz ng f) (c : wh = 6) (d : ¬ f 5 = 0) : (1 : Int32) = mf_station (Vf w s f) wh := by
  rw [← stn_6 (w := w) (s := s) c]
  obtain ⟨j, j1, j2⟩ := hS.ip.dry
  have f5 : f 5 = nI j := j2
  rw [f5] at d ⊢
  obtain rfl | rfl : j = 0 ∨ j = 1 := by omega
  · exact absurd nI_0 d
  · rfl
theorem stn_6b (c : wh = 6) (d : f 5 = 0) : (0 : Int32) = mf_station (Vf w s f) wh := by rw [← stn_6 (w := w) (s := s) c, d]
theorem stn_d (c0 : ¬ wh = 0) (c1 : ¬ wh = 1) (c2 : ¬ wh = 2) (c3 : ¬ wh = 3) (c4 : ¬ wh = 4) (c5 : ¬ wh = 5) (c6 : ¬ wh = 6) (c7 : ¬ wh = 7) (c8 : ¬ wh = 8) (c9 : ¬ wh = 9) (c10 : ¬ wh = 10) (c11 : ¬ wh = 11) (c12 : ¬ wh = 12) (c13 : ¬ wh = 13) (c14 : ¬ wh = 14) : (-1000001 : Int32) = mf_station (Vf w s f) wh := by
  rw [mf_station, if_neg (fun d => ?_)]
  obtain ⟨h1, -, h2⟩ := in_n (a := 0) (b := 14) (by decide) d
  obtain h | h | h | h | h | h | h | h | h | h | h | h | h | h | h : tN wh = 0 ∨ tN wh = 1 ∨ tN wh = 2 ∨ tN wh = 3 ∨ tN wh = 4 ∨ tN wh = 5 ∨ tN wh = 6 ∨ tN wh = 7 ∨ tN wh = 8 ∨ tN wh = 9 ∨ tN wh = 10 ∨ tN wh = 11 ∨ tN wh = 12 ∨ tN wh = 13 ∨ tN wh = 14 := by omega
  · rw [h] at h1; exact c0 h1
  · rw [h] at h1; exact c1 h1
  · rw [h] at h1; exact c2 h1
  · rw [h] at h1; exact c3 h1
  · rw [h] at h1; exact c4 h1
  · rw [h] at h1; exact c5 h1
  · rw [h] at h1; exact c6 h1
  · rw [h] at h1; exact c7 h1
  · rw [h] at h1; exact c8 h1
  · rw [h] at h1; exact c9 h1
  · rw [h] at h1; exact c10 h1
  · rw [h] at h1; exact c11 h1
  · rw [h] at h1; exact c12 h1
  · rw [h] at h1; exact c13 h1
  · rw [h] at h1; exact c14 h1
theorem cnt_1 (c : wh = 1) : f 15 = mf_count (Vf w s f) wh := by
  subst c
  rw [mf_count, if_neg (show ¬ (1 : Int32) = 0 by decide), if_pos rfl]
  exact (Vf_at (show 15 < 127 by decide)).symm
theorem cnt_6 (c : wh = 6) : f 19 = mf_count (Vf w s f) wh := by
  subst c
  rw [mf_count, if_neg (show ¬ (6 : Int32) = 0 by decide), if_neg (show ¬ (6 : Int32) = 1 by decide), if_neg (show ¬ (6 : Int32) = 2 by decide), if_neg (show ¬ (6 : Int32) = 3 by decide), if_neg (show ¬ (6 : Int32) = 4 by decide), if_neg (show ¬ (6 : Int32) = 5 by decide), if_pos rfl]
  exact (Vf_at (show 19 < 127 by decide)).symm
theorem cnt_7 (c : wh = 7) : f 0 = mf_count (Vf w s f) wh := by
  subst c
  rw [mf_count, if_neg (show ¬ (7 : Int32) = 0 by decide), if_neg (show ¬ (7 : Int32) = 1 by decide), if_neg (show ¬ (7 : Int32) = 2 by decide), if_neg (show ¬ (7 : Int32) = 3 by decide), if_neg (show ¬ (7 : Int32) = 4 by decide), if_neg (show ¬ (7 : Int32) = 5 by decide), if_neg (show ¬ (7 : Int32) = 6 by decide), if_pos rfl]
  exact (Vf_at (show 0 < 127 by decide)).symm
theorem cnt_0 (hS : SI T np nz ng f) (c : wh = 0) : nI np = mf_count (Vf w s f) wh := by
  subst c
  rw [mf_count, if_pos rfl]
  exact (show f 14 = nI np from hS.ip.enp).symm.trans (Vf_at (show 14 < 127 by decide)).symm
theorem cnt_2 (hS : SI T np nz ng f) (c : wh = 2) : nI ng = mf_count (Vf w s f) wh := by
  subst c
  rw [mf_count, if_neg (show ¬ (2 : Int32) = 0 by decide), if_neg (show ¬ (2 : Int32) = 1 by decide), if_pos rfl]
  exact (show f 16 = nI ng from hS.ip.eng).symm.trans (Vf_at (show 16 < 127 by decide)).symm
theorem cnt_3 (hS : SI T np nz ng f) (c : wh = 3) : cf_openZones f = mf_count (Vf w s f) wh := by
  subst c
  rw [mf_count, if_neg (show ¬ (3 : Int32) = 0 by decide), if_neg (show ¬ (3 : Int32) = 1 by decide), if_neg (show ¬ (3 : Int32) = 2 by decide), if_pos rfl]
  exact E_openZones hS.nz8 hS.opb
theorem rdy4 (hS : SI T np nz ng f) : ∀ (n k : Nat), k ≤ np → np < k + n → mf_readyPumps_4 (Vf w s f) n (cntR f k) k = cntR f np := by
  have hn := hS.n6
  have hc : nC (Vf w s f 1) 14 = np := (Vf_n (by decide)).trans hS.cp
  intro n
  induction n with
  | zero => intro k h1 h2; omega
  | succ n ih =>
    intro k h1 h2
    rw [mf_readyPumps_4, hc]
    by_cases c : np ≤ k
    · rw [if_pos c, show k = np by omega]
    · rw [if_neg c, ← E_isReady (by omega)]
      unfold mf_readyPumps_29
      have := ih (k + 1) (by omega) (by omega)
      rw [cntR] at this
      by_cases d : cf_isReady f k = true
      · rw [if_pos d] at this
        rw [if_pos d]
        exact this
      · rw [if_neg d] at this
        rw [if_neg d]
        exact this
theorem cnt_4 (hS : SI T np nz ng f) (c : wh = 4) : cntR f np = mf_count (Vf w s f) wh := by
  subst c
  rw [mf_count, if_neg (show ¬ (4 : Int32) = 0 by decide), if_neg (show ¬ (4 : Int32) = 1 by decide), if_neg (show ¬ (4 : Int32) = 2 by decide), if_neg (show ¬ (4 : Int32) = 3 by decide), if_pos rfl]
  have hn := hS.n6
  exact (rdy4 hS 7 0 (Nat.zero_le _) (by omega)).symm
theorem cnt_5 (h18 : f 18 = nI nn) (c : wh = 5) : nI nn = mf_count (Vf w s f) wh := by
  subst c
  rw [mf_count, if_neg (show ¬ (5 : Int32) = 0 by decide), if_neg (show ¬ (5 : Int32) = 1 by decide), if_neg (show ¬ (5 : Int32) = 2 by decide), if_neg (show ¬ (5 : Int32) = 3 by decide), if_neg (show ¬ (5 : Int32) = 4 by decide), if_pos rfl]
  exact h18.symm.trans (Vf_at (show 18 < 127 by decide)).symm
theorem cnt_8 (c : wh = 8) : f 0 - f 0 / (1440 : Int32) * (1440 : Int32) = mf_count (Vf w s f) wh := by
  subst c
  rw [mf_count, if_neg (show ¬ (8 : Int32) = 0 by decide), if_neg (show ¬ (8 : Int32) = 1 by decide), if_neg (show ¬ (8 : Int32) = 2 by decide), if_neg (show ¬ (8 : Int32) = 3 by decide), if_neg (show ¬ (8 : Int32) = 4 by decide), if_neg (show ¬ (8 : Int32) = 5 by decide), if_neg (show ¬ (8 : Int32) = 6 by decide), if_neg (show ¬ (8 : Int32) = 7 by decide), if_pos rfl]
  rw [mf_minuteOfDay, show Vf w s f 1 0 = f 0 from Vf_at (by decide)]
theorem cnt_9 (h2 : w 0 2 = nI n) (c : wh = 9) : nI n = mf_count (Vf w s f) wh := by
  subst c
  rw [mf_count, if_neg (show ¬ (9 : Int32) = 0 by decide), if_neg (show ¬ (9 : Int32) = 1 by decide), if_neg (show ¬ (9 : Int32) = 2 by decide), if_neg (show ¬ (9 : Int32) = 3 by decide), if_neg (show ¬ (9 : Int32) = 4 by decide), if_neg (show ¬ (9 : Int32) = 5 by decide), if_neg (show ¬ (9 : Int32) = 6 by decide), if_neg (show ¬ (9 : Int32) = 7 by decide), if_neg (show ¬ (9 : Int32) = 8 by decide), if_pos rfl]
  exact h2.symm
theorem cnt_10 (h6 : w 0 6 = nI n) (c : wh = 10) : nI n = mf_count (Vf w s f) wh := by
  subst c
  rw [mf_count, if_neg (show ¬ (10 : Int32) = 0 by decide), if_neg (show ¬ (10 : Int32) = 1 by decide), if_neg (show ¬ (10 : Int32) = 2 by decide), if_neg (show ¬ (10 : Int32) = 3 by decide), if_neg (show ¬ (10 : Int32) = 4 by decide), if_neg (show ¬ (10 : Int32) = 5 by decide), if_neg (show ¬ (10 : Int32) = 6 by decide), if_neg (show ¬ (10 : Int32) = 7 by decide), if_neg (show ¬ (10 : Int32) = 8 by decide), if_neg (show ¬ (10 : Int32) = 9 by decide), if_pos rfl]
  exact h6.symm
theorem cnt_x (c0 : ¬ wh = 0) (c1 : ¬ wh = 1) (c2 : ¬ wh = 2) (c3 : ¬ wh = 3) (c4 : ¬ wh = 4) (c5 : ¬ wh = 5) (c6 : ¬ wh = 6) (c7 : ¬ wh = 7) (c8 : ¬ wh = 8) (c9 : ¬ wh = 9) (c10 : ¬ wh = 10) : mf_count (Vf w s f) wh = if mf_in wh.toInt64 (20 : Int64) (38 : Int64) = true then mf_setting (Vf w s f) (tN wh - 20) else -1000001 := by
  rw [mf_count, if_neg c0, if_neg c1, if_neg c2, if_neg c3, if_neg c4, if_neg c5, if_neg c6, if_neg c7, if_neg c8, if_neg c9, if_neg c10, mf_count_141, mf_count_141]
theorem cnt_d (d : ¬ cf_isBetween wh.toInt64 (20 : Int64) (38 : Int64) = true) (c0 : ¬ wh = 0) (c1 : ¬ wh = 1) (c2 : ¬ wh = 2) (c3 : ¬ wh = 3) (c4 : ¬ wh = 4) (c5 : ¬ wh = 5) (c6 : ¬ wh = 6) (c7 : ¬ wh = 7) (c8 : ¬ wh = 8) (c9 : ¬ wh = 9) (c10 : ¬ wh = 10) : (-1000001 : Int32) = mf_count (Vf w s f) wh := by
  rw [btw_in] at d
  rw [cnt_x c0 c1 c2 c3 c4 c5 c6 c7 c8 c9 c10, if_neg d]
theorem cnt_e (d : cf_isBetween wh.toInt64 (20 : Int64) (38 : Int64) = true) (c0 : ¬ wh = 0) (c1 : ¬ wh = 1) (c2 : ¬ wh = 2) (c3 : ¬ wh = 3) (c4 : ¬ wh = 4) (c5 : ¬ wh = 5) (c6 : ¬ wh = 6) (c7 : ¬ wh = 7) (c8 : ¬ wh = 8) (c9 : ¬ wh = 9) (c10 : ¬ wh = 10) : f (20 + (tN wh - 20)) = mf_count (Vf w s f) wh := by
  rw [btw_in] at d
  obtain ⟨h1, h2, h3⟩ := in_n (a := 20) (b := 38) (by decide) d
  rw [cnt_x c0 c1 c2 c3 c4 c5 c6 c7 c8 c9 c10, if_pos d]
  exact (E_set (by omega)).symm
end SV

set_option maxHeartbeats 4000000 in
set_option maxRecDepth 100000 in
theorem ct_station (l : Launch) (G : mg) (A : Nat → Prop) (M1 : mh) (fo dq tx : Nat) (ad : Nat → Nat) (np ng : Nat) (M0 : mh) (f : Nat → Int32) (hM1 : Sta G ad np ng M0 M1 f) (hfo : M1 fo = some (.inr (0, [.ref (ad 0), .ref dq, .ref tx]))) (wh : Int32) (T nz : Nat) (hS : SI T np nz ng f) : Met l yX0_station (ws_ yX0_station cX0_station 2 (some .int)) ({ frames := 5, cells := 1, slots := 4, locals := 105 }) (va_Pc [.ref fo, .int wh] (mU G A (fun M => M = M1))) (mQi G A (fun r M => (∀ (w : Nat → Nat → Int32) (s : Int32), r = mf_station (Vf w s f) wh) ∧ (∀ q, M1 q ≠ none → M q = M1 q))) 1 4 A := by
  refine mx_ofi (by decide) (Nat.le_of_ble_eq_true rfl) ?_
  intro p e R s m av below meth c M H Q ls X hRf hRl hRc hRs hin eM w fin hl
  subst M
  have X : CallFix p m c cX0_station 2 s av lw_all "FieldPumps" := X
  have hx := X.1
  have hb := X.2.1
  have hl : lv_has ls 2 [(0, .ref fo), (1, .int wh)] := hl
  have hRf : R.frames = 5 := hRf
  have hRl : R.locals = 105 := hRl
  have hRc : R.cells = 1 := hRc
  have hRs : R.slots = 4 := hRs
  generalize ([] : List Loc) = locs at w ⊢
  have hE : ∀ q, M1 q ≠ none → M1 q = M1 q := fun _ _ => rfl
  have hM := hM1
  have hn6 := hM1.n6
  have hg8 := hM1.g8
  refine lv_iload_n hx hb dX0_station_0 rfl (lv_at hl 1 rfl) ?_
  by_cases c_1_0 : wh = (0 : Int32)
  · skip
    refine lv_tableIn (tgt := 76) hx hb dX0_station_1 (by rw [c_1_0]; decide) (by rw [c_1_0]; decide) (by rw [c_1_0]; rfl) (by decide) ?_
    have hr := fun w s => stn_0 (w := w) (s := s) (f := f) c_1_0
    refine lv_aload_n hx hb dX0_station_76 rfl (lv_at hl 0 rfl) ?_
    refine mx_get (T := TX0) (v := .ref (ad 0)) X w in_X0 (ci := 0) rfl 0 (by decide) q472 (fun _ h => h) (ext_at hE hfo) rfl dX0_station_77 ?_
    refine mx_getN (T := TX1) (v := .int (f 1)) X w in_X1 (ci := 1) rfl 19 (by decide) (w.tblB q330 rfl rfl) (fun _ h => h) hM.st rfl dX0_station_80 ?_
    refine W.widen (k := 1) (n := 4) (by omega) (by omega) ?_
    exact fin (f 1) _ H locs ls 83 dX0_station_83 (⟨hr, hE⟩) w
  · skip
    by_cases c_1_1 : wh = (1 : Int32)
    · skip
      refine lv_tableIn (tgt := 84) hx hb dX0_station_1 (by rw [c_1_1]; decide) (by rw [c_1_1]; decide) (by rw [c_1_1]; rfl) (by decide) ?_
      have hr := fun w s => stn_1 (w := w) (s := s) (f := f) c_1_1
      refine lv_aload_n hx hb dX0_station_84 rfl (lv_at hl 0 rfl) ?_
      refine mx_get (T := TX0) (v := .ref (ad 0)) X w in_X0 (ci := 0) rfl 0 (by decide) q472 (fun _ h => h) (ext_at hE hfo) rfl dX0_station_85 ?_
      refine mx_getN (T := TX1) (v := .int (f 2)) X w in_X1 (ci := 1) rfl 20 (by decide) (w.tblB q334 rfl rfl) (fun _ h => h) hM.st rfl dX0_station_88 ?_
      refine W.widen (k := 1) (n := 4) (by omega) (by omega) ?_
      exact fin (f 2) _ H locs ls 91 dX0_station_91 (⟨hr, hE⟩) w
    · skip
      by_cases c_1_2 : wh = (2 : Int32)
      · skip
        refine lv_tableIn (tgt := 92) hx hb dX0_station_1 (by rw [c_1_2]; decide) (by rw [c_1_2]; decide) (by rw [c_1_2]; rfl) (by decide) ?_
        have hr := fun w s => stn_2 (w := w) (s := s) (f := f) c_1_2
        refine lv_aload_n hx hb dX0_station_92 rfl (lv_at hl 0 rfl) ?_
        refine mx_get (T := TX0) (v := .ref (ad 0)) X w in_X0 (ci := 0) rfl 0 (by decide) q472 (fun _ h => h) (ext_at hE hfo) rfl dX0_station_93 ?_
        refine mx_getN (T := TX1) (v := .int (f 3)) X w in_X1 (ci := 1) rfl 23 (by decide) (w.tblB q342 rfl rfl) (fun _ h => h) hM.st rfl dX0_station_96 ?_
        refine W.widen (k := 1) (n := 4) (by omega) (by omega) ?_
        exact fin (f 3) _ H locs ls 99 dX0_station_99 (⟨hr, hE⟩) w
      · skip
        by_cases c_1_3 : wh = (3 : Int32)
        · skip
          refine lv_tableIn (tgt := 100) hx hb dX0_station_1 (by rw [c_1_3]; decide) (by rw [c_1_3]; decide) (by rw [c_1_3]; rfl) (by decide) ?_
          have hr := fun w s => stn_3 (w := w) (s := s) (f := f) hS c_1_3
          refine lv_aload_n hx hb dX0_station_100 rfl (lv_at hl 0 rfl) ?_
          refine mx_get (T := TX0) (v := .ref (ad 0)) X w in_X0 (ci := 0) rfl 0 (by decide) q472 (fun _ h => h) (ext_at hE hfo) rfl dX0_station_101 ?_
          refine lv_aload_n hx hb dX0_station_104 rfl (lv_at hl 0 rfl) ?_
          refine mx_get (T := TX0) (v := .ref (ad 0)) X w in_X0 (ci := 0) rfl 0 (by decide) q472 (fun _ h => h) (ext_at hE hfo) rfl dX0_station_105 ?_
          refine mx_getN (T := TX1) (v := .int (f 1)) X w in_X1 (ci := 1) rfl 19 (by decide) (w.tblB q330 rfl rfl) (fun _ h => h) hM.st rfl dX0_station_108 ?_
          refine mx_bi w (va_runV (As := [.int (f 1)]) (rest := []) X (ct_demand l G A ad np ng M0 _ f (f 1) nz hM hS.ip.enz hS.ip.z8) (cwV 1 X.2.2.2.2 (lw_V q1694 q891 q892 q97 q893) rfl rfl rfl (by decide +kernel) ⟨by rw [hRf]; decide, by rw [hRl]; decide⟩) (mx_preV w rfl hM.st rfl) rfl rfl hl.1 rfl (lv_room (Nat.le_of_ble_eq_true rfl)) dX0_station_111 ⟨by rw [hRc]; omega, by rw [hRs]; omega⟩) (fun r M9 H locs hp w => ?_)
          obtain ⟨eR, eM⟩ := hp; subst M9; subst eR
          refine W.widen (k := 1) (n := 4) (by omega) (by omega) ?_
          exact fin (cf_demand f (f 1)) _ H locs ls 114 dX0_station_114 (⟨hr, hE⟩) w
        · skip
          by_cases c_1_4 : wh = (4 : Int32)
          · skip
            refine lv_tableIn (tgt := 115) hx hb dX0_station_1 (by rw [c_1_4]; decide) (by rw [c_1_4]; decide) (by rw [c_1_4]; rfl) (by decide) ?_
            have hr9 := fun w s => stn_4 (w := w) (s := s) (f := f) c_1_4
            refine lv_aload_n hx hb dX0_station_115 rfl (lv_at hl 0 rfl) ?_
            refine mx_bi w (va_runV (As := []) (rest := []) X (ct_leaderN l G A M1 fo dq tx ad np ng M0 f hM1 hfo T nz hS) (cwV 0 X.2.2.2.2 (lw_V q1695 q1697 qs40 q96 q1698) rfl rfl rfl (by decide +kernel) ⟨by rw [hRf]; decide, by rw [hRl]; decide⟩) (mx_preV w rfl hfo rfl) rfl rfl hl.1 rfl (lv_room (Nat.le_of_ble_eq_true rfl)) dX0_station_116 ⟨by rw [hRc]; omega, by rw [hRs]; omega⟩) (fun r116 M9 H locs hp w => ?_)
            obtain ⟨eR, hE9⟩ := hp
            have hE := hE9
            have hr := fun w s => eR.trans (hr9 w s)
            refine W.widen (k := 1) (n := 4) (by omega) (by omega) ?_
            exact fin r116 _ H locs ls 119 dX0_station_119 (⟨hr, hE⟩) w
          · skip
            by_cases c_1_5 : wh = (5 : Int32)
            · skip
              refine lv_tableIn (tgt := 120) hx hb dX0_station_1 (by rw [c_1_5]; decide) (by rw [c_1_5]; decide) (by rw [c_1_5]; rfl) (by decide) ?_
              have hr := fun w s => stn_5 (w := w) (s := s) (f := f) hS c_1_5
              refine lv_aload_n hx hb dX0_station_120 rfl (lv_at hl 0 rfl) ?_
              refine mx_get (T := TX0) (v := .ref (ad 0)) X w in_X0 (ci := 0) rfl 0 (by decide) q472 (fun _ h => h) (ext_at hE hfo) rfl dX0_station_121 ?_
              refine mx_bi w (va_runV (As := []) (rest := []) X (ct_running l G A ad np ng M0 _ f hM) (cwV 0 X.2.2.2.2 (lw_V q1684 q271 q272 q97 q273) rfl rfl rfl (by decide +kernel) ⟨by rw [hRf]; decide, by rw [hRl]; decide⟩) (mx_preV w rfl hM.st rfl) rfl rfl hl.1 rfl (lv_room (Nat.le_of_ble_eq_true rfl)) dX0_station_124 ⟨by rw [hRc]; omega, by rw [hRs]; omega⟩) (fun r M9 H locs hp w => ?_)
              obtain ⟨eR, eM⟩ := hp; subst M9; subst eR
              refine W.widen (k := 1) (n := 4) (by omega) (by omega) ?_
              exact fin (cf_running f) _ H locs ls 127 dX0_station_127 (⟨hr, hE⟩) w
            · skip
              by_cases c_1_6 : wh = (6 : Int32)
              · skip
                refine lv_tableIn (tgt := 128) hx hb dX0_station_1 (by rw [c_1_6]; decide) (by rw [c_1_6]; decide) (by rw [c_1_6]; rfl) (by decide) ?_
                refine lv_aload_n hx hb dX0_station_128 rfl (lv_at hl 0 rfl) ?_
                refine mx_get (T := TX0) (v := .ref (ad 0)) X w in_X0 (ci := 0) rfl 0 (by decide) q472 (fun _ h => h) (ext_at hE hfo) rfl dX0_station_129 ?_
                refine mx_getN (T := TX1) (v := .int (f 5)) X w in_X1 (ci := 1) rfl 29 (by decide) (w.tblB q360 rfl rfl) (fun _ h => h) hM.st rfl dX0_station_132 ?_
                refine lv_if_eq (tgt := 142) hx hb dX0_station_135 (by decide) (fun c_135 => ?_) (fun c_135 => ?_)
                · skip
                  have hr := fun w s => stn_6b (w := w) (s := s) (f := f) c_1_6 c_135
                  refine lv_iconst (v := (0 : Int32)) hx hb dX0_station_142 (by decide) ?_
                  refine W.widen (k := 1) (n := 4) (by omega) (by omega) ?_
                  exact fin (0 : Int32) _ H locs ls 143 dX0_station_143 (⟨hr, hE⟩) w
                · skip
                  have hr := fun w s => stn_6a (w := w) (s := s) (f := f) hS c_1_6 c_135
                  refine lv_iconst (v := (1 : Int32)) hx hb dX0_station_138 (by decide) ?_
                  refine lv_goto (tgt := 143) hx hb dX0_station_139 (by decide) ?_
                  refine W.widen (k := 1) (n := 4) (by omega) (by omega) ?_
                  exact fin (1 : Int32) _ H locs ls 143 dX0_station_143 (⟨hr, hE⟩) w
              · skip
                by_cases c_1_7 : wh = (7 : Int32)
                · skip
                  refine lv_tableIn (tgt := 144) hx hb dX0_station_1 (by rw [c_1_7]; decide) (by rw [c_1_7]; decide) (by rw [c_1_7]; rfl) (by decide) ?_
                  have hr := fun w s => stn_7 (w := w) (s := s) (f := f) c_1_7
                  refine lv_aload_n hx hb dX0_station_144 rfl (lv_at hl 0 rfl) ?_
                  refine mx_get (T := TX0) (v := .ref (ad 0)) X w in_X0 (ci := 0) rfl 0 (by decide) q472 (fun _ h => h) (ext_at hE hfo) rfl dX0_station_145 ?_
                  refine mx_getN (T := TX1) (v := .int (f 6)) X w in_X1 (ci := 1) rfl 28 (by decide) (w.tblB q356 rfl rfl) (fun _ h => h) hM.st rfl dX0_station_148 ?_
                  refine W.widen (k := 1) (n := 4) (by omega) (by omega) ?_
                  exact fin (f 6) _ H locs ls 151 dX0_station_151 (⟨hr, hE⟩) w
                · skip
                  by_cases c_1_8 : wh = (8 : Int32)
                  · skip
                    refine lv_tableIn (tgt := 152) hx hb dX0_station_1 (by rw [c_1_8]; decide) (by rw [c_1_8]; decide) (by rw [c_1_8]; rfl) (by decide) ?_
                    have hr := fun w s => stn_8 (w := w) (s := s) (f := f) c_1_8
                    refine lv_aload_n hx hb dX0_station_152 rfl (lv_at hl 0 rfl) ?_
                    refine mx_get (T := TX0) (v := .ref (ad 0)) X w in_X0 (ci := 0) rfl 0 (by decide) q472 (fun _ h => h) (ext_at hE hfo) rfl dX0_station_153 ?_
                    refine mx_getN (T := TX1) (v := .int (f 7)) X w in_X1 (ci := 1) rfl 27 (by decide) (w.tblB q353 rfl rfl) (fun _ h => h) hM.st rfl dX0_station_156 ?_
                    refine W.widen (k := 1) (n := 4) (by omega) (by omega) ?_
                    exact fin (f 7) _ H locs ls 159 dX0_station_159 (⟨hr, hE⟩) w
                  · skip
                    by_cases c_1_9 : wh = (9 : Int32)
                    · skip
                      refine lv_tableIn (tgt := 160) hx hb dX0_station_1 (by rw [c_1_9]; decide) (by rw [c_1_9]; decide) (by rw [c_1_9]; rfl) (by decide) ?_
                      have hr := fun w s => stn_9 (w := w) (s := s) (f := f) c_1_9
                      refine lv_aload_n hx hb dX0_station_160 rfl (lv_at hl 0 rfl) ?_
                      refine mx_get (T := TX0) (v := .ref (ad 0)) X w in_X0 (ci := 0) rfl 0 (by decide) q472 (fun _ h => h) (ext_at hE hfo) rfl dX0_station_161 ?_
                      refine mx_getN (T := TX1) (v := .int (f 8)) X w in_X1 (ci := 1) rfl 25 (by decide) (w.tblB q348 rfl rfl) (fun _ h => h) hM.st rfl dX0_station_164 ?_
                      refine W.widen (k := 1) (n := 4) (by omega) (by omega) ?_
                      exact fin (f 8) _ H locs ls 167 dX0_station_167 (⟨hr, hE⟩) w
                    · skip
                      by_cases c_1_10 : wh = (10 : Int32)
                      · skip
                        refine lv_tableIn (tgt := 168) hx hb dX0_station_1 (by rw [c_1_10]; decide) (by rw [c_1_10]; decide) (by rw [c_1_10]; rfl) (by decide) ?_
                        have hr := fun w s => stn_10 (w := w) (s := s) (f := f) c_1_10
                        refine lv_aload_n hx hb dX0_station_168 rfl (lv_at hl 0 rfl) ?_
                        refine mx_get (T := TX0) (v := .ref (ad 0)) X w in_X0 (ci := 0) rfl 0 (by decide) q472 (fun _ h => h) (ext_at hE hfo) rfl dX0_station_169 ?_
                        refine mx_getN (T := TX1) (v := .int (f 9)) X w in_X1 (ci := 1) rfl 26 (by decide) (w.tblB q350 rfl rfl) (fun _ h => h) hM.st rfl dX0_station_172 ?_
                        refine W.widen (k := 1) (n := 4) (by omega) (by omega) ?_
                        exact fin (f 9) _ H locs ls 175 dX0_station_175 (⟨hr, hE⟩) w
                      · skip
                        by_cases c_1_11 : wh = (11 : Int32)
                        · skip
                          refine lv_tableIn (tgt := 176) hx hb dX0_station_1 (by rw [c_1_11]; decide) (by rw [c_1_11]; decide) (by rw [c_1_11]; rfl) (by decide) ?_
                          have hi9 : wh - (11 : Int32) = nI (tN (wh - (11 : Int32))) ∧ tN (wh - (11 : Int32)) < 3 := by rw [c_1_11]; decide
                          have hr := fun w s => stn_11 (w := w) (s := s) (f := f) c_1_11
                          refine lv_aload_n hx hb dX0_station_176 rfl (lv_at hl 0 rfl) ?_
                          refine mx_get (T := TX0) (v := .ref (ad 0)) X w in_X0 (ci := 0) rfl 0 (by decide) q472 (fun _ h => h) (ext_at hE hfo) rfl dX0_station_177 ?_
                          refine mx_getN (T := TX1) (v := .ref (ad 14)) X w in_X1 (ci := 1) rfl 11 (by decide) (w.tblB q314 rfl rfl) (fun _ h => h) hM.st rfl dX0_station_180 ?_
                          refine lv_iload_n hx hb dX0_station_183 rfl (lv_at hl 1 rfl) ?_
                          refine lv_bipush (v := (11 : Int32)) hx hb dX0_station_184 (by decide) ?_
                          refine lv_isub hx hb dX0_station_186 ?_
                          refine mx_cast (z := nI ((tN (wh - (11 : Int32))))) (hi9.1) ?_
                          refine mx_iald2 X w hM.a14 ((tN (wh - (11 : Int32)))) (show (tN (wh - (11 : Int32))) < 3 by omega) (by decide) (if_pos (show (tN (wh - (11 : Int32))) < 3 by omega)) dX0_station_187 ?_
                          refine W.widen (k := 1) (n := 4) (by omega) (by omega) ?_
                          exact fin (f (10 + (tN (wh - (11 : Int32))))) _ H locs ls 188 dX0_station_188 (⟨hr, hE⟩) w
                        · skip
                          by_cases c_1_12 : wh = (12 : Int32)
                          · skip
                            refine lv_tableIn (tgt := 176) hx hb dX0_station_1 (by rw [c_1_12]; decide) (by rw [c_1_12]; decide) (by rw [c_1_12]; rfl) (by decide) ?_
                            have hi9 : wh - (11 : Int32) = nI (tN (wh - (11 : Int32))) ∧ tN (wh - (11 : Int32)) < 3 := by rw [c_1_12]; decide
                            have hr := fun w s => stn_12 (w := w) (s := s) (f := f) c_1_12
                            refine lv_aload_n hx hb dX0_station_176 rfl (lv_at hl 0 rfl) ?_
                            refine mx_get (T := TX0) (v := .ref (ad 0)) X w in_X0 (ci := 0) rfl 0 (by decide) q472 (fun _ h => h) (ext_at hE hfo) rfl dX0_station_177 ?_
                            refine mx_getN (T := TX1) (v := .ref (ad 14)) X w in_X1 (ci := 1) rfl 11 (by decide) (w.tblB q314 rfl rfl) (fun _ h => h) hM.st rfl dX0_station_180 ?_
                            refine lv_iload_n hx hb dX0_station_183 rfl (lv_at hl 1 rfl) ?_
                            refine lv_bipush (v := (11 : Int32)) hx hb dX0_station_184 (by decide) ?_
                            refine lv_isub hx hb dX0_station_186 ?_
                            refine mx_cast (z := nI ((tN (wh - (11 : Int32))))) (hi9.1) ?_
                            refine mx_iald2 X w hM.a14 ((tN (wh - (11 : Int32)))) (show (tN (wh - (11 : Int32))) < 3 by omega) (by decide) (if_pos (show (tN (wh - (11 : Int32))) < 3 by omega)) dX0_station_187 ?_
                            refine W.widen (k := 1) (n := 4) (by omega) (by omega) ?_
                            exact fin (f (10 + (tN (wh - (11 : Int32))))) _ H locs ls 188 dX0_station_188 (⟨hr, hE⟩) w
                          · skip
                            by_cases c_1_13 : wh = (13 : Int32)
                            · skip
                              refine lv_tableIn (tgt := 176) hx hb dX0_station_1 (by rw [c_1_13]; decide) (by rw [c_1_13]; decide) (by rw [c_1_13]; rfl) (by decide) ?_
                              have hi9 : wh - (11 : Int32) = nI (tN (wh - (11 : Int32))) ∧ tN (wh - (11 : Int32)) < 3 := by rw [c_1_13]; decide
                              have hr := fun w s => stn_13 (w := w) (s := s) (f := f) c_1_13
                              refine lv_aload_n hx hb dX0_station_176 rfl (lv_at hl 0 rfl) ?_
                              refine mx_get (T := TX0) (v := .ref (ad 0)) X w in_X0 (ci := 0) rfl 0 (by decide) q472 (fun _ h => h) (ext_at hE hfo) rfl dX0_station_177 ?_
                              refine mx_getN (T := TX1) (v := .ref (ad 14)) X w in_X1 (ci := 1) rfl 11 (by decide) (w.tblB q314 rfl rfl) (fun _ h => h) hM.st rfl dX0_station_180 ?_
                              refine lv_iload_n hx hb dX0_station_183 rfl (lv_at hl 1 rfl) ?_
                              refine lv_bipush (v := (11 : Int32)) hx hb dX0_station_184 (by decide) ?_
                              refine lv_isub hx hb dX0_station_186 ?_
                              refine mx_cast (z := nI ((tN (wh - (11 : Int32))))) (hi9.1) ?_
                              refine mx_iald2 X w hM.a14 ((tN (wh - (11 : Int32)))) (show (tN (wh - (11 : Int32))) < 3 by omega) (by decide) (if_pos (show (tN (wh - (11 : Int32))) < 3 by omega)) dX0_station_187 ?_
                              refine W.widen (k := 1) (n := 4) (by omega) (by omega) ?_
                              exact fin (f (10 + (tN (wh - (11 : Int32))))) _ H locs ls 188 dX0_station_188 (⟨hr, hE⟩) w
                            · skip
                              by_cases c_1_14 : wh = (14 : Int32)
                              · skip
                                refine lv_tableIn (tgt := 189) hx hb dX0_station_1 (by rw [c_1_14]; decide) (by rw [c_1_14]; decide) (by rw [c_1_14]; rfl) (by decide) ?_
                                have hr := fun w s => stn_14 (w := w) (s := s) (f := f) c_1_14
                                refine lv_aload_n hx hb dX0_station_189 rfl (lv_at hl 0 rfl) ?_
                                refine mx_get (T := TX0) (v := .ref (ad 0)) X w in_X0 (ci := 0) rfl 0 (by decide) q472 (fun _ h => h) (ext_at hE hfo) rfl dX0_station_190 ?_
                                refine mx_getN (T := TX1) (v := .int (f 13)) X w in_X1 (ci := 1) rfl 24 (by decide) (w.tblB q345 rfl rfl) (fun _ h => h) hM.st rfl dX0_station_193 ?_
                                refine W.widen (k := 1) (n := 4) (by omega) (by omega) ?_
                                exact fin (f 13) _ H locs ls 196 dX0_station_196 (⟨hr, hE⟩) w
                              · skip
                                refine lv_tableOut (tgt := 197) hx hb dX0_station_1 (Classical.byContradiction fun hh => by
                                  have h2 : wh.toInt = 0 ∨ wh.toInt = 1 ∨ wh.toInt = 2 ∨ wh.toInt = 3 ∨ wh.toInt = 4 ∨ wh.toInt = 5 ∨ wh.toInt = 6 ∨ wh.toInt = 7 ∨ wh.toInt = 8 ∨ wh.toInt = 9 ∨ wh.toInt = 10 ∨ wh.toInt = 11 ∨ wh.toInt = 12 ∨ wh.toInt = 13 ∨ wh.toInt = 14 := by omega
                                  rcases h2 with h | h | h | h | h | h | h | h | h | h | h | h | h | h | h
                                  · exact lv_neT c_1_0 rfl h
                                  · exact lv_neT c_1_1 rfl h
                                  · exact lv_neT c_1_2 rfl h
                                  · exact lv_neT c_1_3 rfl h
                                  · exact lv_neT c_1_4 rfl h
                                  · exact lv_neT c_1_5 rfl h
                                  · exact lv_neT c_1_6 rfl h
                                  · exact lv_neT c_1_7 rfl h
                                  · exact lv_neT c_1_8 rfl h
                                  · exact lv_neT c_1_9 rfl h
                                  · exact lv_neT c_1_10 rfl h
                                  · exact lv_neT c_1_11 rfl h
                                  · exact lv_neT c_1_12 rfl h
                                  · exact lv_neT c_1_13 rfl h
                                  · exact lv_neT c_1_14 rfl h) (by decide) ?_
                                have hr := fun w s => stn_d (w := w) (s := s) (f := f) c_1_0 c_1_1 c_1_2 c_1_3 c_1_4 c_1_5 c_1_6 c_1_7 c_1_8 c_1_9 c_1_10 c_1_11 c_1_12 c_1_13 c_1_14
                                refine lv_ldc (v := (-1000001 : Int32)) hx hb X.2.2.2.1 (X.2.2.2.2 _ q505) dX0_station_197 ?_
                                refine W.widen (k := 1) (n := 4) (by omega) (by omega) ?_
                                exact fin (-1000001 : Int32) _ H locs ls 199 dX0_station_199 (⟨hr, hE⟩) w
set_option maxHeartbeats 4000000 in
set_option maxRecDepth 100000 in
theorem ct_count (l : Launch) (G : mg) (A : Nat → Prop) (M1 : mh) (fo dq tx : Nat) (ad : Nat → Nat) (np ng : Nat) (M0 : mh) (f : Nat → Int32) (hM1 : Sta G ad np ng M0 M1 f) (hfo : M1 fo = some (.inr (0, [.ref (ad 0), .ref dq, .ref tx]))) (da h t : Nat) (gq : Nat → Option Nat) (va tl : Nat) (ml : Int32) (hdq : M1 dq = some (.inr (11, [.ref da, .int (nI h), .int (nI t)]))) (hda : M1 da = some (mRc (G.1.1 103) 17 gq)) (hh : h < 17) (ht : t < 17) (htx : M1 tx = some (.inr (12, [.ref va, .int (0 : Int32), .int ml, .int (nI tl)]))) (wh : Int32) (T nz : Nat) (hS : SI T np nz ng f) (nn : Nat) (h18 : f 18 = nI nn) (hn7 : nn ≤ 7) : Met l yX0_count (ws_ yX0_count cX0_count 2 (some .int)) ({ frames := 4, cells := 1, slots := 4, locals := 76 }) (va_Pc [.ref fo, .int wh] (mU G A (fun M => M = M1))) (mQi G A (fun r M => (∀ (w : Nat → Nat → Int32) (s : Int32), w 0 2 = nI ((t + 17 - h) % 17) → w 0 6 = nI tl → r = mf_count (Vf w s f) wh) ∧ (∀ q, M1 q ≠ none → M q = M1 q))) 1 4 A := by
  refine mx_ofi (by decide) (Nat.le_of_ble_eq_true rfl) ?_
  intro p e R s m av below meth c M H Q ls X hRf hRl hRc hRs hin eM w fin hl
  subst M
  have X : CallFix p m c cX0_count 2 s av lw_all "FieldPumps" := X
  have hx := X.1
  have hb := X.2.1
  have hl : lv_has ls 2 [(0, .ref fo), (1, .int wh)] := hl
  have hRf : R.frames = 4 := hRf
  have hRl : R.locals = 76 := hRl
  have hRc : R.cells = 1 := hRc
  have hRs : R.slots = 4 := hRs
  generalize ([] : List Loc) = locs at w ⊢
  have hE : ∀ q, M1 q ≠ none → M1 q = M1 q := fun _ _ => rfl
  have hM := hM1
  have hn6 := hM1.n6
  have hg8 := hM1.g8
  obtain ⟨b9, bx, hB⟩ := hM.toB h18 (by omega)
  refine lv_iload_n hx hb dX0_count_0 rfl (lv_at hl 1 rfl) ?_
  by_cases c_1_0 : wh = (0 : Int32)
  · skip
    refine lv_tableIn (tgt := 60) hx hb dX0_count_1 (by rw [c_1_0]; decide) (by rw [c_1_0]; decide) (by rw [c_1_0]; rfl) (by decide) ?_
    have hr := fun (w : Nat → Nat → Int32) (s : Int32) (h2 : w 0 2 = nI ((t + 17 - h) % 17)) (h6 : w 0 6 = nI tl) => cnt_0 (w := w) (s := s) (f := f) hS c_1_0
    refine lv_aload_n hx hb dX0_count_60 rfl (lv_at hl 0 rfl) ?_
    refine mx_get (T := TX0) (v := .ref (ad 0)) X w in_X0 (ci := 0) rfl 0 (by decide) q472 (fun _ h => h) (ext_at hE hfo) rfl dX0_count_61 ?_
    refine mx_getN (T := TX1) (v := .ref (ad 1)) X w in_X1 (ci := 1) rfl 0 (by decide) (w.tblB q287 rfl rfl) (fun _ h => h) hM.st rfl dX0_count_64 ?_
    refine mx_bi w (va_runV (As := []) (rest := []) X (jt_al_size l G A _ (ad 1) _ _ np hM.pl) (cwV 0 X.2.2.2.2 (lw_V q806 q275 q276 q100 q277) rfl rfl rfl (by decide +kernel) ⟨by rw [hRf]; decide, by rw [hRl]; decide⟩) (mx_preV w rfl hM.pl rfl) rfl rfl hl.1 rfl (lv_room (Nat.le_of_ble_eq_true rfl)) dX0_count_67 ⟨by rw [hRc]; omega, by rw [hRs]; omega⟩) (fun r M9 H locs hp w => ?_)
    obtain ⟨eR, eM⟩ := hp; subst M9; subst eR
    refine W.widen (k := 1) (n := 4) (by omega) (by omega) ?_
    exact fin (nI np) _ H locs ls 70 dX0_count_70 (⟨hr, hE⟩) w
  · skip
    by_cases c_1_1 : wh = (1 : Int32)
    · skip
      refine lv_tableIn (tgt := 71) hx hb dX0_count_1 (by rw [c_1_1]; decide) (by rw [c_1_1]; decide) (by rw [c_1_1]; rfl) (by decide) ?_
      have hr := fun (w : Nat → Nat → Int32) (s : Int32) (h2 : w 0 2 = nI ((t + 17 - h) % 17)) (h6 : w 0 6 = nI tl) => cnt_1 (w := w) (s := s) (f := f) c_1_1
      refine lv_aload_n hx hb dX0_count_71 rfl (lv_at hl 0 rfl) ?_
      refine mx_get (T := TX0) (v := .ref (ad 0)) X w in_X0 (ci := 0) rfl 0 (by decide) q472 (fun _ h => h) (ext_at hE hfo) rfl dX0_count_72 ?_
      refine mx_getN (T := TX1) (v := .int (f 15)) X w in_X1 (ci := 1) rfl 17 (by decide) (w.tblB q323 rfl rfl) (fun _ h => h) hM.st rfl dX0_count_75 ?_
      refine W.widen (k := 1) (n := 4) (by omega) (by omega) ?_
      exact fin (f 15) _ H locs ls 78 dX0_count_78 (⟨hr, hE⟩) w
    · skip
      by_cases c_1_2 : wh = (2 : Int32)
      · skip
        refine lv_tableIn (tgt := 79) hx hb dX0_count_1 (by rw [c_1_2]; decide) (by rw [c_1_2]; decide) (by rw [c_1_2]; rfl) (by decide) ?_
        have hr := fun (w : Nat → Nat → Int32) (s : Int32) (h2 : w 0 2 = nI ((t + 17 - h) % 17)) (h6 : w 0 6 = nI tl) => cnt_2 (w := w) (s := s) (f := f) hS c_1_2
        refine lv_aload_n hx hb dX0_count_79 rfl (lv_at hl 0 rfl) ?_
        refine mx_get (T := TX0) (v := .ref (ad 0)) X w in_X0 (ci := 0) rfl 0 (by decide) q472 (fun _ h => h) (ext_at hE hfo) rfl dX0_count_80 ?_
        refine mx_getN (T := TX1) (v := .ref (ad 3)) X w in_X1 (ci := 1) rfl 1 (by decide) (w.tblB q290 rfl rfl) (fun _ h => h) hM.st rfl dX0_count_83 ?_
        refine mx_bi w (va_runV (As := []) (rest := []) X (jt_al_size l G A _ (ad 3) _ _ ng hM.gl) (cwV 0 X.2.2.2.2 (lw_V q806 q275 q276 q100 q277) rfl rfl rfl (by decide +kernel) ⟨by rw [hRf]; decide, by rw [hRl]; decide⟩) (mx_preV w rfl hM.gl rfl) rfl rfl hl.1 rfl (lv_room (Nat.le_of_ble_eq_true rfl)) dX0_count_86 ⟨by rw [hRc]; omega, by rw [hRs]; omega⟩) (fun r M9 H locs hp w => ?_)
        obtain ⟨eR, eM⟩ := hp; subst M9; subst eR
        refine W.widen (k := 1) (n := 4) (by omega) (by omega) ?_
        exact fin (nI ng) _ H locs ls 89 dX0_count_89 (⟨hr, hE⟩) w
      · skip
        by_cases c_1_3 : wh = (3 : Int32)
        · skip
          refine lv_tableIn (tgt := 90) hx hb dX0_count_1 (by rw [c_1_3]; decide) (by rw [c_1_3]; decide) (by rw [c_1_3]; rfl) (by decide) ?_
          have hr := fun (w : Nat → Nat → Int32) (s : Int32) (h2 : w 0 2 = nI ((t + 17 - h) % 17)) (h6 : w 0 6 = nI tl) => cnt_3 (w := w) (s := s) (f := f) hS c_1_3
          refine lv_aload_n hx hb dX0_count_90 rfl (lv_at hl 0 rfl) ?_
          refine mx_get (T := TX0) (v := .ref (ad 0)) X w in_X0 (ci := 0) rfl 0 (by decide) q472 (fun _ h => h) (ext_at hE hfo) rfl dX0_count_91 ?_
          refine mx_bi w (va_runV (As := []) (rest := []) X (ct_openZones l G A ad np ng M0 _ f nz hM hS.ip.enz hS.ip.z8) (cwV 0 X.2.2.2.2 (lw_V q1740 q841 q842 q97 q843) rfl rfl rfl (by decide +kernel) ⟨by rw [hRf]; decide, by rw [hRl]; decide⟩) (mx_preV w rfl hM.st rfl) rfl rfl hl.1 rfl (lv_room (Nat.le_of_ble_eq_true rfl)) dX0_count_94 ⟨by rw [hRc]; omega, by rw [hRs]; omega⟩) (fun r M9 H locs hp w => ?_)
          obtain ⟨eR, eM⟩ := hp; subst M9; subst eR
          refine W.widen (k := 1) (n := 4) (by omega) (by omega) ?_
          exact fin (cf_openZones f) _ H locs ls 97 dX0_count_97 (⟨hr, hE⟩) w
        · skip
          by_cases c_1_4 : wh = (4 : Int32)
          · skip
            refine lv_tableIn (tgt := 98) hx hb dX0_count_1 (by rw [c_1_4]; decide) (by rw [c_1_4]; decide) (by rw [c_1_4]; rfl) (by decide) ?_
            have hr9 := fun w s => cnt_4 (w := w) (s := s) hS c_1_4
            refine lv_aload_n hx hb dX0_count_98 rfl (lv_at hl 0 rfl) ?_
            refine mx_bi w (va_runV (As := []) (rest := []) X (ct_readyMany l G A M1 fo dq tx ad np ng M0 f hM1 hfo) (cwV 0 X.2.2.2.2 (lw_V q1741 q1743 qs41 q96 q1744) rfl rfl rfl (by decide +kernel) ⟨by rw [hRf]; decide, by rw [hRl]; decide⟩) (mx_preV w rfl hfo rfl) rfl rfl hl.1 rfl (lv_room (Nat.le_of_ble_eq_true rfl)) dX0_count_99 ⟨by rw [hRc]; omega, by rw [hRs]; omega⟩) (fun r99 M9 H locs hp w => ?_)
            obtain ⟨eR, hE9⟩ := hp
            have hE := hE9
            have hr := fun (w : Nat → Nat → Int32) (s : Int32) (_ : w 0 2 = nI ((t + 17 - h) % 17)) (_ : w 0 6 = nI tl) => eR.trans (hr9 w s)
            refine W.widen (k := 1) (n := 4) (by omega) (by omega) ?_
            exact fin r99 _ H locs ls 102 dX0_count_102 (⟨hr, hE⟩) w
          · skip
            by_cases c_1_5 : wh = (5 : Int32)
            · skip
              refine lv_tableIn (tgt := 103) hx hb dX0_count_1 (by rw [c_1_5]; decide) (by rw [c_1_5]; decide) (by rw [c_1_5]; rfl) (by decide) ?_
              have hr := fun (w : Nat → Nat → Int32) (s : Int32) (h2 : w 0 2 = nI ((t + 17 - h) % 17)) (h6 : w 0 6 = nI tl) => cnt_5 (w := w) (s := s) (f := f) h18 c_1_5
              refine lv_aload_n hx hb dX0_count_103 rfl (lv_at hl 0 rfl) ?_
              refine mx_get (T := TX0) (v := .ref (ad 0)) X w in_X0 (ci := 0) rfl 0 (by decide) q472 (fun _ h => h) (ext_at hE hfo) rfl dX0_count_104 ?_
              refine mx_getN (T := TX1) (v := .ref (ad 8)) X w in_X1 (ci := 1) rfl 6 (by decide) (w.tblB q300 rfl rfl) (fun _ h => h) hM.st rfl dX0_count_107 ?_
              refine mx_bi w (va_runV (As := []) (rest := []) X (jt_al_size l G A _ (ad 8) _ _ nn hB.l8) (cwV 0 X.2.2.2.2 (lw_V q806 q275 q276 q100 q277) rfl rfl rfl (by decide +kernel) ⟨by rw [hRf]; decide, by rw [hRl]; decide⟩) (mx_preV w rfl hB.l8 rfl) rfl rfl hl.1 rfl (lv_room (Nat.le_of_ble_eq_true rfl)) dX0_count_110 ⟨by rw [hRc]; omega, by rw [hRs]; omega⟩) (fun r M9 H locs hp w => ?_)
              obtain ⟨eR, eM⟩ := hp; subst M9; subst eR
              refine W.widen (k := 1) (n := 4) (by omega) (by omega) ?_
              exact fin (nI nn) _ H locs ls 113 dX0_count_113 (⟨hr, hE⟩) w
            · skip
              by_cases c_1_6 : wh = (6 : Int32)
              · skip
                refine lv_tableIn (tgt := 114) hx hb dX0_count_1 (by rw [c_1_6]; decide) (by rw [c_1_6]; decide) (by rw [c_1_6]; rfl) (by decide) ?_
                have hr := fun (w : Nat → Nat → Int32) (s : Int32) (h2 : w 0 2 = nI ((t + 17 - h) % 17)) (h6 : w 0 6 = nI tl) => cnt_6 (w := w) (s := s) (f := f) c_1_6
                refine lv_aload_n hx hb dX0_count_114 rfl (lv_at hl 0 rfl) ?_
                refine mx_get (T := TX0) (v := .ref (ad 0)) X w in_X0 (ci := 0) rfl 0 (by decide) q472 (fun _ h => h) (ext_at hE hfo) rfl dX0_count_115 ?_
                refine mx_getN (T := TX1) (v := .int (f 19)) X w in_X1 (ci := 1) rfl 5 (by decide) (w.tblB q298 rfl rfl) (fun _ h => h) hM.st rfl dX0_count_118 ?_
                refine W.widen (k := 1) (n := 4) (by omega) (by omega) ?_
                exact fin (f 19) _ H locs ls 121 dX0_count_121 (⟨hr, hE⟩) w
              · skip
                by_cases c_1_7 : wh = (7 : Int32)
                · skip
                  refine lv_tableIn (tgt := 122) hx hb dX0_count_1 (by rw [c_1_7]; decide) (by rw [c_1_7]; decide) (by rw [c_1_7]; rfl) (by decide) ?_
                  have hr := fun (w : Nat → Nat → Int32) (s : Int32) (h2 : w 0 2 = nI ((t + 17 - h) % 17)) (h6 : w 0 6 = nI tl) => cnt_7 (w := w) (s := s) (f := f) c_1_7
                  refine lv_aload_n hx hb dX0_count_122 rfl (lv_at hl 0 rfl) ?_
                  refine mx_get (T := TX0) (v := .ref (ad 0)) X w in_X0 (ci := 0) rfl 0 (by decide) q472 (fun _ h => h) (ext_at hE hfo) rfl dX0_count_123 ?_
                  refine mx_getN (T := TX1) (v := .int (f 0)) X w in_X1 (ci := 1) rfl 18 (by decide) (w.tblB q327 rfl rfl) (fun _ h => h) hM.st rfl dX0_count_126 ?_
                  refine W.widen (k := 1) (n := 4) (by omega) (by omega) ?_
                  exact fin (f 0) _ H locs ls 129 dX0_count_129 (⟨hr, hE⟩) w
                · skip
                  by_cases c_1_8 : wh = (8 : Int32)
                  · skip
                    refine lv_tableIn (tgt := 130) hx hb dX0_count_1 (by rw [c_1_8]; decide) (by rw [c_1_8]; decide) (by rw [c_1_8]; rfl) (by decide) ?_
                    have hr := fun (w : Nat → Nat → Int32) (s : Int32) (h2 : w 0 2 = nI ((t + 17 - h) % 17)) (h6 : w 0 6 = nI tl) => cnt_8 (w := w) (s := s) (f := f) c_1_8
                    refine lv_aload_n hx hb dX0_count_130 rfl (lv_at hl 0 rfl) ?_
                    refine mx_get (T := TX0) (v := .ref (ad 0)) X w in_X0 (ci := 0) rfl 0 (by decide) q472 (fun _ h => h) (ext_at hE hfo) rfl dX0_count_131 ?_
                    refine mx_getN (T := TX1) (v := .int (f 0)) X w in_X1 (ci := 1) rfl 18 (by decide) (w.tblB q327 rfl rfl) (fun _ h => h) hM.st rfl dX0_count_134 ?_
                    refine lv_sipush (v := (1440 : Int32)) hx hb dX0_count_137 (by decide) ?_
                    refine lv_irem hx hb dX0_count_140 (by decide) ?_
                    refine W.widen (k := 1) (n := 4) (by omega) (by omega) ?_
                    exact fin ((f 0) - (f 0) / (1440 : Int32) * (1440 : Int32)) _ H locs ls 141 dX0_count_141 (⟨hr, hE⟩) w
                  · skip
                    by_cases c_1_9 : wh = (9 : Int32)
                    · skip
                      refine lv_tableIn (tgt := 142) hx hb dX0_count_1 (by rw [c_1_9]; decide) (by rw [c_1_9]; decide) (by rw [c_1_9]; rfl) (by decide) ?_
                      have hr := fun (w : Nat → Nat → Int32) (s : Int32) (h2 : w 0 2 = nI ((t + 17 - h) % 17)) (h6 : w 0 6 = nI tl) => cnt_9 (w := w) (s := s) (f := f) h2 c_1_9
                      refine lv_aload_n hx hb dX0_count_142 rfl (lv_at hl 0 rfl) ?_
                      refine mx_get (T := TX0) (v := .ref dq) X w in_X0 (ci := 0) rfl 1 (by decide) q473 (fun _ h => h) (ext_at hE hfo) rfl dX0_count_143 ?_
                      refine mx_bi w (va_runV (As := []) (rest := []) X (jt_dq_size l G A _ dq da h t gq (ext_at hE hdq) (ext_at hE hda) hh ht) (cwV 0 X.2.2.2.2 (lw_V q782 q783 q784 q108 q785) rfl rfl rfl (by decide +kernel) ⟨by rw [hRf]; decide, by rw [hRl]; decide⟩) (mx_preV w rfl (ext_at hE hdq) rfl) rfl rfl hl.1 rfl (lv_room (Nat.le_of_ble_eq_true rfl)) dX0_count_146 ⟨by rw [hRc]; omega, by rw [hRs]; omega⟩) (fun r M9 H locs hp w => ?_)
                      obtain ⟨eR, eM⟩ := hp; subst M9; subst eR
                      refine W.widen (k := 1) (n := 4) (by omega) (by omega) ?_
                      exact fin (nI ((t + 17 - h) % 17)) _ H locs ls 149 dX0_count_149 (⟨hr, hE⟩) w
                    · skip
                      by_cases c_1_10 : wh = (10 : Int32)
                      · skip
                        refine lv_tableIn (tgt := 150) hx hb dX0_count_1 (by rw [c_1_10]; decide) (by rw [c_1_10]; decide) (by rw [c_1_10]; rfl) (by decide) ?_
                        have hr := fun (w : Nat → Nat → Int32) (s : Int32) (h2 : w 0 2 = nI ((t + 17 - h) % 17)) (h6 : w 0 6 = nI tl) => cnt_10 (w := w) (s := s) (f := f) h6 c_1_10
                        refine lv_aload_n hx hb dX0_count_150 rfl (lv_at hl 0 rfl) ?_
                        refine mx_get (T := TX0) (v := .ref tx) X w in_X0 (ci := 0) rfl 2 (by decide) q475 (fun _ h => h) (ext_at hE hfo) rfl dX0_count_151 ?_
                        refine mx_bi w (va_runV (As := []) (rest := []) X (jt_sb_len l G A _ tx va ml tl (ext_at hE htx)) (cwV 0 X.2.2.2.2 (lw_V q1746 q1747 q1748 q110 q1749) rfl rfl rfl (by decide +kernel) ⟨by rw [hRf]; decide, by rw [hRl]; decide⟩) (mx_preV w rfl (ext_at hE htx) rfl) rfl rfl hl.1 rfl (lv_room (Nat.le_of_ble_eq_true rfl)) dX0_count_154 ⟨by rw [hRc]; omega, by rw [hRs]; omega⟩) (fun r M9 H locs hp w => ?_)
                        obtain ⟨eR, eM⟩ := hp; subst M9; subst eR
                        refine W.widen (k := 1) (n := 4) (by omega) (by omega) ?_
                        exact fin (nI tl) _ H locs ls 157 dX0_count_157 (⟨hr, hE⟩) w
                      · skip
                        refine lv_tableOut (tgt := 158) hx hb dX0_count_1 (Classical.byContradiction fun hh => by
                          have h2 : wh.toInt = 0 ∨ wh.toInt = 1 ∨ wh.toInt = 2 ∨ wh.toInt = 3 ∨ wh.toInt = 4 ∨ wh.toInt = 5 ∨ wh.toInt = 6 ∨ wh.toInt = 7 ∨ wh.toInt = 8 ∨ wh.toInt = 9 ∨ wh.toInt = 10 := by omega
                          rcases h2 with h | h | h | h | h | h | h | h | h | h | h
                          · exact lv_neT c_1_0 rfl h
                          · exact lv_neT c_1_1 rfl h
                          · exact lv_neT c_1_2 rfl h
                          · exact lv_neT c_1_3 rfl h
                          · exact lv_neT c_1_4 rfl h
                          · exact lv_neT c_1_5 rfl h
                          · exact lv_neT c_1_6 rfl h
                          · exact lv_neT c_1_7 rfl h
                          · exact lv_neT c_1_8 rfl h
                          · exact lv_neT c_1_9 rfl h
                          · exact lv_neT c_1_10 rfl h) (by decide) ?_
                        refine lv_iload_n hx hb dX0_count_158 rfl (lv_at hl 1 rfl) ?_
                        refine lv_i2l hx hb dX0_count_159 rfl ?_
                        refine lv_ldc2 (v := (20 : Int64)) hx hb X.2.2.2.1 (X.2.2.2.2 _ q1753) dX0_count_160 ?_
                        refine lv_ldc2 (v := (38 : Int64)) hx hb X.2.2.2.1 (X.2.2.2.2 _ q1754) dX0_count_163 ?_
                        refine mx_bi w (va_runS (As := [.long wh.toInt64, .long (20 : Int64), .long (38 : Int64)]) (rest := []) X (ct_isBetween l G A _ wh.toInt64 (20 : Int64) (38 : Int64)) (va_cwS 3 X.2.2.2.2 (lw_S q492 q493 q96 q494) rfl rfl rfl (by decide +kernel) ⟨by rw [hRf]; decide, by rw [hRl]; decide⟩) (mx_preS w rfl) rfl rfl hl.1 rfl (lv_room (Nat.le_of_ble_eq_true rfl)) dX0_count_166 ⟨by rw [hRc]; omega, by rw [hRs]; omega⟩) (fun r M9 H locs hp w => ?_)
                        obtain ⟨eR, eM⟩ := hp; subst M9; subst eR
                        refine mx_beq (tgt := 187) hx hb dX0_count_169 (by decide) (fun c_169 => ?_) (fun c_169 => ?_)
                        · skip
                          have hr := fun (w : Nat → Nat → Int32) (s : Int32) (h2 : w 0 2 = nI ((t + 17 - h) % 17)) (h6 : w 0 6 = nI tl) => cnt_d (w := w) (s := s) (f := f) c_169 c_1_0 c_1_1 c_1_2 c_1_3 c_1_4 c_1_5 c_1_6 c_1_7 c_1_8 c_1_9 c_1_10
                          refine lv_ldc (v := (-1000001 : Int32)) hx hb X.2.2.2.1 (X.2.2.2.2 _ q505) dX0_count_187 ?_
                          refine W.widen (k := 1) (n := 4) (by omega) (by omega) ?_
                          exact fin (-1000001 : Int32) _ H locs ls 189 dX0_count_189 (⟨hr, hE⟩) w
                        · skip
                          have hw9 := in_n (a := 20) (b := 38) (by decide) c_169
                          have hr := fun (w : Nat → Nat → Int32) (s : Int32) (h2 : w 0 2 = nI ((t + 17 - h) % 17)) (h6 : w 0 6 = nI tl) => cnt_e (w := w) (s := s) (f := f) c_169 c_1_0 c_1_1 c_1_2 c_1_3 c_1_4 c_1_5 c_1_6 c_1_7 c_1_8 c_1_9 c_1_10
                          refine lv_aload_n hx hb dX0_count_172 rfl (lv_at hl 0 rfl) ?_
                          refine mx_get (T := TX0) (v := .ref (ad 0)) X w in_X0 (ci := 0) rfl 0 (by decide) q472 (fun _ h => h) (ext_at hE hfo) rfl dX0_count_173 ?_
                          refine mx_getN (T := TX1) (v := .ref (ad 13)) X w in_X1 (ci := 1) rfl 10 (by decide) (w.tblB q312 rfl rfl) (fun _ h => h) hM.st rfl dX0_count_176 ?_
                          refine lv_iload_n hx hb dX0_count_179 rfl (lv_at hl 1 rfl) ?_
                          refine mx_cast (z := nI ((tN wh))) (hw9.1) ?_
                          refine lv_bipush (v := (20 : Int32)) hx hb dX0_count_180 (by decide) ?_
                          refine mx_nsub (u := (tN wh)) (v := 20) hx hb rfl rfl (by omega) dX0_count_182 ?_
                          refine mx_iald2 X w hM.a13 ((tN wh) - 20) (show (tN wh) - 20 < 19 by omega) (by decide) (if_pos (show (tN wh) - 20 < 19 by omega)) dX0_count_183 ?_
                          refine lv_goto (tgt := 189) hx hb dX0_count_184 (by decide) ?_
                          refine W.widen (k := 1) (n := 4) (by omega) (by omega) ?_
                          exact fin (f (20 + ((tN wh) - 20))) _ H locs ls 189 dX0_count_189 (⟨hr, hE⟩) w
