set_option maxRecDepth 100000
set_option maxRecDepth 100000
/-! QB: stage, rotate -/
section QB
variable {w : Nat → Nat → Int32} {s : Int32} {f g : Nat → Int32} {T np nz ng : Nat}
theorem st6.h1 (h : st6 f) (hS : SI T np nz ng f) : cf_isDue f 1 6 = true → ((1 : Int32) < cf_running f ∨ f 4 = -1) → ¬ cf_mostRun f = none := fun a b => (most_iff hS (h.1 a)).mp b
-- the reference's cascade by cases
theorem cas_115 (a b : Nat → Nat → Int32) : mf_cascade_115 a b = b := rfl
theorem cas_79 {v : Nat → Nat → Int32} : mf_cascade_79 v = if v 1 12 < mf_setting v 8 then v else mf_beginAnew (mf_event (mf_stop v (tN (v 1 4))) 2 (-1)) := by
  rw [mf_cascade_79, mf_cascade_c102, mf_cascade_c108, mf_cascade_c112, cas_115, cas_115]
theorem cas_40 {v : Nat → Nat → Int32} : mf_cascade_40 v = if v 1 11 < mf_setting v 6 then mf_cascade_79 v else if mf_longest v = -1 then mf_cascade_79 v else mf_beginAnew (mf_stop v (tN (mf_longest v))) := by
  rw [mf_cascade_40, mf_cascade_c69, mf_cascade_c73, cas_115]
theorem cas_0 {v : Nat → Nat → Int32} : mf_cascade v = if v 1 10 < mf_setting v 5 then mf_cascade_40 v else if mf_ready v 0 = -1 then mf_cascade_40 v else mf_beginAnew (mf_start v (tN (mf_ready v 0))) := by
  rw [mf_cascade, mf_cascade_c30, mf_cascade_c34, cas_115]
theorem cst_115 (a b : Nat → Int32) : cf_cstage_115 a b = b := rfl
theorem cst_78 : cf_cstage_78 f = if cf_isDue f 2 8 = true then cf_forget (cf_tell1 (cf_cstop f (tN (f 4))) 2) else f := by
  rw [cf_cstage_78, cf_cstage_c103, cf_cstage_c108, cf_cstage_c112, cst_115, cst_115]
theorem cst_63 : cf_cstage_63 f = cf_forget (cf_cstop f ((cf_mostRun f).getD 0)) := by
  rw [cf_cstage_63, cf_cstage_c68, cf_cstage_c72, cst_115]
theorem cst_18 : cf_cstage_c18 f g = cf_forget (cf_cstart g (tN (g (180 + 0)))) := by
  rw [cf_cstage_c18, cf_cstage_c27, cf_cstage_c31, cst_115]
theorem tell1_eq {k : Int32} : cf_tell1 f k = cf_tell f k (-1) := by rw [cf_tell1, cf_tell1_c3]
theorem SI_tell1 {k : Int32} (hS : SI T np nz ng f) : SI T np nz ng (cf_tell1 f k) := by
  rw [tell1_eq]
  exact SI_tell hS
theorem E_st78 (hS : SI T np nz ng f) (h6 : st6 f) : Vf w s (cf_cstage_78 f) = mf_cascade_79 (Vf w s f) ∧ SI T np nz ng (cf_cstage_78 f) := by
  have hn := hS.n6
  have hp := hS.cp
  have v4 : Vf w s f 1 4 = f 4 := Vf_at (by decide)
  have v12 : Vf w s f 1 12 = f 12 := Vf_at (by decide)
  have s8 : mf_setting (Vf w s f) 8 = f 28 := E_set (by decide)
  by_cases c : f 12 < f 28
  · have hd : ¬ cf_isDue f 2 8 = true := fun h => (isDue_iff (f := f) (k := 2) (j := 8)).mp h c
    have e : cf_cstage_78 f = f := by rw [cst_78, if_neg hd]
    have e2 : mf_cascade_79 (Vf w s f) = Vf w s f := by rw [cas_79, v12, s8, if_pos c]
    rw [e, e2]
    exact ⟨rfl, hS⟩
  · have hd : cf_isDue f 2 8 = true := isDue_iff.mpr c
    obtain ⟨e4, h4⟩ := isP_n hS.var (h6.2 hd) hn
    have h1 := SI_stop h4 hS
    have h2 : SI T np nz ng (cf_tell1 (cf_cstop f (tN (f 4))) 2) := SI_tell1 h1
    have e : cf_cstage_78 f = cf_forget (cf_tell1 (cf_cstop f (tN (f 4))) 2) := by rw [cst_78, if_pos hd]
    have e2 : mf_cascade_79 (Vf w s f) = mf_beginAnew (mf_event (mf_stop (Vf w s f) (tN (f 4))) 2 (-1)) := by rw [cas_79, v12, s8, v4, if_neg c]
    have e3 := (E_cstop (w := w) (s := s) h4 hn hp hS.ne).1
    rw [e, e2, E_forget, E_tell1 h1.ne, e3]
    exact ⟨rfl, SI_forget h2⟩
theorem E_st37 (hS : SI T np nz ng f) (h6 : st6 f) : Vf w s (cf_cstage_37 f) = mf_cascade_40 (Vf w s f) ∧ SI T np nz ng (cf_cstage_37 f) := by
  have hn := hS.n6
  have hp := hS.cp
  have v11 : Vf w s f 1 11 = f 11 := Vf_at (by decide)
  have s6 : mf_setting (Vf w s f) 6 = f 26 := E_set (by decide)
  obtain ⟨l1, l2⟩ := E_longest (w := w) (s := s) hn hp
  obtain ⟨m1, m2⟩ := E_st78 (w := w) (s := s) hS h6
  by_cases c : f 11 < f 26
  · have hd : ¬ cf_isDue f 1 6 = true := fun h => (isDue_iff (f := f) (k := 1) (j := 6)).mp h c
    have e : cf_cstage_37 f = cf_cstage_78 f := by rw [cf_cstage_37, if_neg hd]
    have e2 : mf_cascade_40 (Vf w s f) = mf_cascade_79 (Vf w s f) := by rw [cas_40, v11, s6, if_pos c]
    rw [e, e2]
    exact ⟨m1, m2⟩
  · have hd : cf_isDue f 1 6 = true := isDue_iff.mpr c
    have hm := most_iff hS (h6.1 hd)
    by_cases d : cf_mostRun f = none
    · have e : cf_cstage_37 f = cf_cstage_78 f := by rw [cf_cstage_37, if_pos hd, if_neg (fun h => hm.mp (Or.inl h) d), if_neg (fun h => hm.mp (Or.inr h) d)]
      have e2 : mf_cascade_40 (Vf w s f) = mf_cascade_79 (Vf w s f) := by rw [cas_40, v11, s6, if_neg c, l1, if_pos ((oI_m1 l2 hn).mpr d)]
      rw [e, e2]
      exact ⟨m1, m2⟩
    · have h9 := okP_getD l2 d
      have e : cf_cstage_37 f = cf_forget (cf_cstop f ((cf_mostRun f).getD 0)) := by
        rw [cf_cstage_37, if_pos hd, ← cst_63]
        rcases hm.mpr d with h | h
        · rw [if_pos h]
        · rw [if_pos h]; split <;> rfl
      have e2 : mf_cascade_40 (Vf w s f) = mf_beginAnew (mf_stop (Vf w s f) ((cf_mostRun f).getD 0)) := by
        rw [cas_40, v11, s6, if_neg c, l1, if_neg (fun h => d ((oI_m1 l2 hn).mp h)), oI_tN l2 hn d]
      have e3 := (E_cstop (w := w) (s := s) h9 hn hp hS.ne).1
      rw [e, e2, E_forget, e3]
      exact ⟨rfl, SI_forget (SI_stop h9 hS)⟩
theorem E_stage (hS : SI T np nz ng f) (h6 : st6 f) : Vf w s (cf_cstage f) = mf_cascade (Vf w s f) ∧ SI T np nz ng (cf_cstage f) := by
  have hn := hS.n6
  have hp := hS.cp
  have v10 : Vf w s f 1 10 = f 10 := Vf_at (by decide)
  have s5 : mf_setting (Vf w s f) 5 = f 25 := E_set (by decide)
  obtain ⟨r1, r2⟩ := ready_fst (w := w) (s := s) hn hp hS.runs hS.q
  obtain ⟨m1, m2⟩ := E_st37 (w := w) (s := s) hS h6
  by_cases c : f 10 < f 25
  · have hd : ¬ cf_isDue f 0 5 = true := fun h => (isDue_iff (f := f) (k := 0) (j := 5)).mp h c
    have e : cf_cstage f = cf_cstage_37 f := by rw [cf_cstage, if_neg hd]
    have e2 : mf_cascade (Vf w s f) = mf_cascade_40 (Vf w s f) := by rw [cas_0, v10, s5, if_pos c]
    rw [e, e2]
    exact ⟨m1, m2⟩
  · have hd : cf_isDue f 0 5 = true := isDue_iff.mpr c
    by_cases d : cf_hasReady f = true
    · have hk := hS.pk d
      have h1 := SI_ready hS
      have e : cf_cstage f = cf_forget (cf_cstart (cf_ready f) (tN (cf_ready f (180 + 0)))) := by rw [cf_cstage, if_pos hd, if_pos d, cst_18]
      have e2 : mf_cascade (Vf w s f) = mf_beginAnew (mf_start (Vf w s f) (tN (cf_ready f (180 + 0)))) := by
        rw [cas_0, v10, s5, if_neg c, r1 d, if_neg (fun e => nI_pos (n := tN (cf_ready f (180 + 0))) (by omega) (by rw [e]; decide)), tN_nI (by omega)]
      have e3 := E_cstart (w := w) (s := s) hk h1.ip
      have e4 := E_ready (w := w) (s := s) hn hp hS.runs hS.q
      rw [e, e2, E_forget, e3, e4]
      exact ⟨rfl, SI_forget (SI_start hk h1)⟩
    · have e : cf_cstage f = cf_cstage_37 f := by rw [cf_cstage, if_pos hd, if_neg d]
      have e2 : mf_cascade (Vf w s f) = mf_cascade_40 (Vf w s f) := by rw [cas_0, v10, s5, if_neg c, r2 d, if_pos rfl]
      rw [e, e2]
      exact ⟨m1, m2⟩
theorem crot_76 {h : Nat → Int32} : cf_crotate_c76 f h = cf_cstop (cf_tell (cf_tell (upd h 4 (nI ((cf_fresh f (tN (f 4))).getD 0))) 0 (nI ((cf_fresh f (tN (f 4))).getD 0))) 7 (nI ((cf_fresh f (tN (f 4))).getD 0))) (tN (f 4)) := by
  rw [cf_crotate_c76, cf_crotate_c93, cf_crotate_c103, cf_crotate_c108, cf_crotate_111]
theorem fresh_ok (hn : np ≤ 6) (hp : nC f 14 = np) : ∀ (n : Nat) (o : Option Nat) (k : Nat) (k0 : Nat), (∀ j, o = some j → j < np ∧ cf_isReady f j = true ∧ isVar f j = true) → ∀ j, cf_fresh_4 f k0 n o k = some j → j < np ∧ cf_isReady f j = true ∧ isVar f j = true := by
  intro n
  induction n with
  | zero => intro o k k0 _ j h; cases h
  | succ n ih =>
    intro o k k0 ho j h
    rw [cf_fresh_4, hp] at h
    by_cases c : np ≤ k
    · rw [if_pos c] at h
      exact ho j h
    · rw [if_neg c] at h
      have keep : cf_fresh_4 f k0 n o (k + 1) = some j → j < np ∧ cf_isReady f j = true ∧ isVar f j = true := ih o (k + 1) k0 ho j
      by_cases c1 : cf_isReady f k = true
      · rw [if_pos c1] at h
        by_cases c2 : isVar f k = true
        · rw [if_pos c2] at h
          have new : cf_fresh_4 f k0 n (some k) (k + 1) = some j → j < np ∧ cf_isReady f j = true ∧ isVar f j = true := ih (some k) (k + 1) k0 (fun i e => by cases e; exact ⟨by omega, c1, c2⟩) j
          by_cases c3 : f (39 + (8 * k0) + 5) ≤ f (39 + (8 * k) + 5)
          · rw [if_pos c3] at h
            exact keep h
          · rw [if_neg c3, cf_fresh_61, if_pos rfl] at h
            by_cases c4 : o = none
            · rw [if_pos c4] at h
              exact new h
            · rw [if_neg c4] at h
              by_cases c5 : f (39 + (8 * o.getD 0) + 5) ≤ f (39 + (8 * k) + 5)
              · rw [if_pos c5] at h
                exact keep h
              · rw [if_neg c5] at h
                exact new h
        · rw [if_neg c2] at h
          exact keep h
      · rw [if_neg c1] at h
        exact keep h
theorem E_rotate (hS : SI T np nz ng f) : Vf w s (cf_crotate f) = mf_rotate (Vf w s f) ∧ SI T np nz ng (cf_crotate f) := by
  have hn := hS.n6
  have hp := hS.cp
  have v4 : Vf w s f 1 4 = f 4 := Vf_at (by decide)
  have s18 : mf_setting (Vf w s f) 18 = f 38 := E_set (by decide)
  have e45 : cf_crotate_45 f = f := rfl
  have e37 : mf_rotate_37 (Vf w s f) = Vf w s f := by rw [mf_rotate_37]
  rw [cf_crotate, mf_rotate, s18, v4, e45, e37]
  by_cases c1 : f 38 = 0
  · rw [if_pos c1, if_pos c1]
    exact ⟨rfl, hS⟩
  · rw [if_neg c1, if_neg c1]
    by_cases c2 : f 4 = -1
    · rw [if_pos c2, if_pos c2]
      exact ⟨rfl, hS⟩
    · obtain ⟨e4, h4⟩ := isP_n hS.var c2 hn
      rw [if_neg c2, if_neg c2, E_of (by omega) (by decide)]
      by_cases c3 : f 38 ≤ f (39 + (8 * tN (f 4)) + 6)
      · rw [if_pos c3, if_pos c3]
        obtain ⟨k1, k2⟩ := E_fresh_4 (w := w) (s := s) (f := f) hn hp rfl (show tN (f 4) < 6 by omega) 7 none 0 okP_none (by omega) (by omega)
        have k2' : mf_rotate_42 (Vf w s f) 7 (-1) 0 = if cf_fresh f (tN (f 4)) = none then Vf w s f else mf_stop (mf_event (mf_begins (Vf w s f) ((cf_fresh f (tN (f 4))).getD 0) (f (39 + (8 * tN (f 4)) + 4)) true) 7 (oI (cf_fresh f (tN (f 4))))) (tN (f 4)) := k2
        have k1' : okP np (cf_fresh f (tN (f 4))) := k1
        rw [k2']
        by_cases c4 : cf_fresh f (tN (f 4)) = none
        · rw [if_pos c4, if_pos c4, cf_crotate_111]
          exact ⟨rfl, hS⟩
        · have hx := okP_getD k1' c4
          rw [if_neg c4, if_neg c4, crot_76]
          have hfr := fresh_ok hn hp 7 none 0 (tN (f 4)) (fun j e => by cases e) ((cf_fresh f (tN (f 4))).getD 0) (by
            show cf_fresh f (tN (f 4)) = _
            cases hq : cf_fresh f (tN (f 4)) with
            | none => exact absurd hq c4
            | some j => rfl)
          have eo : oI (cf_fresh f (tN (f 4))) = nI ((cf_fresh f (tN (f 4))).getD 0) := by
            cases hq : cf_fresh f (tN (f 4)) with
            | none => exact absurd hq c4
            | some j => rfl
          rw [eo]
          generalize (cf_fresh f (tN (f 4))).getD 0 = x at *
          rw [← pstart_up (by omega)]
          -- the fresh pump stands and runs; it is variable
          have hrun : ¬ f (39 + (8 * tN (f 4)) + 4) ≤ 0 := by
            rcases hS.vr with h | h
            · exact absurd h c2
            · exact runs_iff.mp h.1
          have he1 : rg (cf_pstart (upd f 4 (nI x)) x (f (39 + (8 * tN (f 4)) + 4)) 19) 12 := pstart_19 (by rw [pk_un (by decide)]; exact hS.ne)
          have hB : Vf w s (cf_tell (cf_pstart (upd f 4 (nI x)) x (f (39 + (8 * tN (f 4)) + 4))) 0 (nI x)) = mf_begins (Vf w s f) x (f (39 + (8 * tN (f 4)) + 4)) true := E_begins1 (by omega) hS.ne
          have hB0 : Vf (fun _ _ => 0) 0 (cf_tell (cf_pstart (upd f 4 (nI x)) x (f (39 + (8 * tN (f 4)) + 4))) 0 (nI x)) = mf_begins (Vf (fun _ _ => 0) 0 f) x (f (39 + (8 * tN (f 4)) + 4)) true := E_begins1 (by omega) hS.ne
          have ho : ∀ p, p < 134 ∨ (170 ≤ p ∧ p ≠ 177) → p ≠ 19 → p ≠ 4 → p ≠ 39 + (8 * x) + 4 → p ≠ 39 + (8 * x) + 6 → p ≠ 39 + (8 * x) + 7 → cf_tell (cf_pstart (upd f 4 (nI x)) x (f (39 + (8 * tN (f 4)) + 4))) 0 (nI x) p = f p := fun p h1 h2 h3 h5 h6 h7 => by
            rw [tell_o he1 _ _ h1 h2, pstart_o h5 h6 h7, pk_un h3]
          have h4x : cf_tell (cf_pstart (upd f 4 (nI x)) x (f (39 + (8 * tN (f 4)) + 4))) 0 (nI x) 4 = nI x := by rw [tell_o he1 _ _ (by omega) (by omega), pstart_o (by omega) (by omega) (by omega), pk_us]
          have hS1 : SI T np nz ng (cf_tell (cf_pstart (upd f 4 (nI x)) x (f (39 + (8 * tN (f 4)) + 4))) 0 (nI x)) := by
            refine hS.of (IPg hS.ip hB0 (IP_begins hx ((show pmR T 4 (f (39 + (8 * tN (f 4)) + 4)) from ?_).2.2.2.2 rfl) (IP_Vf hS.ip))) (fun j _ => ho _ (by omega) (by omega) (by omega) (by omega) (by omega) (by omega)) (ho _ (by omega) (by omega) (by omega) (by omega) (by omega) (by omega)) (Or.inr ?_)
            · have := hS.ip.pump h4 (w := 4) (by decide)
              rw [Rf_at (by omega)] at this
              exact this
            · rw [h4x, tN_nI (by omega)]
              refine ⟨runs_iff.mpr ?_, ?_⟩
              · rw [tell_o he1 _ _ (by omega) (by omega), pstart_4]
                exact hrun
              · rw [isVar_cong (f := f) (ho _ (by omega) (by omega) (by omega) (by omega) (by omega) (by omega))]
                exact hfr.2.2
          have hS2 := SI_tell (kind := 7) (k := nI x) hS1
          exact ⟨by rw [(E_cstop h4 hn hS2.cp hS2.ne).1, E_tell hS1.ne, hB], SI_stop h4 hS2⟩
      · rw [if_neg c3, if_neg c3]
        exact ⟨rfl, hS⟩
end QB

