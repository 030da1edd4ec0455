set_option maxRecDepth 100000
set_option maxRecDepth 100000
/-! QC: control -/
section QC
variable {w : Nat → Nat → Int32} {s : Int32} {f g : Nat → Int32} {T np nz ng : Nat}
/-- the reference's control of a minute -/
def ctlW (v : Nat → Nat → Int32) : Nat → Nat → Int32 := if mf_running v = 0 then (if mf_setting v 0 - mf_setting v 9 ≤ v 1 1 then v else if mf_ready v 0 = -1 then v else mf_event (mf_start v (tN (mf_ready v 0))) 3 (-1)) else v
theorem min_97 (v a b d e g h : Nat → Nat → Int32) : mf_minute_97 v a b d e g h = mf_rotate (mf_cascade (mf_countAll h)) := by
  rw [mf_minute_97, mf_minute_c98, mf_minute_c102, mf_minute_c106]
theorem min_c42 (v a b d e u : Nat → Nat → Int32) : mf_minute_c42 v a b d e u = mf_rotate (mf_cascade (mf_countAll (ctlW u))) := by
  rw [mf_minute_c42, ctlW]
  by_cases c1 : mf_running u = 0
  · rw [if_pos c1, if_pos c1]
    by_cases c2 : mf_setting u 0 - mf_setting u 9 ≤ u 1 1
    · rw [if_pos c2, if_pos c2, min_97]
    · rw [if_neg c2, if_neg c2]
      by_cases c3 : mf_ready u 0 = -1
      · rw [if_pos c3, if_pos c3, min_97]
      · rw [if_neg c3, if_neg c3, mf_minute_c88, mf_minute_c94, min_97]
  · rw [if_neg c1, if_neg c1, min_97]
theorem con_92 (a b d e : Nat → Int32) : cf_control_92 a b d e = cf_crotate (cf_cstage e) := by
  rw [cf_control_92, cf_control_c93, cf_control_c97]
theorem con_74 (a b d : Nat → Int32) : cf_control_74 a b d = if cf_running d = 0 then cf_crotate (cf_cstage (cf_forget d)) else cf_crotate (cf_cstage (cf_watch d)) := by
  rw [cf_control_74, cf_control_c82, cf_control_c89, con_92, con_92]
theorem E_con74 (hS : SI T np nz ng f) {a b : Nat → Int32} : Vf w s (cf_control_74 a b f) = mf_rotate (mf_cascade (mf_countAll (Vf w s f))) ∧ SI T np nz ng (cf_control_74 a b f) := by
  by_cases c : cf_running f = 0
  · have e : cf_control_74 a b f = cf_crotate (cf_cstage (cf_forget f)) := by rw [con_74, if_pos c]
    have h1 := SI_forget hS
    obtain ⟨e2, h2⟩ := E_stage (w := w) (s := s) h1 (st6_forget hS.ip)
    obtain ⟨e3, h3⟩ := E_rotate (w := w) (s := s) h2
    have e4 := E_watch0 (w := w) (s := s) hS.ip c
    rw [e, e3, e2, e4]
    exact ⟨rfl, h3⟩
  · have e : cf_control_74 a b f = cf_crotate (cf_cstage (cf_watch f)) := by rw [con_74, if_neg c]
    have h1 := SI_watch hS c
    obtain ⟨e2, h2⟩ := E_stage (w := w) (s := s) h1 (st6_watch hS.ip c)
    obtain ⟨e3, h3⟩ := E_rotate (w := w) (s := s) h2
    have e4 := E_watch (w := w) (s := s) hS.ip c
    rw [e, e3, e2, e4]
    exact ⟨rfl, h3⟩
theorem E_con26 (hS : SI T np nz ng f) {a : Nat → Int32} : Vf w s (cf_control_26 a f) = mf_rotate (mf_cascade (mf_countAll (ctlW (Vf w s f)))) ∧ SI T np nz ng (cf_control_26 a f) := by
  have hn := hS.n6
  have hI := hS.ip
  have er : mf_running (Vf w s f) = cf_running f := (E_running (by have := hS.cp; omega)).symm
  have v1 : Vf w s f 1 1 = f 1 := Vf_at (by decide)
  have s0 : mf_setting (Vf w s f) 0 = f 20 := E_set (by decide)
  have s9 : mf_setting (Vf w s f) 9 = f 29 := E_set (by decide)
  obtain ⟨p, p1, p2⟩ := hI.press
  obtain ⟨b, _, b1, b2⟩ := hI.set (k := 0) (by decide)
  obtain ⟨d, _, d1, d2⟩ := hI.set (k := 9) (by decide)
  have f1 : f 1 = nI p := p2
  have f20 : f 20 = nI b := b2
  have f29 : f 29 = nI d := d2
  have b1' : b ≤ 900 := b1
  have d1' : d ≤ 300 := d1
  have hc : (-(f 29) ≤ f 1 - f 20) ↔ (f 20 - f 29 ≤ f 1) := by rw [f1, f20, f29]; exact cond_lo (by omega) (by omega) (by omega)
  obtain ⟨r1, r2⟩ := ready_fst (w := w) (s := s) hn hS.cp hS.runs hS.q
  have same : cf_control_26 a f = cf_control_74 a f f → ctlW (Vf w s f) = Vf w s f → Vf w s (cf_control_26 a f) = mf_rotate (mf_cascade (mf_countAll (ctlW (Vf w s f)))) ∧ SI T np nz ng (cf_control_26 a f) := fun e e2 => by
    rw [e, e2]
    exact E_con74 hS
  by_cases c1 : cf_running f = 0
  · by_cases c2 : -(f 29) ≤ f 1 - f 20
    · exact same (by rw [cf_control_26, if_pos c1, cf_off, if_pos c2]) (by rw [ctlW, er, if_pos c1, s0, s9, v1, if_pos (hc.mp c2)])
    · by_cases c3 : cf_hasReady f = true
      · have hk := hS.pk c3
        have h1 := SI_ready hS
        have h2 := SI_start hk h1
        have h3 : SI T np nz ng (cf_tell1 (cf_cstart (cf_ready f) (tN (cf_ready f (180 + 0)))) 3) := SI_tell1 h2
        have e : cf_control_26 a f = cf_control_74 a f (cf_tell1 (cf_cstart (cf_ready f) (tN (cf_ready f (180 + 0)))) 3) := by
          rw [cf_control_26, if_pos c1, cf_off, if_neg c2, if_pos c3, cf_control_c57, cf_control_c66, cf_control_c71]
        have e2 : ctlW (Vf w s f) = mf_event (mf_start (Vf w s f) (tN (cf_ready f (180 + 0)))) 3 (-1) := by
          rw [ctlW, er, if_pos c1, s0, s9, v1, if_neg (fun h => c2 (hc.mpr h)), r1 c3, if_neg (fun e => nI_pos (n := tN (cf_ready f (180 + 0))) (by omega) (by rw [e]; decide)), tN_nI (by omega)]
        obtain ⟨e3, h4⟩ := E_con74 (w := w) (s := s) (a := a) (b := f) h3
        have e4 := E_tell1 (w := w) (s := s) h2.ne 3
        have e5 := E_cstart (w := w) (s := s) hk h1.ip
        have e6 := E_ready (w := w) (s := s) hn hS.cp hS.runs hS.q
        rw [e, e2, e3, e4, e5, e6]
        exact ⟨rfl, h4⟩
      · exact same (by rw [cf_control_26, if_pos c1, cf_off, if_neg c2, if_neg c3]) (by rw [ctlW, er, if_pos c1, s0, s9, v1, if_neg (fun h => c2 (hc.mpr h)), r2 c3, if_pos rfl])
  · exact same (by rw [cf_control_26, if_neg c1]) (by rw [ctlW, er, if_neg c1])
theorem E_control (hS : SI T np nz ng f) : Vf w s (cf_control f) = mf_rotate (mf_cascade (mf_countAll (ctlW (mf_regulate (Vf w s f))))) ∧ SI T np nz ng (cf_control f) := by
  have v4 : Vf w s f 1 4 = f 4 := Vf_at (by decide)
  by_cases c : f 4 = -1
  · have e : cf_control f = cf_control_26 f f := by rw [cf_control, if_pos c]
    have e2 : mf_regulate (Vf w s f) = Vf w s f := regu_0 (by rw [v4]; exact c)
    rw [e, e2]
    exact E_con26 hS
  · have e : cf_control f = cf_control_26 f (cf_cregulate f (tN (f 4))) := by rw [cf_control, if_neg c, cf_control_c23]
    have e2 := (E_regulate (w := w) (s := s) hS.ip c).1
    have h1 := SI_regulate hS c
    rw [e, ← e2]
    exact E_con26 h1
end QC

