set_option maxRecDepth 100000
set_option maxRecDepth 100000
/-! Q5: what holds of a station beyond the reference's ranges, kept by each step -/
section Q5
variable {w : Nat → Nat → Int32} {s : Int32} {f g : Nat → Int32} {T np nz ng : Nat}
def VR (f : Nat → Int32) : Prop := f 4 = -1 ∨ (cf_runs f (tN (f 4)) = true ∧ isVar f (tN (f 4)) = true)
def runT (T np : Nat) (f : Nat → Int32) : Prop := ∀ k, k < np → rg (f (39 + (8 * k) + 5)) T
def SI (T np nz ng : Nat) (f : Nat → Int32) : Prop := IP T np nz ng (Rf f) ∧ runT T np f ∧ rg (f 176) 6 ∧ VR f
theorem SI.ip (h : SI T np nz ng f) : IP T np nz ng (Rf f) := h.1
theorem SI.var (h : SI T np nz ng f) : isP np (f 4) := h.1.var
theorem SI.ne (h : SI T np nz ng f) : rg (f 19) 12 := h.1.ne
theorem SI.q (h : SI T np nz ng f) : rg (f 176) 6 := h.2.2.1
theorem SI.vr (h : SI T np nz ng f) : VR f := h.2.2.2
theorem SI.n6 (h : SI T np nz ng f) : np ≤ 6 := h.1.n6
theorem SI.runs (h : SI T np nz ng f) : runOk np f := fun k hk => (by obtain ⟨j, a, b⟩ := h.2.1 k hk; have : T ≤ 1000000 := h.1.1.1; exact ⟨j, by omega, b⟩)
theorem SI.cp (h : SI T np nz ng f) : nC f 14 = np := nC_of (show f 14 = nI np from h.1.enp) (by have := h.n6; omega)
theorem SI.of (hS : SI T np nz ng f) (hI : IP T np nz ng (Rf g)) (hr : ∀ k, k < np → g (39 + (8 * k) + 5) = f (39 + (8 * k) + 5)) (hq : g 176 = f 176) (hv : VR g) : SI T np nz ng g :=
  ⟨hI, fun k hk => by rw [hr k hk]; exact hS.2.1 k hk, by rw [hq]; exact hS.q, hv⟩
theorem IPg (hI : IP T np nz ng (Rf f)) {v : Nat → Nat → Int32} (e : Vf (fun _ _ => 0) 0 g = v) (h : IP T np nz ng (v 1)) : IP T np nz ng (Rf g) := IP_Rf (w := fun _ _ => 0) (s := 0) (by rw [e]; exact h)
theorem tell_o (he : rg (f 19) 12) (kind k : Int32) {p : Nat} (hp : p < 134 ∨ (170 ≤ p ∧ p ≠ 177)) (h : p ≠ 19) : cf_tell f kind k p = f p := by
  obtain ⟨ne, hn, he⟩ := he
  rw [tell_at he hn, if_neg (by omega), if_neg (by omega), if_neg (by omega), if_neg (by omega), if_neg h, if_neg (by omega)]
theorem pstart_o {k p : Nat} {x : Int32} (h4 : p ≠ 39 + (8 * k) + 4) (h6 : p ≠ 39 + (8 * k) + 6) (h7 : p ≠ 39 + (8 * k) + 7) : cf_pstart f k x p = f p := by rw [cf_pstart, pk_un h7, pk_un h6, pk_un h4]
theorem pstart_4 {k : Nat} {x : Int32} : cf_pstart f k x (39 + (8 * k) + 4) = x := by rw [cf_pstart, pk_un (by omega), pk_un (by omega), pk_us]
theorem isVar_cong {k : Nat} (h : g (39 + (8 * k)) = f (39 + (8 * k))) : isVar g k = isVar f k := by
  unfold isVar
  rw [h]
theorem runs_iff {k : Nat} : cf_runs f k = true ↔ ¬ f (39 + (8 * k) + 4) ≤ 0 := by
  rw [cf_runs]
  by_cases c : f (39 + (8 * k) + 4) ≤ 0
  · rw [if_pos c, cf_runs_12]; simp [c]
  · rw [if_neg c, cf_runs_12]; simp [c]
theorem VR.cong (h : VR f) (h4 : g 4 = f 4) (hr : ¬ f 4 = -1 → g (39 + (8 * tN (f 4)) + 4) = f (39 + (8 * tN (f 4)) + 4)) (hk : ¬ f 4 = -1 → g (39 + (8 * tN (f 4))) = f (39 + (8 * tN (f 4)))) : VR g := by
  rcases h with h | ⟨h1, h2⟩
  · exact Or.inl (h4.trans h)
  · by_cases c : f 4 = -1
    · exact Or.inl (h4.trans c)
    · refine Or.inr ?_
      rw [h4, runs_cong (hr c), isVar_cong (hk c)]
      exact ⟨h1, h2⟩
theorem slow_pos (hI : IP T np nz ng (Rf f)) : ¬ f 24 ≤ 0 := by
  obtain ⟨j, h1, h2, h3⟩ := hI.set (k := 4) (by decide)
  rw [show f 24 = nI j from h3]
  have h1' : 300 ≤ j := h1
  have h2' : j ≤ 900 := h2
  exact fun h => absurd ((nI_leI (a := j) (b := 0) (by omega) (by decide)).mp h) (by omega)
theorem cstart_o {k p : Nat} (hI : IP T np nz ng (Rf f)) (h4 : p ≠ 4) (h19 : p ≠ 19) (hp : p < 134 ∨ (170 ≤ p ∧ p ≠ 177)) (hk : ∀ j, p ≠ 39 + (8 * j) + 4 ∧ p ≠ 39 + (8 * j) + 6 ∧ p ≠ 39 + (8 * j) + 7) : cf_cstart f k p = f p := by
  have he : rg (f 19) 12 := hI.ne
  by_cases c : f (39 + (8 * k)) = 0
  · rw [cstart_0 c, tell_o (pstart_19 he) _ _ hp h19, pstart_o (hk k).1 (hk k).2.1 (hk k).2.2]
  · by_cases d : f 4 = -1
    · rw [cstart_1 c d, tell_o (pstart_19 (by rw [pk_un (by decide)]; exact he)) _ _ hp h19, pstart_o (hk k).1 (hk k).2.1 (hk k).2.2, pk_un h4]
    · obtain ⟨e5, h5⟩ := isP_n (show isP np (f 4) from hI.var) d hI.n6
      rw [cstart_2 c d (by have := hI.n6; omega), tell_o (pstart_19 (by rw [pk_un (by decide), pk_un (by have := hI.n6; omega)]; exact he)) _ _ hp h19, pstart_o (hk k).1 (hk k).2.1 (hk k).2.2, pk_un h4, pk_un (hk _).1]
theorem VR_start {k : Nat} (hk : k < np) (hS : SI T np nz ng f) : VR (cf_cstart f k) := by
  have hI := hS.ip
  have he := hS.ne
  have hn := hS.n6
  by_cases c : f (39 + (8 * k)) = 0
  · rw [cstart_0 c]
    have hj : ¬ f 4 = -1 → tN (f 4) < np ∧ tN (f 4) ≠ k := fun d => by
      obtain ⟨e5, h5⟩ := isP_n hS.var d hn
      refine ⟨h5, fun e => ?_⟩
      rcases hS.vr with h | ⟨_, h⟩
      · exact d h
      · rw [e] at h
        exact isVar_iff.mp h c
    refine hS.vr.cong ?_ (fun d => ?_) (fun d => ?_)
    · rw [tell_o (pstart_19 he) _ _ (by omega) (by omega), pstart_o (by omega) (by omega) (by omega)]
    · have := hj d
      rw [tell_o (pstart_19 he) _ _ (by omega) (by omega), pstart_o (by omega) (by omega) (by omega)]
    · have := hj d
      rw [tell_o (pstart_19 he) _ _ (by omega) (by omega), pstart_o (by omega) (by omega) (by omega)]
  · have key : ∀ h : Nat → Int32, rg (h 19) 12 → h (39 + (8 * k)) = f (39 + (8 * k)) → h 4 = nI k → VR (cf_tell (cf_pstart h k (f 24)) 0 (nI k)) := fun h h1 h2 h3 => by
      have e4 : cf_tell (cf_pstart h k (f 24)) 0 (nI k) 4 = nI k := by rw [tell_o (pstart_19 h1) _ _ (by omega) (by omega), pstart_o (by omega) (by omega) (by omega)]; exact h3
      refine Or.inr ?_
      rw [e4, tN_nI (by omega)]
      constructor
      · refine runs_iff.mpr ?_
        rw [tell_o (pstart_19 h1) _ _ (by omega) (by omega), pstart_4]
        exact slow_pos hI
      · refine isVar_iff.mpr ?_
        rw [tell_o (pstart_19 h1) _ _ (by omega) (by omega), pstart_o (by omega) (by omega) (by omega), h2]
        exact c
    by_cases d : f 4 = -1
    · rw [cstart_1 c d]
      exact key _ (by rw [pk_un (by decide)]; exact he) (pk_un (by omega)) pk_us
    · obtain ⟨e5, h5⟩ := isP_n hS.var d hn
      rw [cstart_2 c d (by omega)]
      exact key _ (by rw [pk_un (by decide), pk_un (by omega)]; exact he) (by rw [pk_un (by omega), pk_un (by omega)]) pk_us
theorem SI_start {k : Nat} (hk : k < np) (hS : SI T np nz ng f) : SI T np nz ng (cf_cstart f k) :=
  hS.of (IPg hS.ip (E_cstart hk hS.ip) (IP_start hk (IP_Vf hS.ip))) (fun j _ => cstart_o hS.ip (by omega) (by have := hS.n6; omega) (by have := hS.n6; omega) (fun i => by omega)) (cstart_o hS.ip (by decide) (by decide) (by omega) (fun i => by omega)) (VR_start hk hS)
theorem cstop_19 {k : Nat} (hk : k < np) (hn : np ≤ 6) (hp : nC f 14 = np) (he : rg (f 19) 12) : rg (cf_cstop f k 19) 12 := by
  obtain ⟨_, x, e, _⟩ := E_cstop (w := fun _ _ => 0) (s := 0) hk hn hp he
  rw [e, pk_un (by decide)]
  exact tell_rg (pstop_19 he) _ _
theorem cstop_o {k p : Nat} (hk : k < np) (hn : np ≤ 6) (hpp : nC f 14 = np) (he : rg (f 19) 12) (h4 : p ≠ 4) (h19 : p ≠ 19) (hp : p < 134 ∨ (170 ≤ p ∧ p ≠ 177)) (h1 : p ≠ 39 + (8 * k) + 4) (h2 : p ≠ 39 + (8 * k) + 6) : cf_cstop f k p = f p := by
  obtain ⟨_, x, e, _⟩ := E_cstop (w := fun _ _ => 0) (s := 0) hk hn hpp he
  rw [e, pk_un h4, tell_o (pstop_19 he) _ _ hp h19, pstop_fr h1 h2]
theorem VR_stop {k : Nat} (hk : k < np) (hS : SI T np nz ng f) : VR (cf_cstop f k) := by
  have he := hS.ne
  have hn := hS.n6
  obtain ⟨_, x, e, hx⟩ := E_cstop (w := fun _ _ => 0) (s := 0) hk hn hS.cp he
  have e4 : cf_cstop f k 4 = x := by rw [e, pk_us]
  have eo : ∀ p, p < 134 → p ≠ 4 → p ≠ 19 → cf_cstop f k p = cf_pstop f k p := fun p h1 h2 h3 => by rw [e, pk_un h2, tell_o (pstop_19 he) _ _ (by omega) h3]
  by_cases c : f 4 = nI k
  · rw [if_pos c] at hx
    obtain ⟨o, h1, h2, h3⟩ := hx
    cases o with
    | none => exact Or.inl (e4.trans h3)
    | some j =>
      have hj := h1 j rfl
      have hr := h2 j rfl
      refine Or.inr ?_
      rw [e4, h3, show oI (some j) = nI j from rfl, tN_nI (by omega), runs_cong (f := cf_pstop f k) (eo _ (by omega) (by omega) (by omega)), isVar_cong (f := cf_pstop f k) (eo _ (by omega) (by omega) (by omega))]
      exact hr
  · rw [if_neg c] at hx
    refine hS.vr.cong (e4.trans hx) (fun d => ?_) (fun d => ?_)
    · obtain ⟨e5, h5⟩ := isP_n hS.var d hn
      have : tN (f 4) ≠ k := fun q => c (by rw [e5, q])
      rw [eo _ (by omega) (by omega) (by omega), pstop_fr (by omega) (by omega)]
    · obtain ⟨e5, h5⟩ := isP_n hS.var d hn
      rw [eo _ (by omega) (by omega) (by omega), pstop_fr (by omega) (by omega)]
theorem SI_stop {k : Nat} (hk : k < np) (hS : SI T np nz ng f) : SI T np nz ng (cf_cstop f k) :=
  hS.of (IPg hS.ip (E_cstop hk hS.n6 hS.cp hS.ne).1 (IP_stop (by have := hS.n6; omega) (IP_Vf hS.ip))) (fun j _ => cstop_o hk hS.n6 hS.cp hS.ne (by omega) (by have := hS.n6; omega) (by have := hS.n6; omega) (by omega) (by omega)) (cstop_o hk hS.n6 hS.cp hS.ne (by decide) (by decide) (by omega) (by have := hS.n6; omega) (by have := hS.n6; omega)) (VR_stop hk hS)
theorem SI_tell {kind k : Int32} (hS : SI T np nz ng f) : SI T np nz ng (cf_tell f kind k) := by
  have hn := hS.n6
  refine hS.of (IPg hS.ip (E_tell hS.ne kind k) (IP_event (IP_Vf hS.ip))) (fun j _ => tell_o hS.ne _ _ (by omega) (by omega)) (tell_o hS.ne _ _ (by omega) (by omega)) (hS.vr.cong (tell_o hS.ne _ _ (by omega) (by omega)) (fun d => ?_) (fun d => ?_))
  · obtain ⟨e5, h5⟩ := isP_n hS.var d hn
    exact tell_o hS.ne _ _ (by omega) (by omega)
  · obtain ⟨e5, h5⟩ := isP_n hS.var d hn
    exact tell_o hS.ne _ _ (by omega) (by omega)
theorem SI_ready (hS : SI T np nz ng f) : SI T np nz ng (cf_ready f) := by
  obtain ⟨m, h1, h2⟩ := ready_H hS.n6 hS.cp hS.runs hS.q
  have hn := hS.n6
  have fr : ∀ q, q < 171 → cf_ready f q = f q := fun q hq => (h2 q (by omega)).trans (by unfold fR; exact pk_un (by omega))
  have hv := hS.vr.cong (g := cf_ready f) (fr 4 (by omega)) (fun d => fr _ (by obtain ⟨e5, h5⟩ := isP_n hS.var d hn; omega)) (fun d => fr _ (by obtain ⟨e5, h5⟩ := isP_n hS.var d hn; omega))
  refine ⟨IPg hS.ip (E_ready hS.n6 hS.cp hS.runs hS.q) (IP_Vf hS.ip), fun k hk => ?_, ?_, hv⟩
  · rw [fr _ (by omega)]
    exact hS.2.1 k hk
  · exact ⟨m, h1.2.1, h1.1⟩
theorem SI_forget (hS : SI T np nz ng f) : SI T np nz ng (cf_forget f) := by
  have hn := hS.n6
  have fr : ∀ q, q ≠ 10 → q ≠ 11 → q ≠ 12 → cf_forget f q = f q := fun q h1 h2 h3 => by rw [cf_forget, pk_un h3, pk_un h2, pk_un h1]
  exact hS.of (IPg hS.ip E_forget (IP_beginAnew (IP_Vf hS.ip))) (fun j _ => fr _ (by omega) (by omega) (by omega)) (fr _ (by omega) (by omega) (by omega)) (hS.vr.cong (fr _ (by omega) (by omega) (by omega)) (fun d => fr _ (by omega) (by omega) (by omega)) (fun d => fr _ (by omega) (by omega) (by omega)))
/-- where one is ready the queue's first is a pump -/
theorem SI.pk (hS : SI T np nz ng f) (h : cf_hasReady f = true) : tN (cf_ready f (180 + 0)) < np := q_lt (ready_pk hS.n6 hS.cp hS.runs hS.q h) hS.n6
end Q5

