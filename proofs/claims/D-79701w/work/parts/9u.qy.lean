set_option maxRecDepth 100000
/-! QY: a minute keeps the settings; the minute as a contract -/
section QY
variable {f g h : Nat → Int32} {T np nz ng nn : Nat}
def kS (f g : Nat → Int32) : Prop := ∀ p, 20 ≤ p → p < 39 → g p = f p
theorem kS.r : kS f f := fun _ _ _ => rfl
theorem kS.t (a : kS f g) (b : kS g h) : kS f h := fun p p1 p2 => (b p p1 p2).trans (a p p1 p2)
theorem kS_tell (he : rg (f 19) 12) {kind k : Int32} : kS f (cf_tell f kind k) := fun p p1 p2 => tell_o he kind k (by omega) (by omega)
theorem kS_tell1 (he : rg (f 19) 12) {k : Int32} : kS f (cf_tell1 f k) := by
  rw [tell1_eq]
  exact kS_tell he
theorem kS_start (hS : SI T np nz ng f) {k : Nat} : kS f (cf_cstart f k) := fun p p1 p2 => cstart_o hS.ip (by omega) (by omega) (by omega) (fun j => by omega)
theorem kS_stopR (hn : np ≤ 6) (hp : nC f 14 = np) (he : rg (f 19) 12) {k : Nat} (hk : k < np) : kS f (cf_cstop f k) := fun p p1 p2 => cstop_o hk hn hp he (by omega) (by omega) (by omega) (by omega) (by omega)
theorem kS_stop (hS : SI T np nz ng f) {k : Nat} (hk : k < np) : kS f (cf_cstop f k) := kS_stopR hS.n6 hS.cp hS.ne hk
theorem kS_forget : kS f (cf_forget f) := fun p p1 p2 => by rw [cf_forget, pk_un (by omega), pk_un (by omega), pk_un (by omega)]
theorem kS_ready (hS : SI T np nz ng f) : kS f (cf_ready f) := by
  obtain ⟨m, h1, h2⟩ := ready_H hS.n6 hS.cp hS.runs hS.q
  exact fun p p1 p2 => (h2 p (by omega)).trans (by unfold fR; exact pk_un (by omega))
theorem kS_watch (hS : SI T np nz ng f) : kS f (cf_watch f) := fun p p1 p2 => by rw [watch_cup hS.ip, cup_o (by omega) (by omega) (by omega)]
theorem kS_78 (hS : SI T np nz ng f) (h6 : st6 f) : kS f (cf_cstage_78 f) := by
  rw [cst_78]
  by_cases c : cf_isDue f 2 8 = true
  · rw [if_pos c]
    obtain ⟨e4, h4⟩ := isP_n hS.var (h6.2 c) hS.n6
    have h1 := SI_stop h4 hS
    exact ((kS_stop hS h4).t (kS_tell1 h1.ne)).t kS_forget
  · rw [if_neg c]; exact kS.r
theorem kS_37 (hS : SI T np nz ng f) (h6 : st6 f) : kS f (cf_cstage_37 f) := by
  obtain ⟨l1, l2⟩ := E_longest (w := fun _ _ => 0) (s := 0) (f := f) hS.n6 hS.cp
  rw [cf_cstage_37]
  by_cases c : cf_isDue f 1 6 = true
  · rw [if_pos c]
    have hm := most_iff hS (h6.1 c)
    have go : ¬ cf_mostRun f = none → kS f (cf_cstage_63 f) := fun d => by rw [cst_63]; exact (kS_stop hS (okP_getD l2 d)).t kS_forget
    by_cases c1 : (1 : Int32) < cf_running f
    · rw [if_pos c1]; exact go (hm.mp (Or.inl c1))
    · rw [if_neg c1]
      by_cases c2 : f 4 = -1
      · rw [if_pos c2]; exact go (hm.mp (Or.inr c2))
      · rw [if_neg c2]; exact kS_78 hS h6
  · rw [if_neg c]; exact kS_78 hS h6
theorem kS_stage (hS : SI T np nz ng f) (h6 : st6 f) : kS f (cf_cstage f) := by
  rw [cf_cstage]
  by_cases c : cf_isDue f 0 5 = true
  · rw [if_pos c]
    by_cases d : cf_hasReady f = true
    · rw [if_pos d, cst_18]
      exact ((kS_ready hS).t (kS_start (SI_ready hS))).t kS_forget
    · rw [if_neg d]; exact kS_37 hS h6
  · rw [if_neg c]; exact kS_37 hS h6
theorem kS_rotate (hS : SI T np nz ng f) : kS f (cf_crotate f) := by
  have hn := hS.n6
  rw [cf_crotate]
  by_cases c1 : f 38 = 0
  · rw [if_pos c1]; exact kS.r
  · rw [if_neg c1]
    by_cases c2 : f 4 = -1
    · rw [if_pos c2]; exact kS.r
    · obtain ⟨e4, h4⟩ := isP_n hS.var c2 hn
      rw [if_neg c2]
      by_cases c3 : f 38 ≤ f (39 + (8 * tN (f 4)) + 6)
      · rw [if_pos c3]
        by_cases c4 : cf_fresh f (tN (f 4)) = none
        · rw [if_pos c4]; exact kS.r
        · rw [if_neg c4, crot_76]
          obtain ⟨k1, k2⟩ := E_fresh_4 (w := fun _ _ => 0) (s := 0) (f := f) hn hS.cp rfl (show tN (f 4) < 6 by omega) 7 none 0 okP_none (by omega) (by omega)
          have hx : (cf_fresh f (tN (f 4))).getD 0 < np := okP_getD (show okP np (cf_fresh f (tN (f 4))) from k1) c4
          generalize (cf_fresh f (tN (f 4))).getD 0 = x at hx ⊢
          have e1 : rg (upd (cf_pstart f x (f (39 + (8 * tN (f 4)) + 4))) 4 (nI x) 19) 12 := by rw [pk_un (by decide)]; exact pstart_19 hS.ne
          have e2 := tell_rg e1 0 (nI x)
          have e3 := tell_rg e2 7 (nI x)
          have k0 : kS f (upd (cf_pstart f x (f (39 + (8 * tN (f 4)) + 4))) 4 (nI x)) := fun p p1 p2 => by rw [pk_un (by omega), pstart_o (by omega) (by omega) (by omega)]
          refine ((k0.t (kS_tell e1)).t (kS_tell e2)).t (kS_stopR hn ?_ e3 h4)
          rw [← hS.cp]
          unfold nC
          rw [tell_o e2 _ _ (by omega) (by omega), tell_o e1 _ _ (by omega) (by omega), pk_un (by decide), pstart_o (by omega) (by omega) (by omega)]
      · rw [if_neg c3]; exact kS.r
theorem kS_74 (hS : SI T np nz ng f) {a b : Nat → Int32} : kS f (cf_control_74 a b f) := by
  by_cases c : cf_running f = 0
  · rw [con_74, if_pos c]
    have h1 := SI_forget hS
    have h2 := (E_stage (w := fun _ _ => 0) (s := 0) h1 (st6_forget hS.ip)).2
    exact (kS_forget.t (kS_stage h1 (st6_forget hS.ip))).t (kS_rotate h2)
  · rw [con_74, if_neg c]
    have h1 := SI_watch hS c
    have h2 := (E_stage (w := fun _ _ => 0) (s := 0) h1 (st6_watch hS.ip c)).2
    exact ((kS_watch hS).t (kS_stage h1 (st6_watch hS.ip c))).t (kS_rotate h2)
theorem kS_26 (hS : SI T np nz ng f) {a : Nat → Int32} : kS f (cf_control_26 a f) := by
  rw [cf_control_26]
  by_cases c1 : cf_running f = 0
  · rw [if_pos c1]
    by_cases c2 : -(f 29) ≤ cf_off f
    · rw [if_pos c2]; exact kS_74 hS
    · rw [if_neg c2]
      by_cases c3 : cf_hasReady f = true
      · have hk := hS.pk c3
        have h1 := SI_ready hS
        have h2 := SI_start hk h1
        have h3 : SI T np nz ng (cf_tell1 (cf_cstart (cf_ready f) (tN (cf_ready f (180 + 0)))) 3) := SI_tell1 h2
        rw [if_pos c3, cf_control_c57, cf_control_c66, cf_control_c71]
        exact (((kS_ready hS).t (kS_start h1)).t (kS_tell1 h2.ne)).t (kS_74 h3)
      · rw [if_neg c3]; exact kS_74 hS
  · rw [if_neg c1]; exact kS_74 hS
theorem kS_go6 (hS : SI T np nz ng f) : kS f (cf_go6 f) := by
  rw [cf_go6]
  by_cases c5 : f 5 = 0
  · rw [if_pos c5, cf_go6_c15, cf_go6_18, cf_control]
    by_cases c : f 4 = -1
    · rw [if_pos c]; exact kS_26 hS
    · obtain ⟨e4, h4⟩ := isP_n hS.var c hS.n6
      rw [if_neg c, cf_control_c23]
      refine kS.t (fun p p1 p2 => ?_) (kS_26 (SI_regulate hS c))
      rw [cf_cregulate, pk_un (by omega)]
  · rw [if_neg c5, cf_go6_c8, cf_go6_18]; exact kS_forget
theorem kS_go5 (hS : SI T np nz ng f) : kS f (cf_go5 f) := by
  have he7 : ∀ y, rg (upd f 7 y 19) 12 := fun y => by rw [pk_un (by decide)]; exact hS.ne
  obtain ⟨y, e | e⟩ := go5_cases f
  · exact fun p p1 p2 => by rw [e, go5_53_o _ _ (he7 y) (by omega) (by omega) (by omega), pk_un (by omega)]
  · have hc : nC (upd f 7 y) 14 = np := (congrArg tN (pk_un (by decide))).trans hS.cp
    exact fun p p1 p2 => by
      rw [e, go5_53_o _ _ (trip_19 (he7 y)) (by omega) (by omega) (by omega)]
      unfold cf_trip
      rw [trip_2_o (upd f 7 y) hS.n6 (by omega) (by omega) (by omega) (by omega) (by omega) (fun k _ => by omega) 7 0 _ hc (he7 y), pk_un (by omega)]
/-- whether a night ends at the minute's end -/
def ntA (f : Nat → Int32) (T : Nat) : Prop := ((T + 1) % 1440 + 1440 - tN (f 35)) % 1440 + 1 = tN (f 36)
/-- told nothing -/
def z7 (f : Nat → Int32) : Nat → Int32 := upd f 177 0
theorem Vf_z7 {w : Nat → Nat → Int32} {s : Int32} {f : Nat → Int32} : Vf w (s ||| f 177) (z7 f) = Vf w s f := Vf_new
/-- a minute: what a station is after it -/
def MinR (np nz ng T : Nat) (f g : Nat → Int32) : Prop := SI (T + 1) np nz ng g ∧ kS f g ∧ ∀ (w : Nat → Nat → Int32) (s : Int32), Vf w s g = mf_minute (Vf w s (z7 f))
set_option maxHeartbeats 4000000 in
theorem ct_minute (l : Launch) (G : mg) (A : Nat → Prop) (ad : Nat → Nat) (np ng : Nat) (M0 : mh) (f : Nat → Int32) (T nz mc ms : Nat) (hS : SI T np nz ng f) (hT : T < 1000000) (hcost : ntA f T → mc = 66 ∧ ms = 171) : Met l yX1_goMinute (ws_ yX1_goMinute cX1_goMinute 2 (none)) ({ frames := 11, cells := mc, slots := ms, locals := 240 }) (va_Pc [.ref (ad 0)] (mU G A (fun M => Sta G ad np ng M0 M f))) (mQv G A (fun M => ∃ g, Sta G ad np ng M0 M g ∧ MinR np nz ng T f g)) mc ms A := by
  obtain ⟨nn, hn7, h18⟩ := hS.ip.nn
  rw [Rf_at (by decide)] at h18
  obtain ⟨h0, h1, h3, e18, es, hg⟩ := minute_all hS hT h18 hn7
  have e35 := hS.ip.set (k := 15) (by decide)
  have e36 := hS.ip.set (k := 16) (by decide)
  rw [Rf_at (by decide)] at e35 e36
  obtain ⟨a, a0, a1, a2⟩ := e35
  obtain ⟨b, b0, b1, b2⟩ := e36
  have a1' : a ≤ 1439 := a1
  have b0' : 1 ≤ b := b0
  have b1' : b ≤ 600 := b1
  have f35 : f 35 = nI a := a2
  have f36 : f 36 = nI b := b2
  refine Met_v (ct_goMinute l G A ad np ng M0 f (T + 1) nz nn mc ms h0 h1 e18 hn7 h3.ne (fun hc => hcost ?_) fun g h4 => (hg g h4).1) fun M hM => ?_
  · have t0 := h3.ip.time
    rw [Rf_at (by decide)] at t0
    rw [n4_nat (T := T + 1) (a := a) t0 (by omega) ((es 35 (by decide) (by decide)).trans f35) a1', es 36 (by decide) (by decide), f36, show (1 : Int32) = nI 1 from rfl, nI_sub b0'] at hc
    have hc := congrArg tN hc
    rw [tN_nI (by omega), tN_nI (by omega)] at hc
    unfold ntA
    rw [f35, f36, tN_nI (by omega), tN_nI (by omega)]
    omega
  · obtain ⟨g, h4, hM⟩ := hM
    obtain ⟨⟨_, s5⟩, s6, e6⟩ := hg g h4
    have hn := hS.n6
    refine ⟨_, hM, s6, ?_, e6⟩
    refine kS.t (kS.t (kS.t es (fun p p1 p2 => Go4_o h3.ne h4 (by omega) (by omega) (by omega) (by omega) (by omega) (by omega))) (kS_go5 (SI_go4 h3 e18 hn7 h4))) (kS_go6 s5)
end QY

