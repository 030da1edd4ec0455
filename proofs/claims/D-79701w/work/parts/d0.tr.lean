set_option maxRecDepth 100000
/-! TR: trial orders: the whole and the law -/
section TR
variable {G : mg} {own own' own1 own2 : Nat → Option Nat} {M M1 M2 M9 : mh} {ad ad1 ad2 adt : Nat → Nat} {np ng npt ngt nz hn tl fo dq tx a0 T pl n2 T2 : Nat} {f g g1 g2 g3 ft : Nat → Int32} {ads : Nat → Nat → Nat} {nps ngs : Nat → Nat} {fs : Nat → Nat → Int32} {tb : Nat → Int32} {v : Nat → Nat → Int32} {s num bg rs mn wh : Int32}
/-- who owns what counts only at the cells that there are -/
theorem CWX.re (h : CWX G fo own M ad np ng f hn ads nps ngs fs tl tb) (ho : ∀ q e, M q = some e → (∀ fs, e ≠ .inr (7, fs)) → (∀ fs, e ≠ .inr (14, fs)) → own' q = own q) : CWX G fo own' M ad np ng f hn ads nps ngs fs tl tb := by
  obtain ⟨⟨dq, tx, da, va, h, t, cap, gq, gb, ml, hfo, hdq, hda, hb, hgq, htx, w1, w2, w3, w4, w5⟩, hA, hH, hd, hp⟩ := h
  have img : ∀ {a3 : Nat → Nat} {n3 g3 : Nat} {f3 : Nat → Int32}, ImG G own M a3 n3 g3 f3 → ImG G own' M a3 n3 g3 f3 := fun {a3 n3 g3 f3} hi =>
    hi.keep (W := fun _ => False) (fun q hq _ => rfl) (fun _ _ z => z) (fun _ _ z => z.elim) (fun _ _ z => z.elim) (fun r hr => by
      cases hc : M (a3 r) with
      | none => exact absurd hc (hi.ne hr)
      | some e => exact ho _ e hc (fun fs z => hi.cl hr (c := 7) (by decide) fs (by rw [hc, z])) (fun fs z => hi.cl hr (c := 14) (by decide) fs (by rw [hc, z])))
  refine ⟨⟨dq, tx, da, va, h, t, cap, gq, gb, ml, hfo, hdq, hda, hb, hgq, htx, ?_, ?_, ?_, ?_, ?_⟩, img hA, fun i hi => img (hH i hi), hd, hp⟩
  · exact (ho _ _ hfo (fun _ z => by cases z) (fun _ z => by cases z)).trans w1
  · exact (ho _ _ hdq (fun _ z => by cases z) (fun _ z => by cases z)).trans w2
  · exact (ho _ _ hda (fun _ z => mR_no z) (fun _ z => mR_no z)).trans w3
  · exact (ho _ _ htx.1 (fun _ z => by cases z) (fun _ z => by cases z)).trans w4
  · exact (ho _ _ htx.2.1 (fun _ z => by unfold mIc at z; cases z) (fun _ z => by unfold mIc at z; cases z)).trans w5
/-- as ChP.cwx, with more said of what was there -/
theorem ChP.cwx2 (hX : CWX G fo own M1 ad np ng f hn ads nps ngs fs tl tb) (hn4 : hn ≤ 4) (h : ChP G fo own M1 M ad np ng f hn ads nps ngs fs tl tb) : ∃ own' ad2 g2, CWX G fo own' M ad np ng f (hnN hn) (hsN hn ads ad2) (hsN hn nps np) (hsN hn ngs ng) (hsN hn fs g2) tl tb ∧ copyE f g2 ∧ M1 (ad2 0) = none ∧ ∀ q, M1 q ≠ none → own' q = own q ∧ (own q ≠ some fo → M q = M1 q) := by
  obtain ⟨own', ad2, g2, hF, hA, hH, hC, z0, hcp, how, hfr⟩ := h
  obtain ⟨-, xA, xH, xd, xp⟩ := hX
  refine ⟨own', ad2, g2, ⟨?_, hA, fun i hi => ?_, fun i hi => ?_, fun i j hi hj e => ?_⟩, hcp, z0, fun q hq => ⟨how q hq, hfr q hq⟩⟩
  · rw [show (fun i => (hsN hn ads ad2) i 0) = hsN hn (fun i => ads i 0) (ad2 0) from funext fun i => hs_0]
    exact hF
  · rcases hs_cases hn4 hi with ⟨j, hj, e, -⟩ | ⟨e, -⟩
    · rw [e, e, e, e]; exact hH j hj
    · rw [e, e, e, e]; exact hC
  · rcases hs_cases hn4 hi with ⟨j, hj, e, -⟩ | ⟨e, -⟩
    · rw [e, e]; exact xd j hj
    · rw [e, e]; refine ⟨?_, hcp.2.2.2⟩; exact fun z => xA.ne (r := 0) (by decide) (by rw [← z]; exact z0)
  · rcases hs_cases hn4 hi with ⟨i', hi', e1, a1, a2⟩ | ⟨e1, a1, a2⟩
    · rcases hs_cases hn4 hj with ⟨j', hj', e2, b1, b2⟩ | ⟨e2, b1, b2⟩
      · rw [e1, e2] at e
        have := xp i' j' hi' hj' e
        by_cases c : hn = 4
        · have := a2 c; have := b2 c; omega
        · have := a1 c; have := b1 c; omega
      · rw [e1, e2] at e
        exact absurd z0 (by rw [← e]; exact (xH i' hi').ne (r := 0) (by decide))
    · rcases hs_cases hn4 hj with ⟨j', hj', e2, b1, b2⟩ | ⟨e2, b1, b2⟩
      · rw [e1, e2] at e
        exact absurd z0 (by rw [e]; exact (xH j' hj').ne (r := 0) (by decide))
      · by_cases c : hn = 4
        · have := a2 c; have := b2 c; omega
        · have := a1 c; have := b1 c; omega
/-- the trial beside the whole: who owns what -/
theorem play_own (hX : CWX G fo own M1 ad np ng f hn ads nps ngs fs tl tb) (hE : ∀ q, M1 q ≠ none → M q = M1 q) (hSt : Sta G ad1 np ng M1 M g2) (hN : adN np ng ad1) (hfr : ∀ r, r < 32 → M1 (ad1 r) = none) (hI : ∃ T nz, T ≤ 20000 ∧ SI T np nz ng g2) :
    ∃ own0 adt, CWX G fo own0 M ad np ng f hn ads nps ngs fs tl tb ∧ ImG G own0 M adt np ng g2 ∧ adt 0 = ad1 0 ∧ (∀ r, r < 32 → M1 (adt r) = none) ∧ (∀ q c fs, (c = 7 ∨ c = 14) → M q = some (.inr (c, fs)) → own0 q ≠ some fo) ∧ (∀ q, M1 q ≠ none → own q = none → own0 q = none) ∧ (∀ q, M1 q = none → own0 q ≠ some fo) := by
  obtain ⟨adt, hIt, e0, hr⟩ := hSt.renew (own := own) hN hI
  have hfo : ∃ fs, M1 fo = some (.inr (0, fs)) := by
    obtain ⟨⟨dq, tx, da, va, h, t, cap, gq, gb, ml, hfo, -⟩, -⟩ := hX
    exact ⟨_, hfo⟩
  obtain ⟨fsf, hfo⟩ := hfo
  have hfr2 : ∀ r, r < 32 → M1 (adt r) = none := fun r hr9 => by
    rcases hr r hr9 with ⟨r', h1, e⟩ | z
    · rw [e]; exact hfr r' h1
    · exact z
  have nfo : adt 0 ≠ fo := fun z => by have := hfr2 0 (by decide); rw [z, hfo] at this; cases this
  let own0 : Nat → Option Nat := fun q => @ite _ (∃ r, r < 32 ∧ adt r = q) (Classical.propDecidable _) (some (adt 0)) (@ite _ (M1 q = none ∨ ∃ c fs, (c = 7 ∨ c = 14) ∧ M q = some (.inr (c, fs))) (Classical.propDecidable _) none (own q))
  have o1 : ∀ r, r < 32 → own0 (adt r) = some (adt 0) := fun r hr9 => if_pos ⟨r, hr9, rfl⟩
  have o2 : ∀ q, (∀ r, r < 32 → adt r ≠ q) → (M1 q = none ∨ ∃ c fs, (c = 7 ∨ c = 14) ∧ M q = some (.inr (c, fs))) → own0 q = none := fun q h1 h2 => by
    show @ite _ _ (Classical.propDecidable _) _ _ = _
    rw [if_neg (fun ⟨r, hr9, e⟩ => h1 r hr9 e), if_pos h2]
  have o3 : ∀ q, M1 q ≠ none → ¬ (∃ c fs, (c = 7 ∨ c = 14) ∧ M q = some (.inr (c, fs))) → own0 q = own q := fun q h1 h2 => by
    show @ite _ _ (Classical.propDecidable _) _ _ = _
    rw [if_neg (fun ⟨r, hr9, e⟩ => h1 (by rw [← e]; exact hfr2 r hr9)), if_neg (fun z => z.elim h1 h2)]
  have o4 : ∀ q, M1 q ≠ none → ∀ r, r < 32 → adt r ≠ q := fun q hq r hr9 e => hq (by rw [← e]; exact hfr2 r hr9)
  have hX1 : CWX G fo own0 M1 ad np ng f hn ads nps ngs fs tl tb := hX.re fun q e he h7 h14 => o3 q (by rw [he]; exact fun z => by cases z) (fun ⟨c, fs, hc, hm⟩ => by
    have h9 : M q = some e := (hE q (by rw [he]; exact fun z => by cases z)).trans he
    have h8 := Option.some.inj (h9.symm.trans hm)
    rcases hc with rfl | rfl
    · exact h7 fs h8
    · exact h14 fs h8)
  refine ⟨own0, adt, hX1.ext hE, hIt.keep (W := fun _ => False) (fun q hq _ => rfl) (fun _ _ z => z) (fun _ _ z => z.elim) (fun _ _ z => z.elim) (fun r hr9 => (o1 r hr9).trans (hIt.2.2.2.1 r hr9).symm), e0, hfr2, fun q c fs hc hm z => ?_, fun q hq ho => ?_, fun q hq z => ?_⟩
  · by_cases k : ∃ r, r < 32 ∧ adt r = q
    · obtain ⟨r, hr9, e⟩ := k
      rw [← e, o1 r hr9] at z
      exact nfo (Option.some.inj z)
    · rw [o2 q (fun r hr9 e => k ⟨r, hr9, e⟩) (Or.inr ⟨c, fs, hc, hm⟩)] at z
      cases z
  · by_cases k : ∃ c fs, (c = 7 ∨ c = 14) ∧ M q = some (.inr (c, fs))
    · exact o2 q (o4 q hq) (Or.inr k)
    · exact (o3 q hq k).trans ho
  · by_cases k : ∃ r, r < 32 ∧ adt r = q
    · obtain ⟨r, hr9, e⟩ := k
      rw [← e, o1 r hr9] at z
      exact nfo (Option.some.inj z)
    · rw [o2 q (fun r hr9 e => k ⟨r, hr9, e⟩) (Or.inl hq)] at z
      cases z
/-- another station is the present one -/
theorem CWX.now (hX : CWX G fo own M ad np ng f hn ads nps ngs fs tl tb) (hfo : M fo = some (.inr (0, [.ref a0, .ref dq, .ref tx]))) (hI : ImG G own M adt npt ngt ft) (hd : ∀ i, i < hn → ads i 0 ≠ adt 0) (h2 : M2 fo = some (.inr (0, [.ref (adt 0), .ref dq, .ref tx]))) (hk : ∀ q, q ≠ fo → M2 q = M q) : CWX G fo own M2 adt npt ngt ft hn ads nps ngs fs tl tb ∧ Fr M own M2 own := by
  obtain ⟨⟨dq', tx', da, va, h, t, cap, gq, gb, ml, xfo, xdq, xda, hb, hgq, xtx, w1, w2, w3, w4, w5⟩, hA, hH, hd0, hp⟩ := hX
  rw [hfo] at xfo
  cases xfo
  have img : ∀ {a3 : Nat → Nat} {n3 g3 : Nat} {f3 : Nat → Int32}, ImG G own M a3 n3 g3 f3 → ImG G own M2 a3 n3 g3 f3 := fun {a3 n3 g3 f3} hi =>
    hi.keep2 (a := fo) (b := fo) (fun q _ h1 _ => hk q h1) w1 w1 (hi.nfo hfo) (fun c fs hc z => by rw [hfo] at z; cases z; omega) (fun c fs hc z => by rw [hfo] at z; cases z; omega)
  have k1 : M2 dq = M dq := hk dq (fun z => by rw [z, hfo] at xdq; cases xdq)
  have k2 : M2 da = M da := hk da (fun z => by rw [z, hfo] at xda; exact mR_no (Option.some.inj xda).symm)
  have k3 : M2 tx = M tx := hk tx (fun z => by have := xtx.1; rw [z, hfo] at this; cases this)
  have k4 : M2 va = M va := hk va (fun z => by have := xtx.2.1; rw [z, hfo] at this; unfold mIc at this; cases this)
  refine ⟨⟨⟨dq, tx, da, va, h, t, cap, gq, gb, ml, h2, k1.trans xdq, k2.trans xda, hb, hgq, ⟨k3.trans xtx.1, k4.trans xtx.2.1, xtx.2.2⟩, w1, w2, w3, w4, w5⟩, img hI, fun i hi => img (hH i hi), fun i hi => ⟨hd i hi, (hd0 i hi).2⟩, hp⟩, fun q hq ho => ⟨hk q (fun z => ?_), ho⟩⟩
  rw [z, w1] at ho; cases ho
theorem RelV.cpy (h : RelV v s f hn fs tl tb) (hg : copyE f g1) : RelV v s g1 hn fs tl tb := ⟨h.1, h.2.1.trans (Vf_g1 hg).symm, h.2.2⟩
theorem RelV.lay (h : RelV v s f hn fs tl tb) : RelV (mf_layAside v) s f hn fs tl tb := by
  have h0 := h
  obtain ⟨a, b, c, d, e, i⟩ := h
  refine ⟨a, ?_, by rw [layAside_row (by decide)]; exact c, fun i p hi hp => by rw [layAside_row (by decide)]; exact d i p hi hp, by rw [layAside_row (by decide)]; exact e, fun j hj => by rw [layAside_row (by decide)]; exact i j hj⟩
  refine Vf_row fun k hk => ?_
  rw [layAside_row (by decide)]
  have := congrFun (congrFun b 1) k
  rw [this]
  unfold Vf
  rw [if_pos rfl, if_pos rfl]
  by_cases c : k < 170
  · rw [if_pos c, if_pos c]
  · rw [if_neg c, if_neg c, if_pos (by omega), if_pos (by omega)]
theorem try_ref (h : RelV v s f hn fs tl tb) (hg : copyE f g1) (hS : SI T np nz ng g1) (hT : T ≤ 20000) (hL : LoopR np nz ng tb tl 0 T g1 num pl bg rs mn g2 n2 T2) (he : rs = 0 → tl ≤ pl) : (∃ s3, RelV (mf_tryOrders v) s3 f hn fs tl tb) ∧ mf_tryOrders v 0 11 = rs ∧ (rs ≠ 0 → mf_tryOrders v 0 10 = bg) := by
  obtain ⟨⟨s4, hr⟩, e11, e12, e10⟩ := orders_ref (h.cpy hg).lay hS hT hL he
  have et : mf_tryOrders v = mf_takeBack (mf_doOrders (mf_layAside v)) := by rw [mf_tryOrders, mf_tryOrders_c1, mf_tryOrders_c5, mf_tryOrders_c9]
  rw [et]
  refine ⟨h.bk (fun j hj => ?_) ⟨?_, ?_⟩ ?_ ?_, ?_, fun z => ?_⟩
  · rw [takeBack_at, if_pos hj, doOrders_row (by decide) (by decide), layAside_at hj]
  · rw [takeBack_row (by decide)]; exact hr.2.2.1.trans h.2.2.1.symm
  · rw [takeBack_row (by decide)]; exact hr.2.2.2.2.1.trans h.2.2.2.2.1.symm
  · rw [takeBack_row (by decide), doOrders_row (by decide) (by decide), layAside_row (by decide)]
  · rw [takeBack_row (by decide), doOrders_row (by decide) (by decide), layAside_row (by decide)]
  · rw [takeBack_row (by decide)]; exact e11
  · rw [takeBack_row (by decide)]; exact e10 z
theorem fault_a (c : ¬ cf_isBetween wh.toInt64 (0 : Int64) (1 : Int64) = true) : mf_fault v wh = (-1000001, v) := by
  have c' : ¬ mf_in wh.toInt64 (0 : Int64) (1 : Int64) = true := c
  rw [mf_fault, if_neg c']
theorem fault_0 (h : RelV v s f hn fs tl tb) (hg : copyE f g1) (hS : SI T np nz ng g1) (hT : T ≤ 20000) (hL : LoopR np nz ng tb tl 0 T g1 num pl bg rs mn g2 n2 T2) (he : rs = 0 → tl ≤ pl) (c : cf_isBetween wh.toInt64 (0 : Int64) (1 : Int64) = true) (d : rs = 0) : ∃ v2 s3, mf_fault v wh = (-1000004, v2) ∧ RelV v2 s3 f hn fs tl tb := by
  have c' : mf_in wh.toInt64 (0 : Int64) (1 : Int64) = true := c
  obtain ⟨⟨s3, hr⟩, e11, -⟩ := try_ref h hg hS hT hL he
  exact ⟨_, s3, by rw [mf_fault, if_pos c', mf_fault_c14, e11, if_pos d, mf_fault_44], hr⟩
theorem fault_1 (h : RelV v s f hn fs tl tb) (hg : copyE f g1) (hS : SI T np nz ng g1) (hT : T ≤ 20000) (hL : LoopR np nz ng tb tl 0 T g1 num pl bg rs mn g2 n2 T2) (he : rs = 0 → tl ≤ pl) (c : cf_isBetween wh.toInt64 (0 : Int64) (1 : Int64) = true) (d : ¬ rs = 0) (k : wh = 0) : ∃ v2 s3, mf_fault v wh = (bg, v2) ∧ RelV v2 s3 f hn fs tl tb := by
  have c' : mf_in wh.toInt64 (0 : Int64) (1 : Int64) = true := c
  obtain ⟨⟨s3, hr⟩, e11, e10⟩ := try_ref h hg hS hT hL he
  exact ⟨_, s3, by rw [mf_fault, if_pos c', mf_fault_c14, e11, if_neg d, if_pos k, mf_fault_44, e10 d], hr⟩
theorem fault_2 (h : RelV v s f hn fs tl tb) (hg : copyE f g1) (hS : SI T np nz ng g1) (hT : T ≤ 20000) (hL : LoopR np nz ng tb tl 0 T g1 num pl bg rs mn g2 n2 T2) (he : rs = 0 → tl ≤ pl) (c : cf_isBetween wh.toInt64 (0 : Int64) (1 : Int64) = true) (d : ¬ rs = 0) (k : ¬ wh = 0) : ∃ v2 s3, mf_fault v wh = (rs, v2) ∧ RelV v2 s3 f hn fs tl tb := by
  have c' : mf_in wh.toInt64 (0 : Int64) (1 : Int64) = true := c
  obtain ⟨⟨s3, hr⟩, e11, e10⟩ := try_ref h hg hS hT hL he
  exact ⟨_, s3, by rw [mf_fault, if_pos c', mf_fault_c14, e11, if_neg d, if_neg k, mf_fault_44], hr⟩
theorem play_0 (h : RelV v s f hn fs tl tb) (hg : copyE f g1) (hS : SI T np nz ng g1) (hT : T ≤ 20000) (hL : LoopR np nz ng tb tl 0 T g1 num pl bg rs mn g2 n2 T2) (he : rs = 0 → tl ≤ pl) (d : ¬ rs = 0) : ∃ v2 s3, mf_play v = (-1000002, v2) ∧ RelV v2 s3 f hn fs tl tb := by
  obtain ⟨⟨s3, hr⟩, e11, -⟩ := try_ref h hg hS hT hL he
  exact ⟨_, s3, by rw [mf_play, mf_play_c1, e11, if_neg d], hr⟩
theorem play_1 (h : RelV v s f hn fs tl tb) (hg : copyE f g1) (hS : SI T np nz ng g1) (hT : T ≤ 20000) (hL : LoopR np nz ng tb tl 0 T g1 num pl bg rs mn g2 n2 T2) (he : rs = 0 → tl ≤ pl) (hcp : copyE f g3) (d : rs = 0) : ∃ v2 s3, mf_play v = (mn, v2) ∧ RelV v2 s3 g2 (hnN hn) (hsN hn fs g3) tl tb := by
  obtain ⟨⟨s3, hr⟩, e11, -⟩ := try_ref h hg hS hT hL he
  obtain ⟨⟨s4, hr4⟩, -, e12, -⟩ := orders_ref ((hr.save hcp).cpy hg) hS hT hL he
  exact ⟨_, s4, by rw [mf_play, mf_play_c1, e11, if_pos d, mf_play_c15, mf_play_c19, e12], hr4⟩
end TR

