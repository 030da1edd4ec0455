set_option maxRecDepth 100000
theorem Met_pre {l : Launch} {y : MethodName} {ws : List Cond} {rm : Room} {as : List Value} {G : mg} {A : Nat → Prop} {A' : Addr → Prop} {C C' : mh → Prop} {mc ms : Nat} {Q : Array Value → State → Outcome → State → Prop} (h : Met l y ws rm (va_Pc as (mU G A C)) Q mc ms A') (hcc : ∀ M, C' M → C M) : Met l y ws rm (va_Pc as (mU G A C')) Q mc ms A' := by
  intro p e ha hf hc s m args below hs hap hP hk
  obtain ⟨h1, h2, h3, h4, M, h5, h6, h7⟩ := hP
  exact h p e ha hf hc s m args below hs hap ⟨h1, h2, h3, h4, M, hcc M h5, h6, h7⟩ hk
theorem cw_pumpOf (l : Launch) (G : mg) (A : Nat → Prop) (M1 : mh) (fo : Nat) (Z : Nat → Prop) (v : Nat → Nat → Int32) (hW : CWP G fo Z M1 v) (a b : Int32) : Met l yX0_pumpOf (ws_ yX0_pumpOf cX0_pumpOf 4 (some .int)) ({ frames := 4, cells := 0, slots := 0, locals := 90 }) (va_Pc [.ref fo, .int a, .int b] (mU G A (fun M => M = M1))) (mQi G A (fun r M => r = mf_pumpOf v a b ∧ CWP G fo Z M v ∧ ∀ q, Z q → M q = M1 q)) 0 0 A := by
  have hW0 := hW
  obtain ⟨own, ad, np, ng, f, hn, ads, nps, ngs, fs, tl, tb, s, hX, hV, hZ⟩ := hW
  have hX0 := hX
  obtain ⟨⟨dq, tx, da, va, h, t, cap, gq, gb, ml, hfo, hdq, hda, hbb, hgq, htx, hw9⟩, hA, -, -⟩ := hX0
  obtain ⟨T, nz, hT, hS⟩ := hA.2.2.2.2
  have hno : ∀ r, r < 32 → ad r ≠ fo := fun r hr z => by
    have h9 := hA.2.2.2.1 r hr
    rw [z, hw9.1] at h9
    exact hA.nfo hfo (Option.some.inj h9).symm
  have h14 := hV.c14 hS
  refine Met_i (ct_pumpOf l G A ad np ng M1 M1 f a b fo dq tx T nz hA.1 hfo hno hS) fun r M hp => ?_
  obtain ⟨e, eM⟩ := hp
  subst eM
  exact ⟨e.trans (pumpOf_ref hV hS), hW0, fun _ _ => rfl⟩
theorem cw_curve (l : Launch) (G : mg) (A : Nat → Prop) (M1 : mh) (fo : Nat) (Z : Nat → Prop) (v : Nat → Nat → Int32) (hW : CWP G fo Z M1 v) (a b c : Int32) : Met l yX0_curve (ws_ yX0_curve cX0_curve 4 (some .int)) ({ frames := 3, cells := 0, slots := 0, locals := 69 }) (va_Pc [.ref fo, .int a, .int b, .int c] (mU G A (fun M => M = M1))) (mQi G A (fun r M => r = mf_curve v a b c ∧ CWP G fo Z M v ∧ ∀ q, Z q → M q = M1 q)) 0 0 A := by
  have hW0 := hW
  obtain ⟨own, ad, np, ng, f, hn, ads, nps, ngs, fs, tl, tb, s, hX, hV, hZ⟩ := hW
  have hX0 := hX
  obtain ⟨⟨dq, tx, da, va, h, t, cap, gq, gb, ml, hfo, hdq, hda, hbb, hgq, htx, hw9⟩, hA, -, -⟩ := hX0
  obtain ⟨T, nz, hT, hS⟩ := hA.2.2.2.2
  have hno : ∀ r, r < 32 → ad r ≠ fo := fun r hr z => by
    have h9 := hA.2.2.2.1 r hr
    rw [z, hw9.1] at h9
    exact hA.nfo hfo (Option.some.inj h9).symm
  have h14 := hV.c14 hS
  refine Met_i (ct_curveP l G A ad np ng M1 M1 f a b c fo dq tx T nz hA.1 hfo hno hS) fun r M hp => ?_
  obtain ⟨e, eM⟩ := hp
  subst eM
  exact ⟨e.trans (curve_ref hV hS), hW0, fun _ _ => rfl⟩
theorem cw_eventAt (l : Launch) (G : mg) (A : Nat → Prop) (M1 : mh) (fo : Nat) (Z : Nat → Prop) (v : Nat → Nat → Int32) (hW : CWP G fo Z M1 v) (a b : Int32) : Met l yX0_eventAt (ws_ yX0_eventAt cX0_eventAt 4 (some .int)) ({ frames := 1, cells := 0, slots := 0, locals := 25 }) (va_Pc [.ref fo, .int a, .int b] (mU G A (fun M => M = M1))) (mQi G A (fun r M => r = mf_eventAt v a b ∧ CWP G fo Z M v ∧ ∀ q, Z q → M q = M1 q)) 0 0 A := by
  have hW0 := hW
  obtain ⟨own, ad, np, ng, f, hn, ads, nps, ngs, fs, tl, tb, s, hX, hV, hZ⟩ := hW
  have hX0 := hX
  obtain ⟨⟨dq, tx, da, va, h, t, cap, gq, gb, ml, hfo, hdq, hda, hbb, hgq, htx, hw9⟩, hA, -, -⟩ := hX0
  obtain ⟨T, nz, hT, hS⟩ := hA.2.2.2.2
  have hno : ∀ r, r < 32 → ad r ≠ fo := fun r hr z => by
    have h9 := hA.2.2.2.1 r hr
    rw [z, hw9.1] at h9
    exact hA.nfo hfo (Option.some.inj h9).symm
  have h14 := hV.c14 hS
  refine Met_i (ct_eventAt l G A ad np ng M1 M1 f a b fo dq tx T nz hA.1 hfo hno hS) fun r M hp => ?_
  obtain ⟨e, eM⟩ := hp
  subst eM
  exact ⟨e.trans (eventAt_ref hV hS), hW0, fun _ _ => rfl⟩
theorem cw_nightAt (l : Launch) (G : mg) (A : Nat → Prop) (M1 : mh) (fo : Nat) (Z : Nat → Prop) (v : Nat → Nat → Int32) (hW : CWP G fo Z M1 v) (a : Int32) : Met l yX0_nightAt (ws_ yX0_nightAt cX0_nightAt 3 (some .int)) ({ frames := 3, cells := 0, slots := 0, locals := 64 }) (va_Pc [.ref fo, .int a] (mU G A (fun M => M = M1))) (mQi G A (fun r M => r = mf_nightAt v a ∧ CWP G fo Z M v ∧ ∀ q, Z q → M q = M1 q)) 0 0 A := by
  have hW0 := hW
  obtain ⟨own, ad, np, ng, f, hn, ads, nps, ngs, fs, tl, tb, s, hX, hV, hZ⟩ := hW
  have hX0 := hX
  obtain ⟨⟨dq, tx, da, va, h, t, cap, gq, gb, ml, hfo, hdq, hda, hbb, hgq, htx, hw9⟩, hA, -, -⟩ := hX0
  obtain ⟨T, nz, hT, hS⟩ := hA.2.2.2.2
  have hno : ∀ r, r < 32 → ad r ≠ fo := fun r hr z => by
    have h9 := hA.2.2.2.1 r hr
    rw [z, hw9.1] at h9
    exact hA.nfo hfo (Option.some.inj h9).symm
  have h14 := hV.c14 hS
  obtain ⟨nn, hn7, e18⟩ := hS.nights
  refine Met_i (ct_nightAt l G A M1 fo dq tx ad np ng M1 f hA.1 hfo nn a e18 hn7) fun r M hp => ?_
  obtain ⟨e, eM⟩ := hp
  subst eM
  exact ⟨(e v s).trans (hV.a17.nightAt ((hV.a (by decide)).trans e18) hn7), hW0, fun _ _ => rfl⟩
theorem cw_balance (l : Launch) (G : mg) (A : Nat → Prop) (M1 : mh) (fo : Nat) (Z : Nat → Prop) (v : Nat → Nat → Int32) (hW : CWP G fo Z M1 v) : Met l yX0_balance (ws_ yX0_balance cX0_balance 5 (some .int)) ({ frames := 3, cells := 1, slots := 4, locals := 53 }) (va_Pc [.ref fo] (mU G A (fun M => M = M1))) (mQi G A (fun r M => r = mf_balance v ∧ CWP G fo Z M v ∧ ∀ q, Z q → M q = M1 q)) 1 4 A := by
  have hW0 := hW
  obtain ⟨own, ad, np, ng, f, hn, ads, nps, ngs, fs, tl, tb, s, hX, hV, hZ⟩ := hW
  have hX0 := hX
  obtain ⟨⟨dq, tx, da, va, h, t, cap, gq, gb, ml, hfo, hdq, hda, hbb, hgq, htx, hw9⟩, hA, -, -⟩ := hX0
  obtain ⟨T, nz, hT, hS⟩ := hA.2.2.2.2
  have hno : ∀ r, r < 32 → ad r ≠ fo := fun r hr z => by
    have h9 := hA.2.2.2.1 r hr
    rw [z, hw9.1] at h9
    exact hA.nfo hfo (Option.some.inj h9).symm
  have h14 := hV.c14 hS
  refine Met_i (ct_balance l G A M1 fo dq tx ad np ng M1 f hA.1 hfo) fun r M hp => ?_
  obtain ⟨e, hE⟩ := hp
  exact ⟨e.trans (balance_ref hV hS hT), hW0.ext hE⟩
theorem cw_zoneOf (l : Launch) (G : mg) (A : Nat → Prop) (M1 : mh) (fo : Nat) (Z : Nat → Prop) (v : Nat → Nat → Int32) (hW : CWP G fo Z M1 v) (a b : Int32) : Met l yX0_zoneOf (ws_ yX0_zoneOf cX0_zoneOf 3 (some .int)) ({ frames := 4, cells := 1, slots := 4, locals := 77 }) (va_Pc [.ref fo, .int a, .int b] (mU G A (fun M => M = M1))) (mQi G A (fun r M => r = mf_zoneOf v a b ∧ CWP G fo Z M v ∧ ∀ q, Z q → M q = M1 q)) 1 4 A := by
  have hW0 := hW
  obtain ⟨own, ad, np, ng, f, hn, ads, nps, ngs, fs, tl, tb, s, hX, hV, hZ⟩ := hW
  have hX0 := hX
  obtain ⟨⟨dq, tx, da, va, h, t, cap, gq, gb, ml, hfo, hdq, hda, hbb, hgq, htx, hw9⟩, hA, -, -⟩ := hX0
  obtain ⟨T, nz, hT, hS⟩ := hA.2.2.2.2
  have hno : ∀ r, r < 32 → ad r ≠ fo := fun r hr z => by
    have h9 := hA.2.2.2.1 r hr
    rw [z, hw9.1] at h9
    exact hA.nfo hfo (Option.some.inj h9).symm
  have h14 := hV.c14 hS
  refine Met_i (ct_zoneOf l G A M1 fo dq tx ad np ng M1 f hA.1 hfo a b T nz hS) fun r M hp => ?_
  obtain ⟨e, hE⟩ := hp
  exact ⟨(e v s).trans (hV.a17.zoneOf ((hV.a (by decide)).trans (show f 15 = nI nz from hS.ip.enz)) hS.ip.z8 h14.2.2), hW0.ext hE⟩
theorem cw_station (l : Launch) (G : mg) (A : Nat → Prop) (M1 : mh) (fo : Nat) (Z : Nat → Prop) (v : Nat → Nat → Int32) (hW : CWP G fo Z M1 v) (a : Int32) : Met l yX0_station (ws_ yX0_station cX0_station 2 (some .int)) ({ frames := 5, cells := 1, slots := 4, locals := 105 }) (va_Pc [.ref fo, .int a] (mU G A (fun M => M = M1))) (mQi G A (fun r M => r = mf_station v a ∧ CWP G fo Z M v ∧ ∀ q, Z q → M q = M1 q)) 1 4 A := by
  have hW0 := hW
  obtain ⟨own, ad, np, ng, f, hn, ads, nps, ngs, fs, tl, tb, s, hX, hV, hZ⟩ := hW
  have hX0 := hX
  obtain ⟨⟨dq, tx, da, va, h, t, cap, gq, gb, ml, hfo, hdq, hda, hbb, hgq, htx, hw9⟩, hA, -, -⟩ := hX0
  obtain ⟨T, nz, hT, hS⟩ := hA.2.2.2.2
  have hno : ∀ r, r < 32 → ad r ≠ fo := fun r hr z => by
    have h9 := hA.2.2.2.1 r hr
    rw [z, hw9.1] at h9
    exact hA.nfo hfo (Option.some.inj h9).symm
  have h14 := hV.c14 hS
  refine Met_i (ct_station l G A M1 fo dq tx ad np ng M1 f hA.1 hfo a T nz hS) fun r M hp => ?_
  obtain ⟨e, hE⟩ := hp
  exact ⟨(e v s).trans (hV.a17.station h14.1 h14.2.1), hW0.ext hE⟩
theorem cw_count (l : Launch) (G : mg) (A : Nat → Prop) (M1 : mh) (fo : Nat) (Z : Nat → Prop) (v : Nat → Nat → Int32) (hW : CWP G fo Z M1 v) (a : Int32) : Met l yX0_count (ws_ yX0_count cX0_count 2 (some .int)) ({ frames := 4, cells := 1, slots := 4, locals := 76 }) (va_Pc [.ref fo, .int a] (mU G A (fun M => M = M1))) (mQi G A (fun r M => r = mf_count v a ∧ CWP G fo Z M v ∧ ∀ q, Z q → M q = M1 q)) 1 4 A := by
  have hW0 := hW
  obtain ⟨own, ad, np, ng, f, hn, ads, nps, ngs, fs, tl, tb, s, hX, hV, hZ⟩ := hW
  have hX0 := hX
  obtain ⟨⟨dq, tx, da, va, h, t, cap, gq, gb, ml, hfo, hdq, hda, hbb, hgq, htx, hw9⟩, hA, -, -⟩ := hX0
  obtain ⟨T, nz, hT, hS⟩ := hA.2.2.2.2
  have hno : ∀ r, r < 32 → ad r ≠ fo := fun r hr z => by
    have h9 := hA.2.2.2.1 r hr
    rw [z, hw9.1] at h9
    exact hA.nfo hfo (Option.some.inj h9).symm
  have h14 := hV.c14 hS
  obtain ⟨nn, hn7, e18⟩ := hS.nights
  refine Met_i (ct_count l G A M1 fo dq tx ad np ng M1 f hA.1 hfo da h t gq va tl ml hdq hda hbb.1 hbb.2.1 htx.1 a T nz hS nn e18 hn7) fun r M hp => ?_
  obtain ⟨e, hE⟩ := hp
  exact ⟨(e v s (by rw [hbb.2.2]; exact hV.2.2.1) hV.2.2.2.2.1).trans (hV.a17.count h14.1 h14.2.1), hW0.ext hE⟩
theorem cw_readyAt (l : Launch) (G : mg) (A : Nat → Prop) (M1 : mh) (fo : Nat) (Z : Nat → Prop) (v : Nat → Nat → Int32) (hW : CWP G fo Z M1 v) (a : Int32) : Met l yX0_readyAt (ws_ yX0_readyAt cX0_readyAt 5 (some .int)) ({ frames := 8, cells := 0, slots := 0, locals := 179 }) (va_Pc [.ref fo, .int a] (mU G A (fun M => M = M1))) (mQi G A (fun r M => r = mf_readyAt v a ∧ CWP G fo Z M v ∧ ∀ q, Z q → M q = M1 q)) 0 0 A := by
  have hW0 := hW
  obtain ⟨own, ad, np, ng, f, hn, ads, nps, ngs, fs, tl, tb, s, hX, hV, hZ⟩ := hW
  have hX0 := hX
  obtain ⟨⟨dq, tx, da, va, h, t, cap, gq, gb, ml, hfo, hdq, hda, hbb, hgq, htx, hw9⟩, hA, -, -⟩ := hX0
  obtain ⟨T, nz, hT, hS⟩ := hA.2.2.2.2
  have hno : ∀ r, r < 32 → ad r ≠ fo := fun r hr z => by
    have h9 := hA.2.2.2.1 r hr
    rw [z, hw9.1] at h9
    exact hA.nfo hfo (Option.some.inj h9).symm
  have h14 := hV.c14 hS
  refine Met_i (Met_pre (ct_readyAt l G A fo dq tx ad np ng M1 f T nz a hfo hno hS) (fun M e => by rw [e]; exact hA.1)) fun r M hp => ?_
  obtain ⟨e, g, hM, hSg, hg⟩ := hp
  refine ⟨(e v s).trans (hV.a17.readyAt h14.1), ?_⟩
  exact op_fin hZ Fr.r (hX.mut0 hM ⟨T, nz, hT, hSg⟩) (hV.vf hg)

