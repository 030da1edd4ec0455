set_option maxRecDepth 100000
/-! TX: the text -/
section TX
variable {G : mg} {own own1 own2 : Nat → Option Nat} {M M1 M2 : mh} {ad : Nat → Nat} {np ng hn tl tl2 fo dq tx va va2 cap cap2 a0 : Nat} {f : Nat → Int32} {ads : Nat → Nat → Nat} {nps ngs : Nat → Nat} {fs : Nat → Nat → Int32} {tb tb2 gb gb2 : Nat → Int32} {ml ml2 : Int32} {v v2 : Nat → Nat → Int32} {s : Int32} {Z : Nat → Prop}
theorem CWX.txt (hX : CWX G fo own M1 ad np ng f hn ads nps ngs fs tl tb) (hfo : M1 fo = some (.inr (0, [.ref a0, .ref dq, .ref tx]))) (htx : M1 tx = some (.inr (12, [.ref va, .int (0 : Int32), .int ml, .int (nI tl)]))) (hva : M1 va = some (mIc (G.1.1 102) cap gb)) (hk : ∀ q, M1 q ≠ none → q ≠ tx → q ≠ va → M2 q = M1 q)
    (h2 : M2 tx = some (.inr (12, [.ref va2, .int (0 : Int32), .int ml2, .int (nI tl2)])) ∧ M2 va2 = some (mIc (G.1.1 102) cap2 gb2) ∧ tl2 ≤ cap2 ∧ cap2 ≤ 1000 ∧ (∀ i, i < tl2 → gb2 i = tb2 i) ∧ ∀ i, i < cap2 → fits .byte (.int (gb2 i)) = true) (ho : va2 = va ∨ M1 va2 = none) : ∃ own2 ad4, CWX G fo own2 M2 ad4 np ng f hn ads nps ngs fs tl2 tb2 ∧ ad4 0 = ad 0 ∧ Fr M1 own M2 own2 := by
  obtain ⟨⟨dq', tx', da, va', h, t, cap', gq, gb', ml', xfo, xdq, xda, hb, hgq, xtx, w1, w2, w3, w4, w5⟩, hA, hH, hd, hp⟩ := hX
  rw [hfo] at xfo
  cases xfo
  have e5 := xtx.1
  rw [htx] at e5
  cases e5
  have nn : ∀ {q : Nat} {e : va_E}, M1 q = some e → M1 q ≠ none := fun h => by rw [h]; exact fun z => by cases z
  have fva : ∀ {c : Nat} {fs : List Value}, M1 va ≠ some (.inr (c, fs)) := fun {c fs} z => by
    rw [hva] at z
    unfold mIc at z
    cases z
  have n2 : ∀ q, M1 q ≠ none → q ≠ va → q ≠ va2 := fun q hq h1 z => by
    rcases ho with e | e
    · exact h1 (z.trans e)
    · rw [z] at hq; exact hq e
  have kp : ∀ {q c : Nat} {fs : List Value}, M1 q = some (.inr (c, fs)) → c ≠ 12 → M2 q = some (.inr (c, fs)) ∧ q ≠ va2 := fun {q c fs} hq hc => by
    have a1 : q ≠ tx := fun z => by rw [z, htx] at hq; cases hq; exact hc rfl
    have a2 : q ≠ va := fun z => by rw [z] at hq; exact fva hq
    exact ⟨(hk q (nn hq) a1 a2).trans hq, n2 q (nn hq) a2⟩
  have kda : M2 da = some (mRc (G.1.1 103) 17 gq) ∧ da ≠ va2 := by
    have a1 : da ≠ tx := fun z => by have := htx; rw [← z, xda] at this; exact mR_no (Option.some.inj this)
    have a2 : da ≠ va := fun z => by
      have := hva
      rw [← z, xda] at this
      simp [mRc, mIc] at this
    exact ⟨(hk da (nn xda) a1 a2).trans xda, n2 da (nn xda) a2⟩
  have tva : tx ≠ va2 := n2 tx (nn htx) (fun z => by rw [z] at htx; exact fva htx)
  obtain ⟨own2, eo⟩ : ∃ own2 : Nat → Option Nat, ∀ q, own2 q = if q = va2 then some fo else own q := ⟨_, fun _ => rfl⟩
  have on : ∀ q, q ≠ va2 → own2 q = own q := fun q hq => by rw [eo, if_neg hq]
  have img : ∀ {a3 : Nat → Nat} {n3 g3 : Nat} {f3 : Nat → Int32}, ImG G own M1 a3 n3 g3 f3 → ImG G own2 M2 a3 n3 g3 f3 := fun {a3 n3 g3 f3} h => by
    have hw := h.2.2.2.1
    have nf := h.nfo hfo
    have z0 : ∀ r, r < 32 → a3 r ≠ tx ∧ a3 r ≠ va := fun r hr => ⟨fun z => nf (Option.some.inj ((hw r hr).symm.trans (by rw [z]; exact w4))), fun z => nf (Option.some.inj ((hw r hr).symm.trans (by rw [z]; exact w5)))⟩
    refine h.keep (W := fun q => q = tx ∨ q = va) (fun q hq hn9 => hk q hq (fun z => hn9 (Or.inl z)) (fun z => hn9 (Or.inr z))) (fun r hr z => z.elim (z0 r hr).1 (z0 r hr).2) (fun q fs9 z => ?_) (fun q fs9 z => ?_) (fun r hr => on _ (n2 _ (h.ne hr) (z0 r hr).2))
    · rcases z with z | z
      · rw [z, htx]; exact fun y => by cases y
      · rw [z]; exact fva
    · rcases z with z | z
      · rw [z, htx]; exact fun y => by cases y
      · rw [z]; exact fva
  refine ⟨own2, ad, ⟨⟨dq, tx, da, va2, h, t, cap2, gq, gb2, ml2, (kp hfo (by decide)).1, (kp xdq (by decide)).1, kda.1, hb, hgq, h2, (on _ (kp hfo (by decide)).2).trans w1, (on _ (kp xdq (by decide)).2).trans w2, (on _ kda.2).trans w3, (on _ tva).trans w4, by rw [eo, if_pos rfl]⟩, img hA, fun i hi => img (hH i hi), hd, hp⟩, rfl, fun q hq hq0 => ?_⟩
  have a1 : q ≠ tx := fun z => by rw [z, w4] at hq0; cases hq0
  have a2 : q ≠ va := fun z => by rw [z, w5] at hq0; cases hq0
  exact ⟨hk q hq a1 a2, (on q (n2 q hq a2)).trans hq0⟩
end TX
theorem ct_setl (l : Launch) (G : mg) (A : Nat → Prop) (M1 : mh) (a va : Nat) (ml : Int32) (ct cap : Nat) (g : Nat → Int32) (h_a : M1 a = some (.inr (12, [.ref va, .int (0 : Int32), .int ml, .int (nI ct)]))) (h_va : M1 va = some (mIc (G.1.1 102) cap g)) (hct : ct ≤ cap) (hcap : cap ≤ 1000) : Met l yJ10_setLength (ws_ yJ10_setLength cJ10_setLength 2 (none)) ({ frames := 2, cells := 0, slots := 0, locals := 43 }) (va_Pc [.ref a, .int (0 : Int32)] (mU G A (fun M => M = M1))) (mQv G A (fun M => ∃ ml2 : Int32, M a = some (.inr (12, [.ref va, .int (0 : Int32), .int ml2, .int (nI 0)])) ∧ ∀ q, q ≠ a → M q = M1 q)) 0 0 A := by
  by_cases c : ct = 0
  · refine Met_v (jt_sb_setl0 l G A M1 a va ml ct cap g h_a h_va c hct hcap) fun M hM => ?_
    exact ⟨ml, by rw [hM, va_up_s]; rfl, fun q hq => by rw [hM, va_up_k hq]⟩
  · refine Met_v (jt_sb_setl1 l G A M1 a va ml ct cap g h_a h_va (by omega) hct hcap) fun M hM => ?_
    exact ⟨1, by rw [hM, va_up_s]; rfl, fun q hq => by rw [hM, va_up_k hq, va_up_k hq]⟩
section TX2
variable {hn tl : Nat} {f : Nat → Int32} {fs : Nat → Nat → Int32} {tb : Nat → Int32} {v : Nat → Nat → Int32} {s : Int32}
theorem RelV.row0 (h : RelV v s f hn fs tl tb) {x : Int32} : RelV (u2 v 0 6 x) s f hn fs tl tb → True := fun _ => trivial
theorem clr_v (h : RelV v s f hn fs tl tb) : mf_clearText v = (nI tl, u2 v 0 6 0) ∧ RelV (u2 v 0 6 0) s f hn fs 0 tb := by
  obtain ⟨h1, e, e2, e3, e6, e4⟩ := h
  refine ⟨by rw [mf_clearText, e6], ⟨h1.1, by omega⟩, Vf_row fun k hk => ?_, by rw [u2_k (by decide)]; exact e2, fun i p hi hp => by rw [u2_r (by decide)]; exact e3 i p hi hp, by rw [u2_s]; exact nI_0.symm, fun i hi => absurd hi (Nat.not_lt_zero _)⟩
  rw [u2_r (by decide), congrFun (congrFun e 1) k]
  unfold Vf
  rw [if_pos rfl, if_pos rfl]
  by_cases c : k < 170
  · rw [if_pos c, if_pos c]
  · rw [if_neg c, if_neg c, if_pos (by omega), if_pos (by omega)]
end TX2
set_option maxHeartbeats 4000000 in
set_option maxRecDepth 100000 in
theorem ct_clearText (l : Launch) (G : mg) (A : Nat → Prop) (M1 : mh) (fo : Nat) (Z : Nat → Prop) (v : Nat → Nat → Int32) (hW : CWP G fo Z M1 v) : Met l yX0_clearText (ws_ yX0_clearText cX0_clearText 2 (some .int)) ({ frames := 3, cells := 0, slots := 0, locals := 64 }) (va_Pc [.ref fo] (mU G A (fun M => M = M1))) (mQi G A (fun r M => r = (mf_clearText v).1 ∧ CWP G fo Z M (mf_clearText v).2 ∧ ∀ q, Z q → M q = M1 q)) 0 0 A := by
  refine mx_ofi (by decide) (Nat.le_of_ble_eq_true rfl) ?_
  intro p e R s m av below meth c M H Q ls X hRf hRl hRc hRs hin eM w fin hl
  subst M
  have X : CallFix p m c cX0_clearText 2 s av lw_all "FieldPumps" := X
  have hx := X.1
  have hb := X.2.1
  have hl : lv_has ls 2 [(0, .ref fo)] := hl
  have hRf : R.frames = 3 := hRf
  have hRl : R.locals = 64 := hRl
  have hRc : R.cells = 0 := hRc
  have hRs : R.slots = 0 := hRs
  generalize ([] : List Loc) = locs at w ⊢
  have hW0 := hW
  obtain ⟨own, ad, np, ng, f, hn, ads, nps, ngs, fs, tl, tb, s9, hX, hV, hZ⟩ := hW
  have hX0 := hX
  obtain ⟨⟨dq, tx, da, va, h, t, cap, gq, gb, ml, hfo, hdq, hda, hbb, hgq, htx, hw9⟩, hA, -, -⟩ := hX0
  have hM := hA.1
  obtain ⟨T, nz, hT, hS⟩ := hA.2.2.2.2
  have hn6 := hS.n6
  have hE : ∀ q, M1 q ≠ none → M1 q = M1 q := fun _ _ => rfl
  refine lv_aload_n hx hb dX0_clearText_0 rfl (lv_at hl 0 rfl) ?_
  refine mx_get (T := TX0) (v := .ref tx) X w in_X0 (ci := 0) rfl 2 (by decide) q475 (fun _ h => h) hfo rfl dX0_clearText_1 ?_
  refine mx_bi w (va_runV (As := []) (rest := []) X (jt_sb_len l G A _ tx va ml tl htx.1) (cwV 0 X.2.2.2.2 (lw_V q1746 q1747 q1748 q110 q1749) rfl rfl rfl (by decide +kernel) ⟨by rw [hRf]; decide, by rw [hRl]; decide⟩) (mx_preV w rfl htx.1 rfl) rfl rfl hl.1 rfl (lv_room (Nat.le_of_ble_eq_true rfl)) dX0_clearText_4 ⟨by rw [hRc]; omega, by rw [hRs]; omega⟩) (fun r M9 H locs hp w => ?_)
  obtain ⟨eR, eM⟩ := hp; subst M9; subst eR
  refine lv_istore_n (lv' := [(1, .int (nI tl)), (0, .ref fo)]) hx hb dX0_clearText_7 rfl hl (by decide) rfl (fun ls hl => ?_)
  refine lv_aload_n hx hb dX0_clearText_8 rfl (lv_at hl 1 rfl) ?_
  refine mx_get (T := TX0) (v := .ref tx) X w in_X0 (ci := 0) rfl 2 (by decide) q475 (fun _ h => h) hfo rfl dX0_clearText_9 ?_
  refine lv_iconst (v := (0 : Int32)) hx hb dX0_clearText_12 (by decide) ?_
  refine mx_bv w (va_runV (As := [.int (0 : Int32)]) (rest := []) X (ct_setl l G A M1 tx va ml tl cap gb htx.1 htx.2.1 htx.2.2.1 htx.2.2.2.1) (cwV 1 X.2.2.2.2 (lw_V q1844 q1845 q1846 q110 q1847) rfl rfl rfl (by decide +kernel) ⟨by rw [hRf]; decide, by rw [hRl]; decide⟩) (mx_preV w rfl htx.1 rfl) rfl rfl hl.1 rfl (lv_room (Nat.le_of_ble_eq_true rfl)) dX0_clearText_13 ⟨by rw [hRc]; omega, by rw [hRs]; omega⟩) (fun M2 H locs hp w => ?_)
  obtain ⟨ml2, t1, t2⟩ := hp
  have tva : tx ≠ va := fun z => by have h8 := htx.2.1; rw [← z, htx.1] at h8; unfold mIc at h8; cases h8
  have hfin : nI tl = (mf_clearText v).1 ∧ CWP G fo Z M2 (mf_clearText v).2 ∧ ∀ q, Z q → M2 q = M1 q := by
    obtain ⟨e7, hV2⟩ := clr_v hV
    rw [e7]
    exact ⟨rfl, op_fin hZ Fr.r (hX.txt hfo htx.1 htx.2.1 (fun q _ h1 _ => t2 q h1) ⟨t1, (t2 va tva.symm).trans htx.2.1, Nat.zero_le _, htx.2.2.2.1, fun i hi => absurd hi (Nat.not_lt_zero _), htx.2.2.2.2.2⟩ (Or.inl rfl)) hV2⟩
  refine lv_iload_n hx hb dX0_clearText_16 rfl (lv_at hl 0 rfl) ?_
  refine W.widen (k := 0) (n := 0) (by omega) (by omega) ?_
  exact fin (nI tl) _ H locs ls 17 dX0_clearText_17 (hfin) w
