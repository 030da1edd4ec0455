set_option maxRecDepth 100000
/-! CX: the component whole, and what it stands for -/
def CWX (G : mg) (fo : Nat) (own : Nat → Option Nat) (M : mh) (ad : Nat → Nat) (np ng : Nat) (f : Nat → Int32) (hn : Nat) (ads : Nat → Nat → Nat) (nps ngs : Nat → Nat) (fs : Nat → Nat → Int32) (tl : Nat) (tb : Nat → Int32) : Prop :=
  CWF G fo own M (ad 0) hn (fun i => ads i 0) tl tb ∧ ImG G own M ad np ng f ∧ (∀ i, i < hn → ImG G own M (ads i) (nps i) (ngs i) (fs i)) ∧ (∀ i, i < hn → ads i 0 ≠ ad 0 ∧ fs i 177 = 0) ∧ ∀ i j, i < hn → j < hn → ads i 0 = ads j 0 → i = j
/-- foreign cells are as they were -/
def Fr (M1 : mh) (own : Nat → Option Nat) (M : mh) (own' : Nat → Option Nat) : Prop := ∀ q, M1 q ≠ none → own q = none → M q = M1 q ∧ own' q = none
section CX
variable {G : mg} {own own' own2 : Nat → Option Nat} {M M1 M2 M3 : mh} {ad ad2 ad3 : Nat → Nat} {np ng np3 ng3 hn tl fo T nz : Nat} {f f2 g : Nat → Int32} {ads : Nat → Nat → Nat} {nps ngs : Nat → Nat} {fs : Nat → Nat → Int32} {tb : Nat → Int32} {v : Nat → Nat → Int32} {s : Int32}
theorem Fr.r : Fr M own M own := fun _ _ h => ⟨rfl, h⟩
theorem Fr.t (a : Fr M1 own M own') (b : Fr M own' M2 own2) : Fr M1 own M2 own2 := fun q hq ho => by
  obtain ⟨a1, a2⟩ := a q hq ho
  obtain ⟨b1, b2⟩ := b q (by rw [a1]; exact hq) a2
  exact ⟨b1.trans a1, b2⟩
theorem CWX.ext (h : CWX G fo own M1 ad np ng f hn ads nps ngs fs tl tb) (hE : ∀ q, M1 q ≠ none → M q = M1 q) : CWX G fo own M ad np ng f hn ads nps ngs fs tl tb := by
  obtain ⟨⟨dq, tx, da, va, h, t, cap, gq, gb, ml, hfo, hdq, hda, hb, hgq, htx, hw⟩, h2, h3, h4⟩ := h
  exact ⟨⟨dq, tx, da, va, h, t, cap, gq, gb, ml, ext_at hE hfo, ext_at hE hdq, ext_at hE hda, hb, hgq, ⟨ext_at hE htx.1, ext_at hE htx.2.1, htx.2.2⟩, hw⟩, h2.ext hE, fun i hi => (h3 i hi).ext hE, h4⟩
theorem hs_0 {i : Nat} : (hsN hn ads ad2) i 0 = hsN hn (fun i => ads i 0) (ad2 0) i := by
  unfold hsN
  by_cases c : hn = 4
  · rw [if_pos c, if_pos c]
    by_cases d : i < 3
    · rw [if_pos d, if_pos d]
    · rw [if_neg d, if_neg d]
  · rw [if_neg c, if_neg c]
    by_cases d : i < hn
    · rw [if_pos d, if_pos d]
    · rw [if_neg d, if_neg d]
/-- an entry of the new history: an older one, or the new one -/
theorem hs_cases (hn4 : hn ≤ 4) {i : Nat} (hi : i < hnN hn) : (∃ j, j < hn ∧ (∀ {α : Type} (a : Nat → α) (x : α), hsN hn a x i = a j) ∧ (hn ≠ 4 → j = i) ∧ (hn = 4 → j = i + 1)) ∨ ((∀ {α : Type} (a : Nat → α) (x : α), hsN hn a x i = x) ∧ (hn ≠ 4 → i = hn) ∧ (hn = 4 → i = 3)) := by
  unfold hnN at hi
  by_cases c : hn = 4
  · rw [if_pos c] at hi
    by_cases d : i < 3
    · exact Or.inl ⟨i + 1, by omega, fun a x => hs_b0 d c, fun z => absurd c z, fun _ => rfl⟩
    · refine Or.inr ⟨fun a x => ?_, fun z => absurd c z, fun _ => by omega⟩
      rw [show i = 3 by omega]
      exact hs_b1 c
  · rw [if_neg c] at hi
    by_cases d : i < hn
    · exact Or.inl ⟨i, d, fun a x => hs_a0 d c, fun _ => rfl, fun z => absurd z c⟩
    · refine Or.inr ⟨fun a x => ?_, fun _ => by omega, fun z => absurd z c⟩
      rw [show i = hn by omega]
      exact hs_a1 c
theorem ChP.cwx (hX : CWX G fo own M1 ad np ng f hn ads nps ngs fs tl tb) (hn4 : hn ≤ 4) (h : ChP G fo own M1 M ad np ng f hn ads nps ngs fs tl tb) : ∃ own' ad2 g2, CWX G fo own' M ad np ng f (hnN hn) (hsN hn ads ad2) (hsN hn nps np) (hsN hn ngs ng) (hsN hn fs g2) tl tb ∧ copyE f g2 ∧ Fr M1 own M own' := by
  obtain ⟨own', ad2, g2, hF, hA, hH, hC, z0, hcp, how, hfr⟩ := h
  obtain ⟨-, xA, xH, xd, xp⟩ := hX
  refine ⟨own', ad2, g2, ⟨?_, hA, fun i hi => ?_, fun i hi => ?_, fun i j hi hj e => ?_⟩, hcp, fun q hq ho => ⟨hfr q hq (by rw [ho]; exact fun z => by cases z), (how q hq).trans ho⟩⟩
  · rw [show (fun i => (hsN hn ads ad2) i 0) = hsN hn (fun i => ads i 0) (ad2 0) from funext fun i => hs_0]
    exact hF
  · rcases hs_cases hn4 hi with ⟨j, hj, e, -⟩ | ⟨e, -⟩
    · rw [e, e, e, e]; exact hH j hj
    · rw [e, e, e, e]; exact hC
  · rcases hs_cases hn4 hi with ⟨j, hj, e, -⟩ | ⟨e, -⟩
    · rw [e, e]; exact xd j hj
    · rw [e, e]; refine ⟨?_, hcp.2.2.2⟩; exact fun z => xA.ne (r := 0) (by decide) (by rw [← z]; exact z0)
  · rcases hs_cases hn4 hi with ⟨i', hi', e1, a1, a2⟩ | ⟨e1, a1, a2⟩
    · rcases hs_cases hn4 hj with ⟨j', hj', e2, b1, b2⟩ | ⟨e2, b1, b2⟩
      · rw [e1, e2] at e
        have := xp i' j' hi' hj' e
        by_cases c : hn = 4
        · have := a2 c; have := b2 c; omega
        · have := a1 c; have := b1 c; omega
      · rw [e1, e2] at e
        exact absurd z0 (by rw [← e]; exact (xH i' hi').ne (r := 0) (by decide))
    · rcases hs_cases hn4 hj with ⟨j', hj', e2, b1, b2⟩ | ⟨e2, b1, b2⟩
      · rw [e1, e2] at e
        exact absurd z0 (by rw [e]; exact (xH j' hj').ne (r := 0) (by decide))
      · by_cases c : hn = 4
        · have := a2 c; have := b2 c; omega
        · have := a1 c; have := b1 c; omega
/-- the present station is changed -/
theorem CWX.mut (h : CWX G fo own M ad np ng f hn ads nps ngs fs tl tb) (hS : Sta G ad3 np3 ng3 M M2 f2) (e0 : ad3 0 = ad 0) (hN : adN np3 ng3 ad3) (hr : ∀ r, r < 32 → (∃ r', r' < 32 ∧ ad3 r = ad r') ∨ M (ad3 r) = none) (hI : ∃ T nz, T ≤ 20000 ∧ SI T np3 nz ng3 f2) : ∃ own2 ad4, CWX G fo own2 M2 ad4 np3 ng3 f2 hn ads nps ngs fs tl tb ∧ ad4 0 = ad 0 ∧ Fr M own M2 own2 := by
  obtain ⟨⟨dq, tx, da, va, h, t, cap, gq, gb, ml, hfo, hdq, hda, hb, hgq, htx, hw⟩, hA, hH, hd, hp⟩ := h
  obtain ⟨ad4, hI4, e4, hr4⟩ := hS.renew (own := own) hN hI
  have k4 : ∀ r, r < 32 → (∃ r', r' < 32 ∧ ad4 r = ad r') ∨ M (ad4 r) = none := fun r hr9 => by
    rcases hr4 r hr9 with ⟨r', h1, e⟩ | z
    · rw [e]; exact hr r' h1
    · exact Or.inr z
  have oA := hA.2.2.2.1
  -- a cell that is another's is neither written nor owned anew
  have off : ∀ q, M q ≠ none → own q ≠ some (ad 0) → M2 q = M q ∧ reO own ad4 q = own q := fun q hq ho => by
    refine ⟨?_, reO_n fun r hr9 z => ?_⟩
    · obtain ⟨nn, b9, bx, hB⟩ := hS
      refine hB.2.2.2.2.2.2.1 q hq fun r hr9 z => ?_
      rcases hr r hr9 with ⟨r', h1, e⟩ | y
      · exact ho (by rw [← z, e]; exact oA r' h1)
      · rw [z] at y; exact hq y
    · rcases k4 r hr9 with ⟨r', h1, e⟩ | y
      · exact ho (by rw [← z, e]; exact oA r' h1)
      · rw [z] at y; exact hq y
  have nn : ∀ {q : Nat} {e : va_E}, M q = some e → M q ≠ none := fun h => by rw [h]; exact fun z => by cases z
  have nf : some fo ≠ some (ad 0) := fun z => hA.nfo hfo (Option.some.inj z).symm
  have cf : ∀ {q : Nat} {e : va_E}, M q = some e → own q = some fo → M2 q = some e ∧ reO own ad4 q = some fo := fun h ho => by
    obtain ⟨a1, a2⟩ := off _ (nn h) (by rw [ho]; exact nf)
    exact ⟨a1.trans h, a2.trans ho⟩
  obtain ⟨w1, w2, w3, w4, w5⟩ := hw
  refine ⟨reO own ad4, ad4, ⟨⟨dq, tx, da, va, h, t, cap, gq, gb, ml, by rw [e4, e0]; exact (cf hfo w1).1, (cf hdq w2).1, (cf hda w3).1, hb, hgq, ⟨(cf htx.1 w4).1, (cf htx.2.1 w5).1, htx.2.2⟩, (cf hfo w1).2, (cf hdq w2).2, (cf hda w3).2, (cf htx.1 w4).2, (cf htx.2.1 w5).2⟩, hI4, fun i hi => ?_, fun i hi => by rw [e4, e0]; exact hd i hi, hp⟩, e4.trans e0, fun q hq ho => ?_⟩
  · have hX := hH i hi
    have oX := hX.2.2.2.1
    have nX : some (ads i 0) ≠ some (ad 0) := fun z => (hd i hi).1 (Option.some.inj z)
    refine hX.keep (W := fun q => own q = some (ad 0) ∧ ∃ r, r < 32 ∧ ad r = q) (fun q hq hn9 => ?_) (fun r hr9 z => ?_) (fun q fs9 z => ?_) (fun q fs9 z => ?_) (fun r hr9 => (off _ (hX.ne hr9) (by rw [oX r hr9]; exact nX)).2)
    · by_cases c : ∃ r, r < 32 ∧ ad r = q
      · exact absurd ⟨by obtain ⟨r, hr9, e⟩ := c; rw [← e]; exact oA r hr9, c⟩ hn9
      · obtain ⟨nn9, b9, bx, hB⟩ := hS
        refine hB.2.2.2.2.2.2.1 q hq fun r hr9 z => ?_
        rcases hr r hr9 with ⟨r', h1, e⟩ | y
        · exact c ⟨r', h1, e.symm.trans z⟩
        · rw [z] at y; exact hq y
    · rw [oX r hr9] at z; exact nX z.1
    · obtain ⟨-, r, hr9, e⟩ := z
      rw [← e]; exact hA.cl hr9 (by decide) fs9
    · obtain ⟨-, r, hr9, e⟩ := z
      rw [← e]; exact hA.cl hr9 (by decide) fs9
  · obtain ⟨a1, a2⟩ := off q hq (by rw [ho]; exact fun z => by cases z)
    exact ⟨a1, a2.trans ho⟩
/-- the same addresses -/
theorem CWX.mut0 (h : CWX G fo own M ad np ng f hn ads nps ngs fs tl tb) (hS : Sta G ad np ng M M2 f2) (hI : ∃ T nz, T ≤ 20000 ∧ SI T np nz ng f2) : ∃ own2 ad4, CWX G fo own2 M2 ad4 np ng f2 hn ads nps ngs fs tl tb ∧ ad4 0 = ad 0 ∧ Fr M own M2 own2 :=
  h.mut hS rfl h.2.1.2.1 (fun r hr => Or.inl ⟨r, hr, rfl⟩) hI
/-- what the reference's numbers are -/
def RelV (v : Nat → Nat → Int32) (s : Int32) (f : Nat → Int32) (hn : Nat) (fs : Nat → Nat → Int32) (tl : Nat) (tb : Nat → Int32) : Prop :=
  (hn ≤ 4 ∧ tl ≤ 60) ∧ v = Vf v s (z7 f) ∧ v 0 2 = nI hn ∧ (∀ i p, i < hn → p < 170 → v 2 (170 * i + p) = Rf (fs i) p) ∧ v 0 6 = nI tl ∧ ∀ i, i < tl → v 4 i = tb i ∧ ∃ k, 32 ≤ k ∧ k ≤ 126 ∧ tb i = nI k
theorem save_51_at (v w0 : Nat → Nat → Int32) {b : Nat} (hb : tN (w0 0 2) = b) : ∀ (n k : Nat) (w : Nat → Nat → Int32), k ≤ 170 → 170 < k + n → (∀ j, mf_save_51 v w0 n k w 2 j = if 170 * b + k ≤ j ∧ j < 170 * b + 170 then w 1 (j - 170 * b) else w 2 j) ∧ mf_save_51 v w0 n k w 0 2 = w 0 2 + 1 := by
  intro n
  induction n with
  | zero => intro k w h1 h2; exfalso; omega
  | succ n ih =>
    intro k w h1 h2
    rw [mf_save_51]
    by_cases c : 170 ≤ k
    · rw [if_pos c]
      refine ⟨fun j => ?_, u2_s⟩
      rw [if_neg (by omega), u2_r (by decide)]
    · rw [if_neg c, hb]
      obtain ⟨h3, h4⟩ := ih (k + 1) (u2 w 2 (170 * b + k) (w 1 k)) (by omega) (by omega)
      refine ⟨fun j => ?_, h4.trans (by rw [u2_r (by decide)])⟩
      rw [h3, u2_r (by decide)]
      by_cases e : j = 170 * b + k
      · subst e
        rw [if_neg (by omega), if_pos ⟨Nat.le_refl _, by omega⟩, u2_s, show 170 * b + k - 170 * b = k by omega]
      · rw [u2_k e]
        by_cases c2 : 170 * b + (k + 1) ≤ j ∧ j < 170 * b + 170
        · rw [if_pos c2, if_pos ⟨by omega, c2.2⟩]
        · rw [if_neg c2, if_neg (by omega)]
theorem save_10_at (v : Nat → Nat → Int32) : ∀ (n k : Nat) (w : Nat → Nat → Int32), k ≤ 510 → 510 < k + n → ∃ u : Nat → Nat → Int32, mf_save_10 v n k w = mf_save_49 v u ∧ (∀ j, u 2 j = if k ≤ j ∧ j < 510 then w 2 (j + 170) else w 2 j) ∧ u 0 2 = w 0 2 - 1 ∧ u 1 = w 1 := by
  intro n
  induction n with
  | zero => intro k w h1 h2; exfalso; omega
  | succ n ih =>
    intro k w h1 h2
    rw [mf_save_10]
    by_cases c : 510 ≤ k
    · rw [if_pos c]
      refine ⟨_, rfl, fun j => ?_, u2_s, u2_r (by decide)⟩
      rw [if_neg (by omega), u2_r (by decide)]
    · rw [if_neg c]
      obtain ⟨u, e, h3, h4, h5⟩ := ih (k + 1) (u2 w 2 k (w 2 (k + 170))) (by omega) (by omega)
      refine ⟨u, e, fun j => ?_, h4.trans (by rw [u2_r (by decide)]), h5.trans (u2_r (by decide))⟩
      rw [h3]
      by_cases c1 : k + 1 ≤ j ∧ j < 510
      · rw [if_pos c1, if_pos ⟨by omega, c1.2⟩, u2_k (by omega)]
      · rw [if_neg c1]
        by_cases e2 : j = k
        · subst e2
          rw [u2_s, if_pos ⟨Nat.le_refl _, by omega⟩]
        · rw [u2_k e2, if_neg (by omega)]
theorem save_new (hv : v 0 2 = nI hn) (h4 : hn ≠ 4) (hn4 : hn ≤ 4) : mf_save v 0 2 = nI (hn + 1) ∧ ∀ j, mf_save v 2 j = if 170 * hn ≤ j ∧ j < 170 * hn + 170 then v 1 (j - 170 * hn) else v 2 j := by
  have hne : ¬ v 0 2 = 4 := fun z => by
    have := congrArg tN (hv.symm.trans z)
    rw [tN_nI (by omega)] at this
    exact h4 this
  rw [mf_save, if_neg hne, mf_save_49]
  obtain ⟨a, b⟩ := save_51_at v v (b := hn) (by rw [hv, tN_nI (by omega)]) 180 0 v (by decide) (by decide)
  refine ⟨by rw [b, hv, show (1 : Int32) = nI 1 from rfl, nI_add], fun j => ?_⟩
  rw [a j]
  rfl
theorem save_old (hv : v 0 2 = nI 4) : mf_save v 0 2 = nI 4 ∧ ∀ j, mf_save v 2 j = if 510 ≤ j ∧ j < 680 then v 1 (j - 510) else if j < 510 then v 2 (j + 170) else v 2 j := by
  rw [mf_save, if_pos (show v 0 2 = 4 from hv)]
  obtain ⟨u, e, u2, u0, u1⟩ := save_10_at v 520 0 v (by decide) (by decide)
  have u3 : u 0 2 = nI 3 := by rw [u0, hv]; rfl
  rw [e, mf_save_49]
  obtain ⟨a, b⟩ := save_51_at v u (b := 3) (by rw [u3, tN_nI (by omega)]) 180 0 u (by decide) (by decide)
  refine ⟨by rw [b, u3]; rfl, fun j => ?_⟩
  rw [a j, u1, u2 j]
  by_cases c : 510 ≤ j ∧ j < 680
  · rw [if_pos c, if_pos (by omega)]
  · rw [if_neg c]
    try rw [if_neg (show ¬ (170 * 3 + 0 ≤ j ∧ j < 170 * 3 + 170) by omega)]
    by_cases d : j < 510
    · rw [if_pos d, if_pos (show 0 ≤ j ∧ j < 510 from ⟨Nat.zero_le _, d⟩)]
    · rw [if_neg d, if_neg (show ¬ (0 ≤ j ∧ j < 510) by omega)]
theorem Vf_row (h1 : ∀ k, k ≤ 170 → v 1 k = Vf v s f 1 k) : v = Vf v s f := by
  funext r k
  by_cases c : r = 1
  · subst c
    by_cases d : k ≤ 170
    · exact h1 k d
    · unfold Vf
      rw [if_pos rfl, if_neg (by omega), if_neg (by omega)]
  · rw [Vf_r c]
theorem Rf_z7 {k : Nat} (hk : k < 170) : Rf (z7 f) k = Rf f k := by
  unfold z7
  by_cases c : k < 127
  · rw [Rf_at c, Rf_at c, pk_un (by omega)]
  · unfold Rf nC
    rw [if_neg c, if_neg c, pk_un (show 18 ≠ 177 by decide), pk_un (show 19 ≠ 177 by decide)]
    by_cases d : k < 134
    · rw [if_pos d, if_pos d, pk_un (by omega)]
    · rw [if_neg d, if_neg d, if_pos hk, if_pos hk, pk_un (by omega)]
theorem RelV.at (h : RelV v s f hn fs tl tb) {k : Nat} (hk : k < 170) : v 1 k = Rf f k := by
  rw [h.2.1]
  unfold Vf
  rw [if_pos rfl, if_pos hk, Rf_z7 hk]
theorem RelV.save (h : RelV v s f hn fs tl tb) (hc : copyE f g) : RelV (mf_save v) s f (hnN hn) (hsN hn fs g) tl tb := by
  have hat := fun {k : Nat} (hk : k < 170) => h.at hk
  obtain ⟨⟨hn4, ht⟩, e1, e2, e3, e6, e4⟩ := h
  have r1 : mf_save v = Vf (mf_save v) s (z7 f) := Vf_row fun k hk => by
    rw [save_1]
    have := congrFun (congrFun e1 1) k
    rw [this]
    unfold Vf
    rw [if_pos rfl, if_pos rfl]
    by_cases c : k < 170
    · rw [if_pos c, if_pos c]
    · rw [if_neg c, if_neg c, if_pos (by omega), if_pos (by omega)]
  refine ⟨⟨by unfold hnN; split <;> omega, ht⟩, r1, ?_, fun i p hi hp => ?_, by rw [save_0 (by decide)]; exact e6, fun i hi => by rw [save_r (by decide) (by decide)]; exact e4 i hi⟩
  · by_cases c : hn = 4
    · unfold hnN; rw [if_pos c]; exact (save_old (by rw [e2, c])).1
    · unfold hnN; rw [if_neg c]; exact (save_new e2 c hn4).1
  · by_cases c : hn = 4
    · have s2 := (save_old (v := v) (by rw [e2, c])).2 (170 * i + p)
      unfold hnN at hi
      rw [if_pos c] at hi
      by_cases d : i = 3
      · rw [s2, if_pos (by omega), d, hs_b1 c, show 170 * 3 + p - 510 = p by omega, hat hp, Rf_copy hc hp]
      · rw [s2, if_neg (by omega), if_pos (by omega), hs_b0 (by omega) c, show 170 * i + p + 170 = 170 * (i + 1) + p by omega]
        exact e3 (i + 1) p (by omega) hp
    · have s2 := (save_new e2 c hn4).2 (170 * i + p)
      unfold hnN at hi
      rw [if_neg c] at hi
      by_cases d : i = hn
      · rw [s2, if_pos (by omega), d, hs_a1 c, show 170 * hn + p - 170 * hn = p by omega, hat hp, Rf_copy hc hp]
      · rw [s2, if_neg (by omega), hs_a0 (by omega) c]
        exact e3 i p (by omega) hp
end CX

