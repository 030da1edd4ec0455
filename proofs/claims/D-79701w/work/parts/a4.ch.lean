set_option maxRecDepth 100000
/-! CH: a change: the station copied into the history -/
def CWF (G : mg) (fo : Nat) (own : Nat → Option Nat) (M : mh) (a0 hn : Nat) (ha : Nat → Nat) (tl : Nat) (tb : Nat → Int32) : Prop :=
  ∃ (dq tx da va h t cap : Nat) (gq : Nat → Option Nat) (gb : Nat → Int32) (ml : Int32), M fo = some (.inr (0, [.ref a0, .ref dq, .ref tx])) ∧ M dq = some (.inr (11, [.ref da, .int (nI h), .int (nI t)])) ∧ M da = some (mRc (G.1.1 103) 17 gq) ∧ (h < 17 ∧ t < 17 ∧ (t + 17 - h) % 17 = hn) ∧ (∀ i, i < hn → gq ((h + i) % 17) = some (ha i)) ∧
  (M tx = some (.inr (12, [.ref va, .int (0 : Int32), .int ml, .int (nI tl)])) ∧ M va = some (mIc (G.1.1 102) cap gb) ∧ tl ≤ cap ∧ cap ≤ 1000 ∧ (∀ i, i < tl → gb i = tb i) ∧ ∀ i, i < cap → fits .byte (.int (gb i)) = true) ∧ (own fo = some fo ∧ own dq = some fo ∧ own da = some fo ∧ own tx = some fo ∧ own va = some fo)
def hsN {α : Type} (hn : Nat) (a : Nat → α) (x : α) : Nat → α := fun i => if hn = 4 then (if i < 3 then a (i + 1) else x) else (if i < hn then a i else x)
def hnN (hn : Nat) : Nat := if hn = 4 then 4 else hn + 1
def copyE (f g : Nat → Int32) : Prop := (∀ p, p < 170 → g p = f p) ∧ (∀ p, 200 ≤ p → g p = f p) ∧ g 176 = 0 ∧ g 177 = 0
def ChP (G : mg) (fo : Nat) (own : Nat → Option Nat) (M1 M : mh) (ad : Nat → Nat) (np ng : Nat) (f : Nat → Int32) (hn : Nat) (ads : Nat → Nat → Nat) (nps ngs : Nat → Nat) (fs : Nat → Nat → Int32) (tl : Nat) (tb : Nat → Int32) : Prop :=
  ∃ (own' : Nat → Option Nat) (ad2 : Nat → Nat) (g2 : Nat → Int32), CWF G fo own' M (ad 0) (hnN hn) (hsN hn (fun i => ads i 0) (ad2 0)) tl tb ∧ ImG G own' M ad np ng f ∧ (∀ i, i < hn → ImG G own' M (ads i) (nps i) (ngs i) (fs i)) ∧ ImG G own' M ad2 np ng g2 ∧ M1 (ad2 0) = none ∧ copyE f g2 ∧ (∀ q, M1 q ≠ none → own' q = own q) ∧ ∀ q, M1 q ≠ none → own q ≠ some fo → M q = M1 q
section CH
variable {G : mg} {own : Nat → Option Nat} {M M1 M9 M2 : mh} {ad ad2 : Nat → Nat} {np ng hn tl a b fo T nz : Nat} {f g : Nat → Int32} {ads : Nat → Nat → Nat} {nps ngs : Nat → Nat} {fs : Nat → Nat → Int32} {tb : Nat → Int32}
theorem Rf_copy (h : copyE f g) {p : Nat} (hp : p < 170) : Rf g p = Rf f p := by
  have n18 : nC g 18 = nC f 18 := congrArg tN (h.1 18 (by decide))
  have n19 : nC g 19 = nC f 19 := congrArg tN (h.1 19 (by decide))
  unfold Rf
  rw [n18, n19, h.1 p hp]
  by_cases c : p < 127
  · rw [if_pos c, if_pos c]
  · rw [if_neg c, if_neg c]
    by_cases c2 : p < 134
    · rw [if_pos c2, if_pos c2, h.2.1 _ (by omega)]
    · rw [if_neg c2, if_neg c2]
theorem Vf_copy (h : copyE f g) {w : Nat → Nat → Int32} {s : Int32} : Vf w (s ||| f 177) g = Vf w s f := by
  funext r k
  unfold Vf
  by_cases c : r = 1
  · rw [if_pos c, if_pos c]
    by_cases c2 : k < 170
    · rw [if_pos c2, if_pos c2, Rf_copy h c2]
    · rw [if_neg c2, if_neg c2]
      by_cases c3 : k = 170
      · rw [if_pos c3, if_pos c3, h.2.2.2]
        exact Int32.or_zero
      · rw [if_neg c3, if_neg c3]
  · rw [if_neg c, if_neg c]
theorem SI.copy (h : copyE f g) (hS : SI T np nz ng f) : SI T np nz ng g := by
  have hn := hS.n6
  refine ⟨IP_Rf (w := fun _ _ => 0) (s := 0 ||| f 177) (by rw [Vf_copy h]; exact IP_Vf hS.ip), fun k hk => ?_, ⟨0, by decide, by rw [h.2.2.1]; exact nI_0.symm⟩, hS.vr.cong (h.1 4 (by decide)) (fun d => h.1 _ (by obtain ⟨e5, h5⟩ := isP_n hS.var d hn; omega)) (fun d => h.1 _ (by obtain ⟨e5, h5⟩ := isP_n hS.var d hn; omega))⟩
  rw [h.1 _ (by omega)]
  exact hS.2.1 k hk
theorem ImG.keep2 (h : ImG G own M1 ad np ng f) (hk : ∀ q, M1 q ≠ none → q ≠ a → q ≠ b → M2 q = M1 q) (ha : own a = some fo) (hb : own b = some fo) (hne : ad 0 ≠ fo) (ha7 : ∀ c fs, (c = 7 ∨ c = 14) → M1 a ≠ some (.inr (c, fs))) (hb7 : ∀ c fs, (c = 7 ∨ c = 14) → M1 b ≠ some (.inr (c, fs))) : ImG G own M2 ad np ng f := by
  have hw := h.2.2.2.1
  refine h.keep (W := fun q => q = a ∨ q = b) (fun q hq hn => hk q hq (fun z => hn (Or.inl z)) (fun z => hn (Or.inr z))) (fun r hr z => ?_) (fun q fs z => ?_) (fun q fs z => ?_) (fun _ _ => rfl)
  · have := hw r hr
    rcases z with z | z
    · rw [z, ha] at this; exact hne (Option.some.inj this).symm
    · rw [z, hb] at this; exact hne (Option.some.inj this).symm
  · rcases z with z | z
    · rw [z]; exact ha7 7 fs (Or.inl rfl)
    · rw [z]; exact hb7 7 fs (Or.inl rfl)
  · rcases z with z | z
    · rw [z]; exact ha7 14 fs (Or.inr rfl)
    · rw [z]; exact hb7 14 fs (Or.inr rfl)
theorem mR_no {c n k : Nat} {g : Nat → Option Nat} {fs : List Value} : (mRc (G.1.1 k) n g : va_E) ≠ .inr (c, fs) := fun z => by
  unfold mRc at z
  cases z
theorem ImG.nfo (h : ImG G own M ad np ng f) {fs : List Value} (hf : M fo = some (.inr (0, fs))) : ad 0 ≠ fo := fun z => by
  have := h.1.st
  rw [z, hf] at this
  cases this
theorem hs_a0 {α : Type} {a : Nat → α} {x : α} {i : Nat} (h : i < hn) (h4 : hn ≠ 4) : hsN hn a x i = a i := by
  unfold hsN
  rw [if_neg h4, if_pos h]
theorem hs_a1 {α : Type} {a : Nat → α} {x : α} (h4 : hn ≠ 4) : hsN hn a x hn = x := by
  unfold hsN
  rw [if_neg h4, if_neg (Nat.lt_irrefl _)]
theorem hs_b0 {α : Type} {a : Nat → α} {x : α} {i : Nat} (h : i < 3) (h4 : hn = 4) : hsN hn a x i = a (i + 1) := by
  unfold hsN
  rw [if_pos h4, if_pos h]
theorem hs_b1 {α : Type} {a : Nat → α} {x : α} (h4 : hn = 4) : hsN hn a x 3 = x := by
  unfold hsN
  rw [if_pos h4, if_neg (by decide)]
/-- the end of a change -/
theorem ch_fin {dq tx da va h t cap h2 t2 : Nat} {gq gq2 : Nat → Option Nat} {gb : Nat → Int32} {ml : Int32} (hfo : M1 fo = some (.inr (0, [.ref (ad 0), .ref dq, .ref tx]))) (hdq : M1 dq = some (.inr (11, [.ref da, .int (nI h), .int (nI t)]))) (hda : M1 da = some (mRc (G.1.1 103) 17 gq))
    (htx : M1 tx = some (.inr (12, [.ref va, .int (0 : Int32), .int ml, .int (nI tl)])) ∧ M1 va = some (mIc (G.1.1 102) cap gb) ∧ tl ≤ cap ∧ cap ≤ 1000 ∧ (∀ i, i < tl → gb i = tb i) ∧ ∀ i, i < cap → fits .byte (.int (gb i)) = true) (hw : own fo = some fo ∧ own dq = some fo ∧ own da = some fo ∧ own tx = some fo ∧ own va = some fo)
    (hA : ImG G own M1 ad np ng f) (hH : ∀ i, i < hn → ImG G own M1 (ads i) (nps i) (ngs i) (fs i)) (hE : ∀ q, M1 q ≠ none → M9 q = M1 q) (hI2 : ImG G (reO own ad2) M9 ad2 np ng g) (hfr : ∀ r, r < 32 → M1 (ad2 r) = none) (hcp : copyE f g) (hK : ∀ q, q ≠ da → q ≠ dq → M q = M9 q)
    (hdq2 : M dq = some (.inr (11, [.ref da, .int (nI h2), .int (nI t2)]))) (hda2 : M da = some (mRc (G.1.1 103) 17 gq2)) (hb : h2 < 17 ∧ t2 < 17 ∧ (t2 + 17 - h2) % 17 = hnN hn) (hgq : ∀ i, i < hnN hn → gq2 ((h2 + i) % 17) = some (hsN hn (fun i => ads i 0) (ad2 0) i)) : ChP G fo own M1 M ad np ng f hn ads nps ngs fs tl tb := by
  have nn : ∀ {q : Nat} {e : va_E}, M1 q = some e → M1 q ≠ none := fun h => by rw [h]; exact fun z => by cases z
  have ow : ∀ q, M1 q ≠ none → reO own ad2 q = own q := fun q hq => reO_n fun r hr z => hq (by rw [← z]; exact hfr r hr)
  have odq : reO own ad2 dq = some fo := (ow dq (nn hdq)).trans hw.2.1
  have oda : reO own ad2 da = some fo := (ow da (nn hda)).trans hw.2.2.1
  have h9dq := ext_at hE hdq
  have h9da := ext_at hE hda
  have hkk : ∀ q, M9 q ≠ none → q ≠ da → q ≠ dq → M q = M9 q := fun q _ h1 h2 => hK q h1 h2
  have a7 : ∀ c fs, (c = 7 ∨ c = 14) → M9 da ≠ some (.inr (c, fs)) := fun c fs _ z => by
    rw [h9da] at z
    exact mR_no (Option.some.inj z)
  have q7 : ∀ c fs, (c = 7 ∨ c = 14) → M9 dq ≠ some (.inr (c, fs)) := fun c fs hc z => by
    rw [h9dq] at z
    cases z
    omega
  have old : ∀ {a3 : Nat → Nat} {n3 g3 : Nat} {f3 : Nat → Int32}, ImG G own M1 a3 n3 g3 f3 → ImG G (reO own ad2) M a3 n3 g3 f3 := fun {a3 n3 g3 f3} h => by
    have h9 : ImG G (reO own ad2) M9 a3 n3 g3 f3 := h.keep (W := fun _ => False) (fun q hq _ => hE q hq) (fun _ _ z => z) (fun _ _ z => z.elim) (fun _ _ z => z.elim) (fun r hr => ow _ (h.ne hr))
    exact h9.keep2 hkk oda odq (h.nfo hfo) a7 q7
  have kf : ∀ {q : Nat} {e : va_E}, M1 q = some e → q ≠ da → q ≠ dq → M q = some e := fun h h1 h2 => (hK _ h1 h2).trans (ext_at hE h)
  have fda : fo ≠ da := fun z => by rw [z, hda] at hfo; exact mR_no (Option.some.inj hfo)
  have fdq : fo ≠ dq := fun z => by rw [z, hdq] at hfo; cases hfo
  have tda : tx ≠ da := fun z => by have := htx.1; rw [z, hda] at this; exact mR_no (Option.some.inj this)
  have tdq : tx ≠ dq := fun z => by have := htx.1; rw [z, hdq] at this; cases this
  have vda : va ≠ da := fun z => by
    have := htx.2.1
    rw [z, hda] at this
    simp [mRc, mIc] at this
  have vdq : va ≠ dq := fun z => by
    have := htx.2.1
    rw [z, hdq] at this
    unfold mIc at this
    cases this
  refine ⟨reO own ad2, ad2, g, ⟨dq, tx, da, va, h2, t2, cap, gq2, gb, ml, kf hfo fda fdq, hdq2, hda2, hb, hgq, ⟨kf htx.1 tda tdq, kf htx.2.1 vda vdq, htx.2.2⟩, (ow _ (nn hfo)).trans hw.1, odq, oda, (ow _ (nn htx.1)).trans hw.2.2.2.1, (ow _ (nn htx.2.1)).trans hw.2.2.2.2⟩, old hA, fun i hi => old (hH i hi), hI2.keep2 hkk oda odq (fun z => nn hfo (by rw [← z]; exact hfr 0 (by decide))) a7 q7, hfr 0 (by decide), hcp, ow, fun q hq ho => ?_⟩
  rw [hK q (fun z => ho (by rw [z]; exact hw.2.2.1)) (fun z => ho (by rw [z]; exact hw.2.1))]
  exact hE q hq
end CH

