set_option maxRecDepth 100000
/-! MR: the map's public methods over MapP -/
theorem Met_q {l : Launch} {y : MethodName} {ws : List Cond} {rm : Room} {as : List Value} {G : mg} {A : Nat → Prop} {A' : Addr → Prop} {C : mh → Prop} {mc ms : Nat} {P P' : Option Nat → mh → Prop} (h : Met l y ws rm (va_Pc as (mU G A C)) (mQq G A P) mc ms A') (hq : ∀ r M, P r M → P' r M) : Met l y ws rm (va_Pc as (mU G A C)) (mQq G A P') mc ms A' := by
  intro p e ha hf hc s m args below hs hap hP hk
  obtain ⟨n, o, a, b, c, d, L⟩ := h p e ha hf hc s m args below hs hap hP hk
  exact ⟨n, o, a, b, c, mQq_imp hq d, L⟩
theorem ct_Mget (l : Launch) (G : mg) (A : Nat → Prop) (M1 M00 : mh) (ta : Nat) (cnt : Int32 → Nat) (b : Bool) (q0 : Nat) (K : Int32) (h : MapP G M00 M1 ta cnt b) (hq : boxAt G M1 q0 K) : Met l yJ20_get (ws_ yJ20_get cJ20_get 3 (some (.object "java/lang/Object"))) ({ frames := 4, cells := 0, slots := 0, locals := 87 }) (va_Pc [.ref (ta), .ref q0] (mU G A (fun M => M = M1))) (mQq G A (fun r M => ((cnt K = 0 ∧ r = none) ∨ ∃ a, r = some a ∧ boxAt G M a (nI (cnt K)) ∧ cnt K ≠ 0) ∧ M = M1)) 0 0 A := by
  obtain ⟨ad, np, mm, f, lo, hi, ps, S, ky, e0, hM, hX, hf, hk, hv, hs, hc, h1, h2, h3⟩ := h.get_b
  subst e0
  refine Met_q (ct_mget l G A ad np M1 f mm lo hi ps S ky q0 K hM hX hs hk (bxo.of hM hq)) (fun r M hp => ?_)
  · skip
    obtain ⟨⟨o, ho, er⟩, eM⟩ := hp
    subst eM
    refine ⟨?_, rfl⟩
    rcases ho with ⟨k, rfl, s, e⟩ | ⟨rfl, hn⟩
    · obtain ⟨⟨a, a1, a2⟩, a3⟩ := hv k s
      rw [e] at a2 a3
      exact Or.inr ⟨a, er.trans a1, a2.at hM, a3⟩
    · refine Or.inl ⟨?_, er⟩
      apply Classical.byContradiction
      intro c
      obtain ⟨k, s, e⟩ := hc K c
      exact hn k s e
theorem ct_Mput (l : Launch) (G : mg) (A : Nat → Prop) (M1 M00 : mh) (ta : Nat) (cnt : Int32 → Nat) (q0 v0 c : Nat) (K : Int32) (h : MapP G M00 M1 ta cnt true) (hq : boxAt G M1 q0 K) (hvb : boxAt G M1 v0 (nI c)) (hc0 : c ≠ 0) : Met l yJ20_put (ws_ yJ20_put cJ20_put 3 (some (.object "java/lang/Object"))) ({ frames := 6, cells := 1, slots := 6, locals := 136 }) (va_Pc [.ref (ta), .ref q0, .ref v0] (mU G A (fun M => M = M1))) (mQq G A (fun r M => MapP G M00 M ta (cset cnt K c) true ∧ KeepN M1 M ∧ (r = none ∨ ∃ a, r = some a ∧ ∃ v, boxAt G M a v))) 1 6 A := by
  obtain ⟨ad, np, mm, f, lo, hi, ps, S, ky, e0, hM, hX, hf, hk, hv, hs, hc, h1, h2, h3⟩ := h.get_b
  subst e0
  refine Met_q (ct_mput l G A ad np M1 f mm lo hi ps S ky q0 v0 K hM hX (hf rfl) hs hk (bxo.of hM hq)) (fun r M hp => ?_)
  · skip
    have hr : r = none ∨ ∃ k, S k ∧ r = f k 5 := by
      rcases hp with ⟨k, s, _, _, e⟩ | ⟨e, _⟩
      · exact Or.inr ⟨k, s, e⟩
      · exact Or.inl e
    obtain ⟨p1, p2⟩ := h.put rfl hM hX (hf rfl) hk hv hs hc h1 h2 h3 hq hvb hc0 hp
    refine ⟨p1, p2, ?_⟩
    rcases hr with hr | ⟨k, s, hr⟩
    · exact Or.inl hr
    · obtain ⟨⟨a, a1, a2⟩, a3⟩ := hv k s
      exact Or.inr ⟨a, hr.trans a1, _, p2.box (a2.at hM)⟩
theorem ct_Mfirst (l : Launch) (G : mg) (A : Nat → Prop) (M1 M00 : mh) (ta : Nat) (cnt : Int32 → Nat) (b : Bool) (h : MapP G M00 M1 ta cnt b) (hne : ∃ v, cnt v ≠ 0) : Met l yJ20_firstEntry (ws_ yJ20_firstEntry cJ20_firstEntry 1 (some (.object "java/util/Map$Entry"))) ({ frames := 3, cells := 1, slots := 2, locals := 61 }) (va_Pc [.ref (ta)] (mU G A (fun M => M = M1))) (mQq G A (fun r M => ∃ q a K1 kk, r = some q ∧ M q = some (.inr (17, [va_rf kk, .ref a])) ∧ boxAt G M a (nI (cnt K1)) ∧ cnt K1 ≠ 0 ∧ (∀ v, cnt v ≠ 0 → K1 ≤ v) ∧ MapP G M00 M ta cnt b ∧ ∀ q, M1 q ≠ none → M q = M1 q)) 1 2 A := by
  obtain ⟨ad, np, mm, f, lo, hi, ps, S, ky, e0, hM, hX, hf, hk, hv, hs, hc, h1, h2, h3⟩ := h.get_b
  subst e0
  obtain ⟨v0, hv0⟩ := hne
  obtain ⟨k0, s0, _⟩ := hc v0 hv0
  refine Met_q (ct_mfirst l G A ad np M1 f mm lo hi ps S hM hX (hX.y.rot s0)) (fun r M hp => ?_)
  · skip
    have mn : ∀ p, S p → ps p = 1 → ∀ v, cnt v ≠ 0 → ky p ≤ v := fun p s e v hv' => by
      obtain ⟨k, s2, e2⟩ := hc v hv'
      have b1 := hX.1.b (hX.s s2)
      rcases Nat.lt_or_ge (ps p) (ps k) with z | z
      · rw [← e2]
        exact Int32.le_of_lt (hs p k s s2 z)
      · have := hX.1.psj (hX.s s2) (hX.s s) (by omega)
        subst this
        rw [e2]
        exact Int32.le_refl _
    obtain ⟨p, q, s, e1, er, hq', he⟩ := hp
    obtain ⟨⟨a, a1, a2⟩, a3⟩ := hv p s
    refine ⟨q, a, ky p, f p 4, er, by rw [hq', a1]; rfl, (a2.at hM).ext he, a3, mn p s e1, h.ext he, he⟩
theorem ct_Mpoll (l : Launch) (G : mg) (A : Nat → Prop) (M1 M00 : mh) (ta : Nat) (cnt : Int32 → Nat) (b : Bool) (h : MapP G M00 M1 ta cnt b) (hne : ∃ v, cnt v ≠ 0) : Met l yJ20_pollFirstEntry (ws_ yJ20_pollFirstEntry cJ20_pollFirstEntry 3 (some (.object "java/util/Map$Entry"))) ({ frames := 3, cells := 1, slots := 2, locals := 66 }) (va_Pc [.ref (ta)] (mU G A (fun M => M = M1))) (mQq G A (fun r M => ∃ q a K1 kk, r = some q ∧ M q = some (.inr (17, [va_rf kk, .ref a])) ∧ boxAt G M a (nI (cnt K1)) ∧ cnt K1 ≠ 0 ∧ (∀ v, cnt v ≠ 0 → K1 ≤ v) ∧ MapP G M00 M ta (cset cnt K1 0) false)) 1 2 A := by
  obtain ⟨ad, np, mm, f, lo, hi, ps, S, ky, e0, hM, hX, hf, hk, hv, hs, hc, h1, h2, h3⟩ := h.get_b
  subst e0
  obtain ⟨v0, hv0⟩ := hne
  obtain ⟨k0, s0, _⟩ := hc v0 hv0
  refine Met_q (ct_mpoll l G A ad np M1 f mm lo hi ps S hM hX (hX.y.rot s0)) (fun r M hp => ?_)
  · skip
    have mn : ∀ p, S p → ps p = 1 → ∀ v, cnt v ≠ 0 → ky p ≤ v := fun p s e v hv' => by
      obtain ⟨k, s2, e2⟩ := hc v hv'
      have b1 := hX.1.b (hX.s s2)
      rcases Nat.lt_or_ge (ps p) (ps k) with z | z
      · rw [← e2]
        exact Int32.le_of_lt (hs p k s s2 z)
      · have := hX.1.psj (hX.s s2) (hX.s s) (by omega)
        subst this
        rw [e2]
        exact Int32.le_refl _
    obtain ⟨p, q, M2, g, s, e1, er, hq', he, tm, tY, hK⟩ := hp
    obtain ⟨⟨a, a1, a2⟩, a3⟩ := hv p s
    have hM2 := hM.ext he
    have bx : ∀ a v, bxo G ad np M1 a v → bxo G ad np M2 a v := fun a v hb => bxo.of hM2 ((hb.at hM).ext he)
    obtain ⟨p1, p2⟩ := MapP.poll (G := G) (M00 := M00) (ta := ad 0) (cnt := cnt) rfl hM2 hX (fun k hk' => by obtain ⟨a, x1, x2⟩ := hk k hk'; exact ⟨a, x1, bx _ _ x2⟩) (fun k hk' => by obtain ⟨⟨a, x1, x2⟩, x3⟩ := hv k hk'; exact ⟨⟨a, x1, bx _ _ x2⟩, x3⟩) hs hc (fun z hz => by rw [he z (by rw [h1 z hz]; exact hz)]; exact h1 z hz) h2 h3 s tm tY hK e1
    exact ⟨q, a, ky p, f p 4, er, p2 _ _ (by rw [hq', a1]; rfl) (fun fs e => by cases e) (fun fs e => by cases e), p2.box ((a2.at hM).ext he), a3, mn p s e1, p1⟩
theorem ct_Mkey (l : Launch) (G : mg) (A : Nat → Prop) (M1 M00 : mh) (ta : Nat) (cnt : Int32 → Nat) (b : Bool) (h : MapP G M00 M1 ta cnt b) (hne : ∃ v, cnt v ≠ 0) : Met l yJ20_firstKey (ws_ yJ20_firstKey cJ20_firstKey 1 (some (.object "java/lang/Object"))) ({ frames := 1, cells := 0, slots := 0, locals := 21 }) (va_Pc [.ref (ta)] (mU G A (fun M => M = M1))) (mQq G A (fun r M => ∃ a K1, r = some a ∧ boxAt G M a K1 ∧ cnt K1 ≠ 0 ∧ (∀ v, cnt v ≠ 0 → K1 ≤ v) ∧ M = M1)) 0 0 A := by
  obtain ⟨ad, np, mm, f, lo, hi, ps, S, ky, e0, hM, hX, hf, hk, hv, hs, hc, h1, h2, h3⟩ := h.get_b
  subst e0
  obtain ⟨v0, hv0⟩ := hne
  obtain ⟨k0, s0, _⟩ := hc v0 hv0
  refine Met_q (ct_mkey l G A ad np M1 f mm lo hi ps S hM hX (hX.y.rot s0)) (fun r M hp => ?_)
  · skip
    have mn : ∀ p, S p → ps p = 1 → ∀ v, cnt v ≠ 0 → ky p ≤ v := fun p s e v hv' => by
      obtain ⟨k, s2, e2⟩ := hc v hv'
      have b1 := hX.1.b (hX.s s2)
      rcases Nat.lt_or_ge (ps p) (ps k) with z | z
      · rw [← e2]
        exact Int32.le_of_lt (hs p k s s2 z)
      · have := hX.1.psj (hX.s s2) (hX.s s) (by omega)
        subst this
        rw [e2]
        exact Int32.le_refl _
    obtain ⟨⟨p, s, e1, er⟩, eM⟩ := hp
    subst eM
    obtain ⟨a, a1, a2⟩ := hk p s
    exact ⟨a, ky p, er.trans a1, a2.at hM, (hv p s).2, mn p s e1, rfl⟩
