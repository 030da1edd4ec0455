set_option maxRecDepth 100000
/-! MP: the map as counts -/
def MapP (G : mg) (M00 M : mh) (ta : Nat) (cnt : Int32 → Nat) (full : Bool) : Prop :=
  ∃ (ad : Nat → Nat) (np mm : Nat) (f : tT) (lo hi ps : Nat → Nat) (S : Nat → Prop) (ky : Nat → Int32), ad 0 = ta ∧ Tm G ad np M M f ∧ TX np mm f lo hi ps S ∧ (full = true → ∀ k, k < np → S k) ∧
  (∀ k, S k → ∃ a, f k 4 = some a ∧ bxo G ad np M a (ky k)) ∧ (∀ k, S k → (∃ a, f k 5 = some a ∧ bxo G ad np M a (nI (cnt (ky k)))) ∧ cnt (ky k) ≠ 0) ∧
  (∀ i j, S i → S j → ps i < ps j → ky i < ky j) ∧ (∀ v, cnt v ≠ 0 → ∃ k, S k ∧ ky k = v) ∧
  (∀ q, M00 q ≠ none → M q = M00 q) ∧ M00 ta = none ∧ (∀ k, k < np → M00 (ad (20 + k)) = none)
/-- cells that are no map's and no entry's are kept -/
def KeepN (M M' : mh) : Prop := ∀ y e, M y = some e → (∀ fs, e ≠ .inr (15, fs)) → (∀ fs, e ≠ .inr (16, fs)) → M' y = some e
def cset (c : Int32 → Nat) (v : Int32) (x : Nat) : Int32 → Nat := fun w => if w = v then x else c w
section MP
variable {G : mg} {M00 M M' M1 : mh} {ta : Nat} {cnt : Int32 → Nat} {b : Bool} {ad : Nat → Nat} {np : Nat} {f g : tT}
theorem KeepN.rf : KeepN M M := fun _ _ h _ _ => h
theorem KeepN.tr (h1 : KeepN M M1) (h2 : KeepN M1 M') : KeepN M M' := fun y e h a b => h2 y e (h1 y e h a b) a b
theorem KeepN.box (h : KeepN M M') {y : Nat} {v : Int32} (hb : boxAt G M y v) : boxAt G M' y v := by
  rcases hb with hb | hb
  · exact Or.inl (h y _ hb (fun fs e => by cases e) (fun fs e => by cases e))
  · exact Or.inr hb
theorem Tm.keepN (hM : Tm G ad np M M f) (hM' : Tm G ad np M M' g) : KeepN M M' := fun y e h a b => by
  rw [hM'.2.2.2 y (fun q => ?_) (fun k hk q => ?_)]
  · exact h
  · obtain ⟨sz, md, h0⟩ := hM.2.1
    rw [q, h0] at h
    exact a _ (Option.some.inj h).symm
  · have := hM.nd hk
    rw [q, this] at h
    exact b _ (Option.some.inj h).symm
theorem Tm.self (h : Tm G ad np M1 M f) : Tm G ad np M M f := ⟨h.1, h.2.1, h.2.2.1, fun _ _ _ => rfl⟩
/-- the world grows: the map stays -/
theorem MapP.ext (h : MapP G M00 M ta cnt b) (he : ∀ q, M q ≠ none → M' q = M q) : MapP G M00 M' ta cnt b := by
  obtain ⟨ad, np, mm, f, lo, hi, ps, S, ky, e0, hM, hX, hf, hk, hv, hs, hc, h1, h2, h3⟩ := h
  have tm : Tm G ad np M' M' f := by
    obtain ⟨i1, ⟨sz, md, i2⟩, i3, i4⟩ := hM
    exact ⟨i1, ⟨sz, md, (he _ (by rw [i2]; exact fun e => by cases e)).trans i2⟩, fun k hk => (he _ (by rw [i3 k hk]; exact fun e => by cases e)).trans (i3 k hk), fun _ _ _ => rfl⟩
  have bx : ∀ a v, bxo G ad np M a v → bxo G ad np M' a v := fun a v hb => bxo.of tm ((hb.at hM).ext he)
  refine ⟨ad, np, mm, f, lo, hi, ps, S, ky, e0, tm, hX, hf, fun k hk' => ?_, fun k hk' => ?_, hs, hc, fun q hq => ?_, h2, h3⟩
  · obtain ⟨a, a1, a2⟩ := hk k hk'
    exact ⟨a, a1, bx _ _ a2⟩
  · obtain ⟨⟨a, a1, a2⟩, a3⟩ := hv k hk'
    exact ⟨⟨a, a1, bx _ _ a2⟩, a3⟩
  · rw [he q (by rw [h1 q hq]; exact hq)]
    exact h1 q hq
/-- a cell that is no map's and no entry's changes -/
theorem MapP.oth (h : MapP G M00 M ta cnt b) {y : Nat} {e e' : va_E} (hy : M y = some e) (a1 : ∀ fs, e ≠ .inr (15, fs)) (a2 : ∀ fs, e ≠ .inr (16, fs)) (a3 : ∀ fs, e ≠ .inr (14, fs)) (h0 : M00 y = none) : MapP G M00 (va_up M y (some e')) ta cnt b := by
  obtain ⟨ad, np, mm, f, lo, hi, ps, S, ky, e0, hM, hX, hf, hk, hv, hs, hc, h1, h2, h3⟩ := h
  obtain ⟨i1, ⟨sz, md, i2⟩, i3, i4⟩ := hM
  have hM : Tm G ad np M M f := ⟨i1, ⟨sz, md, i2⟩, i3, i4⟩
  have n0 : ad 0 ≠ y := fun q => by rw [q, hy] at i2; exact a1 _ (Option.some.inj i2)
  have nk : ∀ k, k < np → ad (20 + k) ≠ y := fun k hk q => by
    have := i3 k hk
    rw [q, hy] at this
    exact a2 _ (Option.some.inj this)
  have tm : Tm G ad np (va_up M y (some e')) (va_up M y (some e')) f := ⟨i1, ⟨sz, md, (va_up_k n0).trans i2⟩, fun k hk => (va_up_k (nk k hk)).trans (i3 k hk), fun _ _ _ => rfl⟩
  have bx : ∀ a v, bxo G ad np M a v → bxo G ad np (va_up M y (some e')) a v := fun a v hb => bxo.of tm ((hb.at hM).up fun fs q => by rw [hy] at q; exact a3 _ (Option.some.inj q))
  refine ⟨ad, np, mm, f, lo, hi, ps, S, ky, e0, tm, hX, hf, fun k hk' => ?_, fun k hk' => ?_, hs, hc, fun q hq => ?_, h2, h3⟩
  · obtain ⟨a, a1, a2⟩ := hk k hk'
    exact ⟨a, a1, bx _ _ a2⟩
  · obtain ⟨⟨a, a1, a2⟩, a3⟩ := hv k hk'
    exact ⟨⟨a, a1, bx _ _ a2⟩, a3⟩
  · rw [va_up_k (fun z => by rw [z, h0] at hq; exact hq rfl)]
    exact h1 q hq
/-- an empty map -/
theorem MapP.new (h0 : M1 ta = none) {M : mh} (hM : M = va_up M1 ta (some (.inr (15, [.null, .null, .null, .null, .int 0, .int 0, .null, .null, .null])))) : MapP G M1 M ta (fun _ => 0) true := by
  subst hM
  refine ⟨fun r => if r = 0 then ta else r + ta + 1, 0, 0, fun _ _ => none, fun _ => 0, fun _ => 0, fun _ => 0, fun _ => False, fun _ => 0, rfl, ⟨fun i j e => ?_, ⟨0, 0, ?_⟩, fun k hk => absurd hk (by omega), fun _ _ _ => rfl⟩, ⟨⟨fun k hk => absurd hk (Nat.lt_irrefl _), fun k hk => absurd hk (Nat.lt_irrefl _), fun k hk => absurd hk (Nat.lt_irrefl _), fun k hk => absurd hk (Nat.lt_irrefl _), Or.inl ⟨rfl, rfl, fun k => Nat.lt_irrefl _⟩, fun i j hi' => absurd hi' (Nat.lt_irrefl _)⟩, fun k => ⟨fun z => z.elim, fun z => absurd z (Nat.lt_irrefl _)⟩⟩, fun _ k hk => absurd hk (by omega), fun k hk => hk.elim, fun k hk => hk.elim, fun i j hi' => hi'.elim, fun v hv => absurd rfl hv, fun q hq => ?_, h0, fun k hk => absurd hk (by omega)⟩
  · have e' : (if 20 + i = 0 then ta else 20 + i + ta + 1) = (if 20 + j = 0 then ta else 20 + j + ta + 1) := e
    rw [if_neg (by omega), if_neg (by omega)] at e'
    omega
  · show va_up M1 ta _ ta = _
    rw [va_up_s]
    rfl
  · exact va_up_k (fun z => by rw [z] at hq; exact hq h0)
theorem MapP.get_b (h : MapP G M00 M ta cnt b) : ∃ (ad : Nat → Nat) (np mm : Nat) (f : tT) (lo hi ps : Nat → Nat) (S : Nat → Prop) (ky : Nat → Int32), ad 0 = ta ∧ Tm G ad np M M f ∧ TX np mm f lo hi ps S ∧ (b = true → ∀ k, k < np → S k) ∧
  (∀ k, S k → ∃ a, f k 4 = some a ∧ bxo G ad np M a (ky k)) ∧ (∀ k, S k → (∃ a, f k 5 = some a ∧ bxo G ad np M a (nI (cnt (ky k)))) ∧ cnt (ky k) ≠ 0) ∧
  (∀ i j, S i → S j → ps i < ps j → ky i < ky j) ∧ (∀ v, cnt v ≠ 0 → ∃ k, S k ∧ ky k = v) ∧
  (∀ q, M00 q ≠ none → M q = M00 q) ∧ M00 ta = none ∧ (∀ k, k < np → M00 (ad (20 + k)) = none) := h
theorem ky_inj {S : Nat → Prop} {ky : Nat → Int32} {ps lo hi : Nat → Nat} {mm : Nat} (hX : TX np mm f lo hi ps S) (hs : ∀ i j, S i → S j → ps i < ps j → ky i < ky j) {i j : Nat} (hi' : S i) (hj : S j) (e : ky i = ky j) : i = j := by
  rcases Nat.lt_trichotomy (ps i) (ps j) with z | z | z
  · have := hs i j hi' hj z
    rw [e] at this
    exact absurd this Int32.lt_irrefl
  · exact hX.1.psj (hX.s hi') (hX.s hj) z
  · have := hs j i hj hi' z
    rw [e] at this
    exact absurd this Int32.lt_irrefl
/-- what put does -/
theorem MapP.put (h : MapP G M00 M ta cnt true) {ad : Nat → Nat} {np mm : Nat} {f : tT} {lo hi ps : Nat → Nat} {S : Nat → Prop} {ky : Nat → Int32} (e0 : ad 0 = ta) (hM : Tm G ad np M M f) (hX : TX np mm f lo hi ps S) (hf : ∀ k, k < np → S k) (hk : ∀ k, S k → ∃ a, f k 4 = some a ∧ bxo G ad np M a (ky k)) (hv : ∀ k, S k → (∃ a, f k 5 = some a ∧ bxo G ad np M a (nI (cnt (ky k)))) ∧ cnt (ky k) ≠ 0)
  (hs : ∀ i j, S i → S j → ps i < ps j → ky i < ky j) (hc : ∀ v, cnt v ≠ 0 → ∃ k, S k ∧ ky k = v) (h1 : ∀ q, M00 q ≠ none → M q = M00 q) (h2 : M00 ta = none) (h3 : ∀ k, k < np → M00 (ad (20 + k)) = none)
  {q0 v0 c : Nat} {K : Int32} (hq : boxAt G M q0 K) (hvb : boxAt G M v0 (nI c)) (hc0 : c ≠ 0) {r : Option Nat} (hp : PutP G ad np mm M M' f S ky q0 v0 K r) : MapP G M00 M' ta (cset cnt K c) true ∧ KeepN M M' := by
  rcases hp with ⟨k0, s0, k1, tm, _⟩ | ⟨_, hne, ps', ⟨ad2, g, a0, ak, an, tm, tY, g4, g5, gk⟩, hs'⟩
  · have kp := hM.keepN tm
    have bx : ∀ a v, boxAt G M a v → bxo G ad np M' a v := fun a v hb => bxo.of tm.self (kp.box hb)
    refine ⟨⟨ad, np, mm, t2 f k0 5 (some v0), lo, hi, ps, S, ky, e0, tm.self, ⟨hX.1.cong (fun _ => t2_j (by decide)) (fun _ => t2_j (by decide)) (fun _ => t2_j (by decide)) (t2_j (by decide)), hX.2⟩, fun _ => hf, fun k hk' => ?_, fun k hk' => ?_, hs, fun v hv' => ?_, fun q hq => ?_, h2, h3⟩, kp⟩
    · obtain ⟨a, a1, a2⟩ := hk k hk'
      exact ⟨a, (t2_j (by decide)).trans a1, bx _ _ (a2.at hM)⟩
    · by_cases e : k = k0
      · subst e
        refine ⟨⟨v0, t2_s, ?_⟩, ?_⟩
        · unfold cset
          rw [if_pos k1]
          exact bx _ _ hvb
        · unfold cset
          rw [if_pos k1]
          exact hc0
      · have ne : ¬ ky k = K := fun z => e (ky_inj hX hs hk' s0 (z.trans k1.symm))
        obtain ⟨⟨a, a1, a2⟩, a3⟩ := hv k hk'
        refine ⟨⟨a, (t2_k e).trans a1, ?_⟩, ?_⟩
        · unfold cset
          rw [if_neg ne]
          exact bx _ _ (a2.at hM)
        · unfold cset
          rw [if_neg ne]
          exact a3
    · by_cases e : v = K
      · subst e
        exact ⟨k0, s0, k1⟩
      · unfold cset at hv'
        rw [if_neg e] at hv'
        exact hc v hv'
    · rw [tm.2.2.2 q (fun z => by rw [z, e0, h2] at hq; exact hq rfl) (fun k hk z => by rw [z, h3 k hk] at hq; exact hq rfl)]
      exact h1 q hq
  · have kp : KeepN M M' := fun y e h a b => by
      rw [tm.2.2.2 y (fun q => ?_) (fun k hk q => ?_)]
      · exact h
      · obtain ⟨sz, md, h0⟩ := hM.2.1
        rw [q, a0, h0] at h
        exact a _ (Option.some.inj h).symm
      · by_cases e : k = np
        · subst e
          rw [q, an] at h; cases h
        · have hk2 : k < np := by omega
          have := hM.nd hk2
          rw [q, ak k hk2, this] at h
          exact b _ (Option.some.inj h).symm
    have bx : ∀ a v, boxAt G M a v → bxo G ad2 (np + 1) M' a v := fun a v hb => bxo.of tm.self (kp.box hb)
    have sn : ∀ k, S k → k ≠ np := fun k hk e => by
      have := hX.y.lt hk
      omega
    obtain ⟨lo2, hi2, hX2⟩ := tY
    have kn : ky2 ky np K np = K := if_pos rfl
    have kk : ∀ k, S k → ky2 ky np K k = ky k := fun k hk => if_neg (sn k hk)
    have cK : cset cnt K c K = c := if_pos rfl
    refine ⟨⟨ad2, np + 1, mm + 1, g, lo2, hi2, ps', fun k => S k ∨ k = np, ky2 ky np K, a0.trans e0, tm.self, hX2, fun _ k hk' => ?_, fun k hk' => ?_, fun k hk' => ?_, hs', fun v hv' => ?_, fun q hq => ?_, h2, fun k hk' => ?_⟩, kp⟩
    · by_cases e : k = np
      · exact Or.inr e
      · exact Or.inl (hf k (by omega))
    · rcases hk' with hk' | rfl
      · obtain ⟨a, a1, a2⟩ := hk k hk'
        rw [kk k hk']
        exact ⟨a, (gk k 4 (sn k hk') (Or.inl rfl)).trans a1, bx _ _ (a2.at hM)⟩
      · rw [kn]
        exact ⟨q0, g4, bx _ _ hq⟩
    · rcases hk' with hk' | rfl
      · obtain ⟨⟨a, a1, a2⟩, a3⟩ := hv k hk'
        have ec : cset cnt K c (ky k) = cnt (ky k) := if_neg (hne k hk')
        rw [kk k hk', ec]
        exact ⟨⟨a, (gk k 5 (sn k hk') (Or.inr rfl)).trans a1, bx _ _ (a2.at hM)⟩, a3⟩
      · rw [kn, cK]
        exact ⟨⟨v0, g5, bx _ _ hvb⟩, hc0⟩
    · by_cases e : v = K
      · exact ⟨np, Or.inr rfl, kn.trans e.symm⟩
      · unfold cset at hv'
        rw [if_neg e] at hv'
        obtain ⟨k, k1, k2⟩ := hc v hv'
        exact ⟨k, Or.inl k1, (kk k k1).trans k2⟩
    · rw [tm.2.2.2 q (fun z => by rw [z, a0, e0, h2] at hq; exact hq rfl) (fun k hk z => by
        by_cases e : k = np
        · subst e
          have := h1 q hq
          rw [z, an] at this
          rw [z] at hq
          exact hq this.symm
        · rw [z, ak k (by omega), h3 k (by omega)] at hq
          exact hq rfl)]
      exact h1 q hq
    · by_cases e : k = np
      · subst e
        cases hz : M00 (ad2 (20 + k)) with
        | none => rfl
        | some x =>
          have := h1 (ad2 (20 + k)) (by rw [hz]; exact fun e => by cases e)
          rw [an, hz] at this
          cases this
      · rw [ak k (by omega)]
        exact h3 k (by omega)
/-- the first entry taken out -/
theorem MapP.poll {ad : Nat → Nat} {np mm : Nat} {f g : tT} {lo hi ps : Nat → Nat} {S : Nat → Prop} {ky : Nat → Int32} (e0 : ad 0 = ta) (hM : Tm G ad np M M f) (hX : TX np mm f lo hi ps S) (hk : ∀ k, S k → ∃ a, f k 4 = some a ∧ bxo G ad np M a (ky k)) (hv : ∀ k, S k → (∃ a, f k 5 = some a ∧ bxo G ad np M a (nI (cnt (ky k)))) ∧ cnt (ky k) ≠ 0)
  (hs : ∀ i j, S i → S j → ps i < ps j → ky i < ky j) (hc : ∀ v, cnt v ≠ 0 → ∃ k, S k ∧ ky k = v) (h1 : ∀ q, M00 q ≠ none → M q = M00 q) (h2 : M00 ta = none) (h3 : ∀ k, k < np → M00 (ad (20 + k)) = none)
  {p : Nat} (hp : S p) (tm : Tm G ad np M M' g) (tY : TY np (mm - 1) g (fun k => ps k - 1) (fun k => S k ∧ k ≠ p)) (hK : KV f g) (hp1 : ps p = 1) : MapP G M00 M' ta (cset cnt (ky p) 0) false ∧ KeepN M M' := by
  have kp := hM.keepN tm
  have bx : ∀ a v, boxAt G M a v → bxo G ad np M' a v := fun a v hb => bxo.of tm.self (kp.box hb)
  obtain ⟨lo2, hi2, hX2⟩ := tY
  have ne : ∀ k, S k ∧ k ≠ p → ¬ ky k = ky p := fun k hk e => hk.2 (ky_inj hX hs hk.1 hp e)
  refine ⟨⟨ad, np, mm - 1, g, lo2, hi2, fun k => ps k - 1, fun k => S k ∧ k ≠ p, ky, e0, tm.self, hX2, fun e => (by cases e), fun k hk' => ?_, fun k hk' => ?_, fun i j hi' hj z => hs i j hi'.1 hj.1 (by have z : ps i - 1 < ps j - 1 := z; omega), fun v hv' => ?_, fun q hq => ?_, h2, h3⟩, kp⟩
  · obtain ⟨a, a1, a2⟩ := hk k hk'.1
    exact ⟨a, (hK k 4 (Or.inl rfl)).trans a1, bx _ _ (a2.at hM)⟩
  · obtain ⟨⟨a, a1, a2⟩, a3⟩ := hv k hk'.1
    have ec : cset cnt (ky p) 0 (ky k) = cnt (ky k) := if_neg (ne k hk')
    rw [ec]
    exact ⟨⟨a, (hK k 5 (Or.inr rfl)).trans a1, bx _ _ (a2.at hM)⟩, a3⟩
  · unfold cset at hv'
    by_cases e : v = ky p
    · rw [if_pos e] at hv'
      exact absurd rfl hv'
    · rw [if_neg e] at hv'
      obtain ⟨k, k1, k2⟩ := hc v hv'
      exact ⟨k, ⟨k1, fun z => e (by rw [← k2, z])⟩, k2⟩
  · rw [tm.2.2.2 q (fun z => by rw [z, e0, h2] at hq; exact hq rfl) (fun k hk z => by rw [z, h3 k hk] at hq; exact hq rfl)]
    exact h1 q hq
end MP

