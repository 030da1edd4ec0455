set_option maxRecDepth 100000
/-! ND: a night added to the list, the first taken out -/
theorem pk_ue {f : Nat → Int32} {k : Nat} {x : Int32} : upd f k x k = x := if_pos rfl
section ND
variable {G : mg} {ad : Nat → Nat} {b9 : Nat} {bx : Nat → Nat} {np ng nn : Nat} {M0 M M' : mh} {f g : Nat → Int32}
theorem StaB.l8 (h : StaB G ad b9 bx np ng nn M0 M f) : M (ad 8) = some (.inr (9, [.int (f 174), .ref (if nn = 0 then G.2 0 else b9), .int (nI nn)])) :=
  h.2.2.1 8 (stU_p (by decide) (by decide) (by decide) (by decide))
theorem StaB.a9 (h : StaB G ad b9 bx np ng nn M0 M f) (h0 : nn ≠ 0) : M b9 = some (mRc (G.1.1 103) 10 (fun k => if k < nn then some (bx k) else none)) :=
  h.2.2.1 9 ⟨by decide, fun z => by omega, fun z => by omega, fun _ => h0, fun z => by omega, fun z => by omega⟩
theorem StaB.n8 (h : StaB G ad b9 bx np ng nn M0 M f) : ad 8 ≠ b9 ∨ nn = 0 := by
  by_cases h0 : nn = 0
  · exact Or.inr h0
  · refine Or.inl fun e => ?_
    have := h.a9 h0
    rw [← e, h.l8] at this
    cases this
theorem StaB.sta (h : StaB G ad b9 bx np ng nn M0 M f) : Sta G ad np ng M0 M f := ⟨nn, b9, bx, h⟩
theorem Sta.toB (h : Sta G ad np ng M0 M f) (h18 : f 18 = nI nn) (hn : nn ≤ 8) : ∃ (b9 : Nat) (bx : Nat → Nat), StaB G ad b9 bx np ng nn M0 M f := by
  obtain ⟨n', b9, bx, hB⟩ := h
  have e : n' = nn := by
    have h1 := hB.1.2.2.2.2.1
    have h2 := hB.1.2.2.2.2.2
    rw [h18] at h1
    have := congrArg tN h1
    rw [tN_nI (by omega), tN_nI (by omega)] at this
    exact this.symm
  subst n'
  exact ⟨b9, bx, hB⟩
theorem StaB.ext (h : StaB G ad b9 bx np ng nn M0 M f) (he : ∀ q, M q ≠ none → M' q = M q) : StaB G ad b9 bx np ng nn M0 M' f := by
  obtain ⟨h1, h2, h3, h4, h5, h6, h7, h8⟩ := h
  have K : ∀ {q x}, M q = some x → M' q = some x := fun {q x} e => (he q (by rw [e]; exact fun z => by cases z)).trans e
  refine ⟨h1, h2, fun r hr => K (h3 r hr), h4, fun k hk => K (h5 k hk), fun k hk => (h6 k hk).ext he, fun q hq hn => ?_, h8⟩
  have := h7 q hq hn
  rw [he q (by rw [this]; exact hq), this]
theorem nAdd_18 {n : Nat} {x : Int32} : nAdd f n x 18 = nI (n + 1) := by unfold nAdd; rw [pk_un (by decide), pk_ue]
theorem nAdd_174 {n : Nat} {x : Int32} : nAdd f n x 174 = f 174 + 1 := by unfold nAdd; rw [pk_ue]
theorem nAdd_k {n k : Nat} {x : Int32} : nAdd f n x (200 + k) = if k = n then x else f (200 + k) := by
  unfold nAdd
  rw [pk_un (by omega), pk_un (by omega)]
  by_cases c : k = n
  · rw [if_pos c, c, pk_ue]
  · rw [if_neg c, pk_un (by omega)]
/-- the new night's cells -/
theorem StaB.nadd (h : StaB G ad b9 bx np ng nn M0 M f) (hn : nn ≤ 7) {x : Nat} {v : Int32} (hx : boxAt G M x v) {b9' : Nat}
    (h8 : M' (ad 8) = some (.inr (9, [.int (f 174 + 1), .ref b9', .int (nI (nn + 1))]))) (h9 : M' b9' = some (mRc (G.1.1 103) 10 (fun k => if k < nn + 1 then some (if k = nn then x else bx k) else none)))
    (hk : ∀ q, M q ≠ none → q ≠ ad 8 → (nn ≠ 0 → q ≠ b9) → M' q = M q) (hn9 : (nn ≠ 0 ∧ b9' = b9) ∨ (M b9' = none)) : StaB G ad b9' (fun k => if k = nn then x else bx k) np ng (nn + 1) M0 M' (nAdd f nn v) := by
  have hB : ∀ {y : Nat} {u : Int32}, boxAt G M y u → boxAt G M' y u := fun {y u} hy => by
    rcases hy with hy | hy
    · refine Or.inl ((hk y (by rw [hy]; exact fun e => by cases e) (fun e => ?_) (fun n0 e => ?_)).trans hy)
      · rw [e, h.l8] at hy
        cases hy
      · rw [e, h.a9 n0] at hy
        cases hy
    · exact Or.inr hy
  refine h.nights (by omega) (fun p a b c => nAdd_o a b c) nAdd_18 ?_ (fun _ => h9) (fun k hk' => ?_) hk (fun _ => hn9)
  · rw [nAdd_174, if_neg (by omega)]
    exact h8
  · rw [nAdd_k]
    show boxAt G M' (if k = nn then x else bx k) _
    by_cases c : k = nn
    · rw [if_pos c, if_pos c]
      exact hB hx
    · rw [if_neg c, if_neg c]
      exact hB (h.2.2.2.2.2.1 k (by omega))
theorem nd_up {n x : Nat} {bx : Nat → Nat} : va_up (fun k => if k < n then some (bx k) else none) n (some x) = fun k => if k < n + 1 then some (if k = n then x else bx k) else none := by
  funext k
  unfold va_up
  by_cases c : k = n
  · rw [if_pos c, if_pos (by omega), if_pos c]
  · rw [if_neg c, if_neg c]
    show (if k < n then some (bx k) else none) = _
    by_cases d : k < n
    · rw [if_pos d, if_pos (by omega)]
    · rw [if_neg d, if_neg (by omega)]
theorem ct_nadd (l : Launch) (G : mg) (A : Nat → Prop) (M1 : mh) (ad : Nat → Nat) (b9 : Nat) (bx : Nat → Nat) (np ng nn : Nat) (M0 : mh) (f : Nat → Int32) (x : Nat) (v : Int32) (h : StaB G ad b9 bx np ng nn M0 M1 f) (hn : nn ≤ 7) (hx : boxAt G M1 x v) : Met l yJ2_add (ws_ yJ2_add cJ2_add 2 (some .boolean)) ({ frames := 4, cells := 1, slots := 10, locals := 87 }) (va_Pc [.ref (ad 8), .ref x] (mU G A (fun M => M = M1))) (mQi G A (fun r M => ∃ (b9' : Nat) (bx' : Nat → Nat), StaB G ad b9' bx' np ng (nn + 1) M0 M (nAdd f nn v))) 1 10 A := by
  by_cases c : nn = 0
  · subst c
    refine Met_i (jt_al_addE l G A M1 (ad 8) x (f 174) h.l8 hx.any) fun r M hp => ?_
    obtain ⟨q, zq, eR, rfl⟩ := hp
    have n8 : q ≠ ad 8 := fun e => by rw [e, h.l8] at zq; cases zq
    refine ⟨q, _, h.nadd hn hx (b9' := q) va_up_s ?_ (fun y hy h1 h2 => ?_) (Or.inr zq)⟩
    · rw [va_up_k n8, va_up_s]
      refine congrArg (fun z => some (mRc (G.1.1 103) 10 z)) ?_
      funext k
      unfold va_up
      by_cases c : k = 0
      · rw [if_pos c, if_pos (by omega), if_pos c]
      · rw [if_neg c, if_neg (by omega)]
    · have hq : y ≠ q := fun e => by rw [e] at hy; exact hy zq
      rw [va_up_k h1, va_up_k hq, va_up_k h1, va_up_k hq, va_up_k h1]
  · have l8 := h.l8
    rw [if_neg c] at l8
    have n8 := h.n8.resolve_right c
    refine Met_i (Met_room (jt_al_add l G A M1 (ad 8) x (f 174) b9 nn 10 _ l8 (h.a9 c) hx.any (by omega) (by decide)) (by decide) (by decide) (by decide) (by decide) (by decide) (by decide)) fun r M hp => ?_
    obtain ⟨eR, rfl⟩ := hp
    refine ⟨b9, _, h.nadd hn hx (b9' := b9) va_up_s ?_ (fun y hy h1 h2 => ?_) (Or.inl ⟨c, rfl⟩)⟩
    · rw [va_up_k (Ne.symm n8), va_up_s, nd_up]
    · rw [va_up_k h1, va_up_k (h2 c), va_up_k h1]
theorem nRem_k {n k : Nat} : nRem f n (200 + k) = f (200 + k + 1) := by
  unfold nRem
  rw [if_neg (by omega), if_neg (by omega), if_pos (by omega)]
theorem nd_cp {bx : Nat → Nat} : va_up (va_cpy (fun k => if k < 8 then some (bx k) else none) (fun k => if k < 8 then some (bx k) else none) 1 0 7) 7 none = fun k => if k < 7 then some (bx (k + 1)) else none := by
  funext k
  unfold va_up va_cpy
  by_cases c : k = 7
  · rw [if_pos c, if_neg (by omega)]
  · rw [if_neg c]
    by_cases d : k < 7
    · simp only [d]
      first | (rw [if_pos (by omega)]; rw [show 1 + (k - 0) = k + 1 by omega, if_pos (by omega), if_pos trivial]) | simp [d, Nat.add_comm, show k + 1 < 8 by omega]
    · simp only [d]
      first | (rw [if_neg (by omega), if_neg (by omega), if_neg (by omega)]) | simp [d, show ¬ k < 8 by omega]
theorem ct_nrem (l : Launch) (G : mg) (A : Nat → Prop) (M1 : mh) (ad : Nat → Nat) (b9 : Nat) (bx : Nat → Nat) (np ng : Nat) (M0 : mh) (f : Nat → Int32) (h : StaB G ad b9 bx np ng 8 M0 M1 f) : Met l yJ2_remove (ws_ yJ2_remove cJ2_remove 4 (some (.object "java/lang/Object"))) ({ frames := 2, cells := 0, slots := 0, locals := 123 }) (va_Pc [.ref (ad 8), .int (0 : Int32)] (mU G A (fun M => M = M1))) (mQq G A (fun r M => r = some (bx 0) ∧ boxAt G M (bx 0) (f 200) ∧ ∃ (b9' : Nat) (bx' : Nat → Nat), StaB G ad b9' bx' np ng 7 M0 M (nRem f 8))) 0 0 A := by
  have l8 := h.l8
  have a9 := h.a9 (by decide)
  have n8 := h.n8.resolve_right (by decide)
  rw [if_neg (by decide)] at l8
  have hel : ∀ i, i < 7 → ∀ y, (if 1 + i < 8 then some (bx (1 + i)) else none) = some y → ∃ v, boxAt G M1 y v := fun i hi y hy => by
    rw [if_pos (by omega)] at hy
    cases hy
    exact ⟨_, h.2.2.2.2.2.1 (1 + i) (by omega)⟩
  refine Met_q (jt_al_rem l G A M1 (ad 8) (f 174) b9 10 _ l8 a9 (by decide) (by decide) hel) fun r M hp => ?_
  obtain ⟨eR, rfl⟩ := hp
  have hk : ∀ {w x y z : Option va_E} (q : Nat), q ≠ ad 8 → q ≠ b9 → va_up (va_up (va_up (va_up M1 (ad 8) w) b9 x) (ad 8) y) b9 z q = M1 q := fun {w x y z} q h1 h2 => by
    rw [va_up_k h2, va_up_k h1, va_up_k h2, va_up_k h1]
  have hB : ∀ {w x v z : Option va_E} {y : Nat} {u : Int32}, boxAt G M1 y u → boxAt G (va_up (va_up (va_up (va_up M1 (ad 8) w) b9 x) (ad 8) v) b9 z) y u := fun {w x v z y u} hy => by
    rcases hy with hy | hy
    · refine Or.inl ((hk y (fun e => ?_) (fun e => ?_)).trans hy)
      · rw [e, l8] at hy
        cases hy
      · rw [e, a9] at hy
        cases hy
    · exact Or.inr hy
  refine ⟨eR.trans (if_pos (by decide)), hB (h.2.2.2.2.2.1 0 (by decide)), b9, fun k => bx (k + 1), h.nights (by decide) (fun p a b c => nRem_o a b c) rfl ?_ (fun _ => ?_) (fun k hk' => ?_) (fun q _ h1 h2 => hk q h1 (h2 (by decide))) (fun _ => Or.inl ⟨by decide, rfl⟩)⟩
  · rw [va_up_k n8, va_up_s]
    rfl
  · rw [va_up_s, nd_cp]
  · rw [nRem_k]
    exact hB (h.2.2.2.2.2.1 (k + 1) (by omega))
end ND

