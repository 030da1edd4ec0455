set_option maxRecDepth 100000
/-! AG: a programme added, a night added; all else kept -/
theorem ct_naddK (l : Launch) (G : mg) (A : Nat → Prop) (M1 : mh) (ad : Nat → Nat) (b9 : Nat) (bx : Nat → Nat) (np ng nn : Nat) (M0 : mh) (f : Nat → Int32) (x : Nat) (v : Int32) (h : StaB G ad b9 bx np ng nn M0 M1 f) (hn : nn ≤ 7) (hx : boxAt G M1 x v) : Met l yJ2_add (ws_ yJ2_add cJ2_add 2 (some .boolean)) ({ frames := 4, cells := 1, slots := 10, locals := 87 }) (va_Pc [.ref (ad 8), .ref x] (mU G A (fun M => M = M1))) (mQi G A (fun r M => (∃ (b9' : Nat) (bx' : Nat → Nat), StaB G ad b9' bx' np ng (nn + 1) M0 M (nAdd f nn v) ∧ ((nn ≠ 0 ∧ b9' = b9) ∨ M1 b9' = none)) ∧ ∀ a, M1 a ≠ none → a ≠ ad 8 → (nn ≠ 0 → a ≠ b9) → M a = M1 a)) 1 10 A := by
  by_cases c : nn = 0
  · subst c
    refine Met_i (jt_al_addE l G A M1 (ad 8) x (f 174) h.l8 hx.any) fun r M hp => ?_
    obtain ⟨q, zq, eR, rfl⟩ := hp
    have n8 : q ≠ ad 8 := fun e => by rw [e, h.l8] at zq; cases zq
    have hk : ∀ y, M1 y ≠ none → y ≠ ad 8 → ((0 : Nat) ≠ 0 → y ≠ b9) → (va_up (va_up (va_up (va_up (va_up M1 (ad 8) (some (.inr (9, [.int (f 174 + (1 : Int32)), .ref (G.2 0), .int (0 : Int32)])))) q (some (mRc (G.1.1 103) 10 (fun _ => none)))) (ad 8) (some (.inr (9, [.int (f 174 + (1 : Int32)), .ref q, .int (0 : Int32)])))) q (some (mRc (G.1.1 103) 10 (va_up (fun _ => none) 0 (some x))))) (ad 8) (some (.inr (9, [.int (f 174 + (1 : Int32)), .ref q, .int (1 : Int32)])))) y = M1 y := fun y hy h1 h2 => by
      have hq : y ≠ q := fun e => by rw [e] at hy; exact hy zq
      rw [va_up_k h1, va_up_k hq, va_up_k h1, va_up_k hq, va_up_k h1]
    refine ⟨⟨q, _, h.nadd hn hx (b9' := q) va_up_s ?_ hk (Or.inr zq), Or.inr zq⟩, hk⟩
    rw [va_up_k n8, va_up_s]
    refine congrArg (fun z => some (mRc (G.1.1 103) 10 z)) ?_
    funext k
    unfold va_up
    by_cases c : k = 0
    · rw [if_pos c, if_pos (by omega), if_pos c]
    · rw [if_neg c, if_neg (by omega)]
  · have l8 := h.l8
    rw [if_neg c] at l8
    have n8 := h.n8.resolve_right c
    refine Met_i (Met_room (jt_al_add l G A M1 (ad 8) x (f 174) b9 nn 10 _ l8 (h.a9 c) hx.any (by omega) (by decide)) (by decide) (by decide) (by decide) (by decide) (by decide) (by decide)) fun r M hp => ?_
    obtain ⟨eR, rfl⟩ := hp
    have hk : ∀ y, M1 y ≠ none → y ≠ ad 8 → (nn ≠ 0 → y ≠ b9) → (va_up (va_up (va_up M1 (ad 8) (some (.inr (9, [.int (f 174 + (1 : Int32)), .ref b9, .int (nI nn)])))) b9 (some (mRc (G.1.1 103) 10 (va_up (fun k => if k < nn then some (bx k) else none) nn (some x))))) (ad 8) (some (.inr (9, [.int (f 174 + (1 : Int32)), .ref b9, .int (nI (nn + 1))])))) y = M1 y := fun y hy h1 h2 => by
      rw [va_up_k h1, va_up_k (h2 c), va_up_k h1]
    refine ⟨⟨b9, _, h.nadd hn hx (b9' := b9) va_up_s ?_ hk (Or.inl ⟨c, rfl⟩), Or.inl ⟨c, rfl⟩⟩, hk⟩
    rw [va_up_k (Ne.symm n8), va_up_s, nd_up]
theorem ct_addG (l : Launch) (G : mg) (A : Nat → Prop) (M1 : mh) (ad : Nat → Nat) (b9 : Nat) (bx : Nat → Nat) (np ng nn : Nat) (M0 : mh) (f : Nat → Int32) (y : Nat → Int32) (pr : Nat) (h : StaB G ad b9 bx np ng nn M0 M1 f) (hn : ng < 8) (hw4 : ng = 0 → ad 4 = ad 0) (hpr : M1 pr = some (.inr (7, [.int (y 0), .int (y 1), .int (y 2)]))) : Met l yJ2_add (ws_ yJ2_add cJ2_add 2 (some .boolean)) ({ frames := 4, cells := 1, slots := 10, locals := 87 }) (va_Pc [.ref (ad 3), .ref pr] (mU G A (fun M => M = M1))) (mQi G A (fun r M => ∃ e4 : Nat, ((ng = 0 ∧ M1 e4 = none) ∨ (ng ≠ 0 ∧ e4 = ad 4)) ∧ StaB G (aGa ad ng pr e4) b9 bx np (ng + 1) nn M0 M (aGf f ng y) ∧ ∀ a, M1 a ≠ none → a ≠ ad 3 → a ≠ e4 → M a = M1 a)) 1 10 A := by
  have l3 := h.cell (r := 3) (stU_p (by decide) (by decide) (by decide) (by decide)) (by decide)
  rw [stC_t (by decide)] at l3
  have hx : anyAt G M1 pr := anyAt.of hpr rfl q2441
  by_cases c : ng = 0
  · have l3' : M1 (ad 3) = some (.inr (9, [.int (f 173), .ref (G.2 0), .int (0 : Int32)])) := by
      rw [l3]
      show some (Sum.inr (9, [Value.int (f 173), .ref (if ng = 0 then G.2 0 else ad 4), .int (nI ng)]) : va_E) = _
      rw [if_pos c, c]
      rfl
    refine Met_i (jt_al_addE l G A M1 (ad 3) pr (f 173) l3' hx) fun r M hp => ?_
    obtain ⟨q, zq, eR, eM⟩ := hp
    have n3 : q ≠ ad 3 := fun e => by rw [e, l3'] at zq; cases zq
    have hk : ∀ a, M1 a ≠ none → a ≠ ad 3 → a ≠ q → M a = M1 a := fun a ha h1 h2 => by
      rw [eM, va_up_k h1, va_up_k h2, va_up_k h1, va_up_k h2, va_up_k h1]
    refine ⟨q, Or.inl ⟨c, zq⟩, h.addG hn hw4 hpr ?_ ?_ (Or.inl ⟨c, zq⟩) hk, hk⟩
    · rw [eM, va_up_s, c]; rfl
    · rw [eM, va_up_k n3, va_up_s, c]
      refine congrArg some (congrArg (mRc _ 10) ?_)
      funext k
      by_cases d : k = 0
      · rw [d, va_up_self, va_up_self]
      · rw [va_up_ne _ _ d, va_up_ne _ _ d, if_neg (Nat.not_lt_zero k)]
  · have l3' : M1 (ad 3) = some (.inr (9, [.int (f 173), .ref (ad 4), .int (nI ng)])) := by
      rw [l3]
      show some (Sum.inr (9, [Value.int (f 173), .ref (if ng = 0 then G.2 0 else ad 4), .int (nI ng)]) : va_E) = _
      rw [if_neg c]
    have s4 : stU np ng nn 4 := ⟨by decide, fun z => by omega, fun _ => c, fun z => by omega, fun z => by omega, fun z => by omega⟩
    have l4 := h.cell (r := 4) s4 (by decide)
    rw [stC_t (by decide)] at l4
    have n34 : ad 3 ≠ ad 4 := h.ne (r := 3) (r' := 4) (stU_p (by decide) (by decide) (by decide) (by decide)) s4 (by decide) (by decide) (by decide)
    refine Met_i (Met_room (jt_al_add l G A M1 (ad 3) pr (f 173) (ad 4) ng 10 _ l3' l4 hx (by omega) (by decide)) (by decide) (by decide) (by decide) (by decide) (by decide) (by decide)) fun r M hp => ?_
    obtain ⟨eR, eM⟩ := hp
    have hk : ∀ a, M1 a ≠ none → a ≠ ad 3 → a ≠ ad 4 → M a = M1 a := fun a ha h1 h2 => by
      rw [eM, va_up_k h1, va_up_k h2, va_up_k h1]
    refine ⟨ad 4, Or.inr ⟨c, rfl⟩, h.addG hn hw4 hpr ?_ ?_ (Or.inr ⟨c, rfl⟩) hk, hk⟩
    · rw [eM, va_up_s]
    · rw [eM, va_up_k n34.symm, va_up_s]

