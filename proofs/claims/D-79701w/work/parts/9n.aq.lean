set_option maxRecDepth 100000
/-! AQ: a pump added to a station -/
theorem va_up3 {M : mh} {a b c q : Nat} {x y z : Option va_E} (h1 : q ≠ a) (h2 : q ≠ b) (h3 : q ≠ c) : va_up (va_up (va_up M a x) b y) c z q = M q := by rw [va_up_k h3, va_up_k h2, va_up_k h1]
section AQ
variable {G : mg} {ad : Nat → Nat} {b9 : Nat} {bx : Nat → Nat} {np ng nn : Nat} {M0 M1 : mh} {f : Nat → Int32} {x : Nat → Int32} {pq q e2 : Nat}
theorem StaB.ne (h : StaB G ad b9 bx np ng nn M0 M1 f) {r r' : Nat} (hr : stU np ng nn r) (hr' : stU np ng nn r') (h9 : r ≠ 9) (h9' : r' ≠ 9) (hne : r ≠ r') : ad r ≠ ad r' := fun z => hne (h.2.2.2.1 r r' hr hr' (by rw [adr_n h9, adr_n h9']; exact z))
theorem StaB.cell (h : StaB G ad b9 bx np ng nn M0 M1 f) {r : Nat} (hr : stU np ng nn r) (h9 : r ≠ 9) : M1 (ad r) = some (stC G ad b9 bx np ng nn f r) := by
  have := h.2.2.1 r hr
  rwa [adr_n h9] at this
end AQ
theorem addP_end0 {G : mg} {ad : Nat → Nat} {b9 : Nat} {bx : Nat → Nat} {np ng nn : Nat} {M0 M1 M : mh} {f : Nat → Int32} {x : Nat → Int32} {pq q e2 : Nat} {gc : Nat → Option Nat} (hgc : gc = fun k => if k < np then some (ad (26 + k)) else none) (hB : StaB G ad b9 bx np ng nn M0 M1 f) (hn : np < 6) (hx0 : rg (x 0) 2) (hw20 : ad (20 + np) = ad 0) (hw26 : ad (26 + np) = ad 0) (hw2 : np = 0 → ad 2 = ad 0) (hpq0 : ∀ r, stU np ng nn r → adr ad b9 r ≠ pq) (hpq : M1 pq = some (.inr (4 + tN (x 0), [.int (nI np), .int (x 1), .int (x 2), .int (1 - x 3), .int (x 4), .int (x 5), .int (x 6), .int (x 7)]))) (n0 : np = 0) (zq : M1 q = none) (ze : M1 e2 = none) (hne : e2 ≠ q)
    (eM : M = (va_up (va_up (va_up (va_up (va_up (va_up (va_up M1 q (some (mIc (G.1.1 113) 2 (fun j => if j = 0 then x 1 else if j = 1 then x 2 else 0)))) (ad 10) (some (mRc (G.1.1 104) 6 (va_up gc np (some q))))) (ad 1) (some (.inr (9, [.int (f 172 + (1 : Int32)), .ref (G.2 0), .int (0 : Int32)])))) e2 (some (mRc (G.1.1 103) 10 (fun _ => none)))) (ad 1) (some (.inr (9, [.int (f 172 + (1 : Int32)), .ref e2, .int (0 : Int32)])))) e2 (some (mRc (G.1.1 103) 10 (va_up (fun _ => none) 0 (some pq))))) (ad 1) (some (.inr (9, [.int (f 172 + (1 : Int32)), .ref e2, .int (1 : Int32)]))))) : ∃ q e2, M1 q = none ∧ ((np = 0 ∧ M1 e2 = none) ∨ (np ≠ 0 ∧ e2 = ad 2)) ∧ StaB G (aPa ad np pq q e2) b9 bx (np + 1) ng nn M0 M (aPf f np x) ∧ ∀ a, M1 a ≠ none → a ≠ ad 10 → a ≠ ad 1 → a ≠ e2 → M a = M1 a := by
  have s1 : stU np ng nn 1 := stU_p (by decide) (by decide) (by decide) (by decide)
  have s10 : stU np ng nn 10 := stU_p (by decide) (by decide) (by decide) (by decide)
  have c1 := hB.cell s1 (by decide)
  have c10 := hB.cell s10 (by decide)
  have n110 : ad 1 ≠ ad 10 := hB.ne s1 s10 (by decide) (by decide) (by decide)
  have q1 : q ≠ ad 1 := fun z => by rw [z, c1] at zq; cases zq
  have q10 : q ≠ ad 10 := fun z => by rw [z, c10] at zq; cases zq
  have e1 : e2 ≠ ad 1 := fun z => by rw [z, c1] at ze; cases ze
  have e10 : e2 ≠ ad 10 := fun z => by rw [z, c10] at ze; cases ze
  have p1 : pq ≠ ad 1 := fun z => hpq0 1 s1 ((adr_n (by decide)).trans z.symm)
  have p10 : pq ≠ ad 10 := fun z => hpq0 10 s10 ((adr_n (by decide)).trans z.symm)
  have pe : pq ≠ e2 := fun z => by rw [← z, hpq] at ze; cases ze
  have pq' : pq ≠ q := fun z => by rw [← z, hpq] at zq; cases zq
  have hk : ∀ a, M1 a ≠ none → a ≠ ad 10 → a ≠ ad 1 → a ≠ e2 → M a = M1 a := fun a h h10 h1 h2 => by
    have hq : a ≠ q := fun z => h (z ▸ zq)
    rw [eM, va_up_k h1, va_up_k h2, va_up_k h1, va_up_k h2, va_up_k h1, va_up_k h10, va_up_k hq]
  refine ⟨q, e2, zq, Or.inl ⟨n0, ze⟩, hB.addP hn hx0 hw20 hw26 hw2 hpq0 (by rw [hpq]; exact fun z => by cases z) ?_ zq ?_ ?_ ?_ ?_ (Or.inl ⟨n0, ze⟩) hne.symm hk, hk⟩
  · rw [hk pq (by rw [hpq]; exact fun z => by cases z) p10 p1 pe, hpq]
  · rw [eM, va_up_k q1, va_up_k hne.symm, va_up_k q1, va_up_k hne.symm, va_up_k q1, va_up_k q10, va_up_s]
  · rw [eM, va_up_k n110.symm, va_up_k e10.symm, va_up_k n110.symm, va_up_k e10.symm, va_up_k n110.symm, va_up_s, hgc]
  · rw [eM, va_up_s, n0]; rfl
  · rw [eM, va_up_k e1, va_up_s, n0]
    refine congrArg some (congrArg (mRc _ 10) ?_)
    funext k
    by_cases c : k = 0
    · rw [c, va_up_self, va_up_self]
    · rw [va_up_ne _ _ c, va_up_ne _ _ c, if_neg (Nat.not_lt_zero k)]
theorem addP_end1 {G : mg} {ad : Nat → Nat} {b9 : Nat} {bx : Nat → Nat} {np ng nn : Nat} {M0 M1 M : mh} {f : Nat → Int32} {x : Nat → Int32} {pq q : Nat} {gc ga : Nat → Option Nat} (hgc : gc = fun k => if k < np then some (ad (26 + k)) else none) (hga : ga = fun k => if k < np then some (ad (20 + k)) else none) (hB : StaB G ad b9 bx np ng nn M0 M1 f) (hn : np < 6) (hx0 : rg (x 0) 2) (hw20 : ad (20 + np) = ad 0) (hw26 : ad (26 + np) = ad 0) (hw2 : np = 0 → ad 2 = ad 0) (hpq0 : ∀ r, stU np ng nn r → adr ad b9 r ≠ pq) (hpq : M1 pq = some (.inr (4 + tN (x 0), [.int (nI np), .int (x 1), .int (x 2), .int (1 - x 3), .int (x 4), .int (x 5), .int (x 6), .int (x 7)]))) (n0 : np ≠ 0) (zq : M1 q = none)
    (eM : M = (va_up (va_up (va_up (va_up (va_up M1 q (some (mIc (G.1.1 113) 2 (fun j => if j = 0 then x 1 else if j = 1 then x 2 else 0)))) (ad 10) (some (mRc (G.1.1 104) 6 (va_up gc np (some q))))) (ad 1) (some (.inr (9, [.int (f 172 + (1 : Int32)), .ref (ad 2), .int (nI np)])))) (ad 2) (some (mRc (G.1.1 103) 10 (va_up ga np (some pq))))) (ad 1) (some (.inr (9, [.int (f 172 + (1 : Int32)), .ref (ad 2), .int (nI (np + 1))]))))) : ∃ q e2, M1 q = none ∧ ((np = 0 ∧ M1 e2 = none) ∨ (np ≠ 0 ∧ e2 = ad 2)) ∧ StaB G (aPa ad np pq q e2) b9 bx (np + 1) ng nn M0 M (aPf f np x) ∧ ∀ a, M1 a ≠ none → a ≠ ad 10 → a ≠ ad 1 → a ≠ e2 → M a = M1 a := by
  have s1 : stU np ng nn 1 := stU_p (by decide) (by decide) (by decide) (by decide)
  have s10 : stU np ng nn 10 := stU_p (by decide) (by decide) (by decide) (by decide)
  have s2 : stU np ng nn 2 := ⟨by decide, fun _ => n0, fun z => by omega, fun z => by omega, fun z => by omega, fun z => by omega⟩
  have c1 := hB.cell s1 (by decide)
  have c10 := hB.cell s10 (by decide)
  have c2 := hB.cell s2 (by decide)
  have n110 : ad 1 ≠ ad 10 := hB.ne s1 s10 (by decide) (by decide) (by decide)
  have n12 : ad 1 ≠ ad 2 := hB.ne s1 s2 (by decide) (by decide) (by decide)
  have n210 : ad 2 ≠ ad 10 := hB.ne s2 s10 (by decide) (by decide) (by decide)
  have q1 : q ≠ ad 1 := fun z => by rw [z, c1] at zq; cases zq
  have q10 : q ≠ ad 10 := fun z => by rw [z, c10] at zq; cases zq
  have q2 : q ≠ ad 2 := fun z => by rw [z, c2] at zq; cases zq
  have p1 : pq ≠ ad 1 := fun z => hpq0 1 s1 ((adr_n (by decide)).trans z.symm)
  have p10 : pq ≠ ad 10 := fun z => hpq0 10 s10 ((adr_n (by decide)).trans z.symm)
  have p2 : pq ≠ ad 2 := fun z => hpq0 2 s2 ((adr_n (by decide)).trans z.symm)
  have hk : ∀ a, M1 a ≠ none → a ≠ ad 10 → a ≠ ad 1 → a ≠ ad 2 → M a = M1 a := fun a h h10 h1 h2 => by
    have hq : a ≠ q := fun z => h (z ▸ zq)
    rw [eM, va_up_k h1, va_up_k h2, va_up_k h1, va_up_k h10, va_up_k hq]
  refine ⟨q, ad 2, zq, Or.inr ⟨n0, rfl⟩, hB.addP hn hx0 hw20 hw26 hw2 hpq0 (by rw [hpq]; exact fun z => by cases z) ?_ zq ?_ ?_ ?_ ?_ (Or.inr ⟨n0, rfl⟩) q2 hk, hk⟩
  · rw [hk pq (by rw [hpq]; exact fun z => by cases z) p10 p1 p2, hpq]
  · rw [eM, va_up_k q1, va_up_k q2, va_up_k q1, va_up_k q10, va_up_s]
  · rw [eM, va_up_k n110.symm, va_up_k n210.symm, va_up_k n110.symm, va_up_s, hgc]
  · rw [eM, va_up_s]
  · rw [eM, va_up_k n12.symm, va_up_s, hga]
set_option maxHeartbeats 4000000 in
theorem ct_addP (l : Launch) (G : mg) (A : Nat → Prop) (ad : Nat → Nat) (b9 : Nat) (bx : Nat → Nat) (np ng nn : Nat) (M0 M1 : mh) (f : Nat → Int32) (x : Nat → Int32) (pq : Nat) (hB : StaB G ad b9 bx np ng nn M0 M1 f) (hn : np < 6) (hx0 : rg (x 0) 2) (hw20 : ad (20 + np) = ad 0) (hw26 : ad (26 + np) = ad 0) (hw2 : np = 0 → ad 2 = ad 0) (hpq0 : ∀ r, stU np ng nn r → adr ad b9 r ≠ pq) (hpq : M1 pq = some (.inr (4 + tN (x 0), [.int (nI np), .int (x 1), .int (x 2), .int (1 - x 3), .int (x 4), .int (x 5), .int (x 6), .int (x 7)]))) : Met l yX1_add (ws_ yX1_add cX1_add 4 (none)) ({ frames := 5, cells := 2, slots := 12, locals := 3090 }) (va_Pc [.ref (ad 0), .ref pq] (mU G A (fun M => M = M1))) (mQv G A (fun M => ∃ q e2, M1 q = none ∧ ((np = 0 ∧ M1 e2 = none) ∨ (np ≠ 0 ∧ e2 = ad 2)) ∧ StaB G (aPa ad np pq q e2) b9 bx (np + 1) ng nn M0 M (aPf f np x) ∧ ∀ a, M1 a ≠ none → a ≠ ad 10 → a ≠ ad 1 → a ≠ e2 → M a = M1 a)) 2 12 A := by
  have ho := hB.cell (r := 0) (stU_p (by decide) (by decide) (by decide) (by decide)) (by decide)
  have h7 := hB.cell (r := 10) (stU_p (by decide) (by decide) (by decide) (by decide)) (by decide)
  have h0 := hB.cell (r := 1) (stU_p (by decide) (by decide) (by decide) (by decide)) (by decide)
  obtain ⟨j, hj, ej⟩ := hx0
  have hx0 : rg (x 0) 2 := ⟨j, hj, ej⟩
  have tj : tN (x 0) = j := by rw [ej, tN_nI (by omega)]
  by_cases n0 : np = 0
  · have h0' : M1 (ad 1) = some (.inr (9, [.int (f 172), .ref (G.2 0), .int (0 : Int32)])) := by
      rw [h0, stC_t (by decide)]
      show some (Sum.inr (9, [Value.int (f 172), .ref (if np = 0 then G.2 0 else ad 2), .int (nI np)]) : va_E) = _
      rw [if_pos n0, n0]
      rfl
    obtain rfl | rfl | rfl : j = 0 ∨ j = 1 ∨ j = 2 := by omega
    · have hpq' : M1 pq = some (.inr (4, [.int (nI np), .int (x 1), .int (x 2), .int (1 - x 3), .int (x 4), .int (x 5), .int (x 6), .int (x 7)])) := by rw [hpq, tj]
      refine Met_room (Met_v (jt_saddF0 l G A M1 (ad 0) pq (ad 1) (ad 3) (ad 5) (ad 6) (ad 7) (f 19) (ad 8) (ad 10) (ad 11) (ad 12) (ad 13) (ad 14) (ad 15) (ad 16) (f 171) (ad 17) (f 177) (f 15) (f 0) (f 1) (f 2) (f 17) (f 4) (f 3) (f 13) (f 8) (f 9) (f 7) (f 6) (f 5) np (x 1) (x 2) (1 - x 3) (x 4) (x 5) (x 6) (x 7) _ (f 172) ho hpq' h7 h0' hn) (fun M hM => ?_)) (by decide) (by decide) (by decide) (by decide) (by decide) (by decide)
      obtain ⟨q, zq, e2, ze, hne, eM⟩ := hM
      exact addP_end0 rfl hB hn hx0 hw20 hw26 hw2 hpq0 hpq n0 zq ze hne eM
    · have hpq' : M1 pq = some (.inr (5, [.int (nI np), .int (x 1), .int (x 2), .int (1 - x 3), .int (x 4), .int (x 5), .int (x 6), .int (x 7)])) := by rw [hpq, tj]
      refine Met_room (Met_v (jt_saddV0 l G A M1 (ad 0) pq (ad 1) (ad 3) (ad 5) (ad 6) (ad 7) (f 19) (ad 8) (ad 10) (ad 11) (ad 12) (ad 13) (ad 14) (ad 15) (ad 16) (f 171) (ad 17) (f 177) (f 15) (f 0) (f 1) (f 2) (f 17) (f 4) (f 3) (f 13) (f 8) (f 9) (f 7) (f 6) (f 5) np (x 1) (x 2) (1 - x 3) (x 4) (x 5) (x 6) (x 7) _ (f 172) ho hpq' h7 h0' hn) (fun M hM => ?_)) (by decide) (by decide) (by decide) (by decide) (by decide) (by decide)
      obtain ⟨q, zq, e2, ze, hne, eM⟩ := hM
      exact addP_end0 rfl hB hn hx0 hw20 hw26 hw2 hpq0 hpq n0 zq ze hne eM
    · have hpq' : M1 pq = some (.inr (6, [.int (nI np), .int (x 1), .int (x 2), .int (1 - x 3), .int (x 4), .int (x 5), .int (x 6), .int (x 7)])) := by rw [hpq, tj]
      refine Met_room (Met_v (jt_saddJ0 l G A M1 (ad 0) pq (ad 1) (ad 3) (ad 5) (ad 6) (ad 7) (f 19) (ad 8) (ad 10) (ad 11) (ad 12) (ad 13) (ad 14) (ad 15) (ad 16) (f 171) (ad 17) (f 177) (f 15) (f 0) (f 1) (f 2) (f 17) (f 4) (f 3) (f 13) (f 8) (f 9) (f 7) (f 6) (f 5) np (x 1) (x 2) (1 - x 3) (x 4) (x 5) (x 6) (x 7) _ (f 172) ho hpq' h7 h0' hn) (fun M hM => ?_)) (by decide) (by decide) (by decide) (by decide) (by decide) (by decide)
      obtain ⟨q, zq, e2, ze, hne, eM⟩ := hM
      exact addP_end0 rfl hB hn hx0 hw20 hw26 hw2 hpq0 hpq n0 zq ze hne eM
  · have h0' : M1 (ad 1) = some (.inr (9, [.int (f 172), .ref (ad 2), .int (nI np)])) := by
      rw [h0, stC_t (by decide)]
      show some (Sum.inr (9, [Value.int (f 172), .ref (if np = 0 then G.2 0 else ad 2), .int (nI np)]) : va_E) = _
      rw [if_neg n0]
    have h2 := hB.cell (r := 2) ⟨by decide, fun _ => n0, fun z => by omega, fun z => by omega, fun z => by omega, fun z => by omega⟩ (by decide)
    obtain rfl | rfl | rfl : j = 0 ∨ j = 1 ∨ j = 2 := by omega
    · have hpq' : M1 pq = some (.inr (4, [.int (nI np), .int (x 1), .int (x 2), .int (1 - x 3), .int (x 4), .int (x 5), .int (x 6), .int (x 7)])) := by rw [hpq, tj]
      refine Met_room (Met_v (jt_saddF1 l G A M1 (ad 0) pq (ad 1) (ad 3) (ad 5) (ad 6) (ad 7) (f 19) (ad 8) (ad 10) (ad 11) (ad 12) (ad 13) (ad 14) (ad 15) (ad 16) (f 171) (ad 17) (f 177) (f 15) (f 0) (f 1) (f 2) (f 17) (f 4) (f 3) (f 13) (f 8) (f 9) (f 7) (f 6) (f 5) np (x 1) (x 2) (1 - x 3) (x 4) (x 5) (x 6) (x 7) _ (f 172) (ad 2) np _ ho hpq' h7 h0' h2 hn (by omega)) (fun M hM => ?_)) (by decide) (by decide) (by decide) (by decide) (by decide) (by decide)
      obtain ⟨q, zq, eM⟩ := hM
      exact addP_end1 rfl rfl hB hn hx0 hw20 hw26 hw2 hpq0 hpq n0 zq eM
    · have hpq' : M1 pq = some (.inr (5, [.int (nI np), .int (x 1), .int (x 2), .int (1 - x 3), .int (x 4), .int (x 5), .int (x 6), .int (x 7)])) := by rw [hpq, tj]
      refine Met_room (Met_v (jt_saddV1 l G A M1 (ad 0) pq (ad 1) (ad 3) (ad 5) (ad 6) (ad 7) (f 19) (ad 8) (ad 10) (ad 11) (ad 12) (ad 13) (ad 14) (ad 15) (ad 16) (f 171) (ad 17) (f 177) (f 15) (f 0) (f 1) (f 2) (f 17) (f 4) (f 3) (f 13) (f 8) (f 9) (f 7) (f 6) (f 5) np (x 1) (x 2) (1 - x 3) (x 4) (x 5) (x 6) (x 7) _ (f 172) (ad 2) np _ ho hpq' h7 h0' h2 hn (by omega)) (fun M hM => ?_)) (by decide) (by decide) (by decide) (by decide) (by decide) (by decide)
      obtain ⟨q, zq, eM⟩ := hM
      exact addP_end1 rfl rfl hB hn hx0 hw20 hw26 hw2 hpq0 hpq n0 zq eM
    · have hpq' : M1 pq = some (.inr (6, [.int (nI np), .int (x 1), .int (x 2), .int (1 - x 3), .int (x 4), .int (x 5), .int (x 6), .int (x 7)])) := by rw [hpq, tj]
      refine Met_room (Met_v (jt_saddJ1 l G A M1 (ad 0) pq (ad 1) (ad 3) (ad 5) (ad 6) (ad 7) (f 19) (ad 8) (ad 10) (ad 11) (ad 12) (ad 13) (ad 14) (ad 15) (ad 16) (f 171) (ad 17) (f 177) (f 15) (f 0) (f 1) (f 2) (f 17) (f 4) (f 3) (f 13) (f 8) (f 9) (f 7) (f 6) (f 5) np (x 1) (x 2) (1 - x 3) (x 4) (x 5) (x 6) (x 7) _ (f 172) (ad 2) np _ ho hpq' h7 h0' h2 hn (by omega)) (fun M hM => ?_)) (by decide) (by decide) (by decide) (by decide) (by decide) (by decide)
      obtain ⟨q, zq, eM⟩ := hM
      exact addP_end1 rfl rfl hB hn hx0 hw20 hw26 hw2 hpq0 hpq n0 zq eM

