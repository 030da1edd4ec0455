set_option maxRecDepth 100000
/-! AP: a pump more, a programme more: the pictures -/
def aPf (f : Nat → Int32) (np : Nat) (x : Nat → Int32) : Nat → Int32 := fun p => if 39 + (8 * np) ≤ p ∧ p < 39 + (8 * np) + 8 then x (p - (39 + (8 * np))) else if p = 14 then nI (np + 1) else if p = 172 then f 172 + 1 else f p
def aPa (ad : Nat → Nat) (np pq q e2 : Nat) : Nat → Nat := fun r => if r = 20 + np then pq else if r = 26 + np then q else if r = 2 then e2 else ad r
def aGf (f : Nat → Int32) (ng : Nat) (y : Nat → Int32) : Nat → Int32 := fun p => if 103 + (3 * ng) ≤ p ∧ p < 103 + (3 * ng) + 3 then y (p - (103 + (3 * ng))) else if p = 16 then nI (ng + 1) else if p = 173 then f 173 + 1 else f p
def aGa (ad : Nat → Nat) (ng pr e4 : Nat) : Nat → Nat := fun r => if r = 32 + ng then pr else if r = 4 then e4 else ad r
section AP
variable {G : mg} {ad : Nat → Nat} {b9 : Nat} {bx : Nat → Nat} {np ng nn : Nat} {M0 M M' : mh} {f g : Nat → Int32} {x y : Nat → Int32} {pq q e2 pr e4 : Nat}
theorem aPf_x {w : Nat} (hw : w < 8) : aPf f np x (39 + (8 * np) + w) = x w := by
  unfold aPf
  rw [if_pos (by omega), show 39 + 8 * np + w - (39 + 8 * np) = w by omega]
theorem aPf_o {p : Nat} (h1 : p < 39 + (8 * np) ∨ 39 + (8 * np) + 8 ≤ p) (h2 : p ≠ 14) (h3 : p ≠ 172) : aPf f np x p = f p := by
  unfold aPf
  rw [if_neg (by omega), if_neg h2, if_neg h3]
theorem aPf_14 : aPf f np x 14 = nI (np + 1) := by
  unfold aPf
  rw [if_neg (by omega), if_pos rfl]
theorem aPf_172 (h : np < 6) : aPf f np x 172 = f 172 + 1 := by
  unfold aPf
  rw [if_neg (by omega), if_neg (by decide), if_pos rfl]
theorem aGf_y {w : Nat} (hw : w < 3) : aGf f ng y (103 + (3 * ng) + w) = y w := by
  unfold aGf
  rw [if_pos (by omega), show 103 + 3 * ng + w - (103 + 3 * ng) = w by omega]
theorem aGf_o {p : Nat} (h1 : p < 103 + (3 * ng) ∨ 103 + (3 * ng) + 3 ≤ p) (h2 : p ≠ 16) (h3 : p ≠ 173) : aGf f ng y p = f p := by
  unfold aGf
  rw [if_neg (by omega), if_neg h2, if_neg h3]
theorem aGf_16 : aGf f ng y 16 = nI (ng + 1) := by
  unfold aGf
  rw [if_neg (by omega), if_pos rfl]
theorem aGf_173 (h : ng < 8) : aGf f ng y 173 = f 173 + 1 := by
  unfold aGf
  rw [if_neg (by omega), if_neg (by decide), if_pos rfl]
theorem aPa_p : aPa ad np pq q e2 (20 + np) = pq := if_pos rfl
theorem aPa_q : aPa ad np pq q e2 (26 + np) = q := by
  unfold aPa
  rw [if_neg (by omega), if_pos rfl]
theorem aPa_2 : aPa ad np pq q e2 2 = e2 := by
  unfold aPa
  rw [if_neg (by omega), if_neg (by omega), if_pos rfl]
theorem aPa_o {r : Nat} (h1 : r ≠ 20 + np) (h2 : r ≠ 26 + np) (h3 : r ≠ 2) : aPa ad np pq q e2 r = ad r := by
  unfold aPa
  rw [if_neg h1, if_neg h2, if_neg h3]
theorem aGa_p : aGa ad ng pr e4 (32 + ng) = pr := if_pos rfl
theorem aGa_4 : aGa ad ng pr e4 4 = e4 := by
  unfold aGa
  rw [if_neg (by omega), if_pos rfl]
theorem aGa_o {r : Nat} (h1 : r ≠ 32 + ng) (h3 : r ≠ 4) : aGa ad ng pr e4 r = ad r := by
  unfold aGa
  rw [if_neg h1, if_neg h3]
/-- a role's cell speaks of values and addresses that are the same -/
theorem stC_same {ad' : Nat → Nat} {np' ng' : Nat} {r : Nat} (hr : stU np ng nn r) (hn : np ≤ 6) (h1 : r ≠ 1) (h2 : r ≠ 2) (h10 : r ≠ 10) (h3 : r ≠ 3) (h4 : r ≠ 4) (ha : ∀ k, k < 20 → k ≠ 2 → k ≠ 4 → ad' k = ad k) (hq : ∀ k, k < 6 → qrf ad' (g (180 + k)) = qrf ad (f (180 + k)))
    (hf : ∀ p, p < 200 → p < 39 ∨ (87 ≤ p ∧ p < 103) ∨ 127 ≤ p → p ≠ 14 → p ≠ 16 → p ≠ 172 → p ≠ 173 → g p = f p) (hp : ∀ k w, k < np → w < 8 → g (39 + (8 * k) + w) = f (39 + (8 * k) + w)) : stC G ad' b9 bx np' ng' nn g r = stC G ad b9 bx np ng nn f r := by
  by_cases c : r < 20
  · rw [stC_t c, stC_t c]
    have e : r = 0 ∨ r = 5 ∨ r = 6 ∨ r = 7 ∨ r = 8 ∨ r = 9 ∨ r = 11 ∨ r = 12 ∨ r = 13 ∨ r = 14 ∨ r = 15 ∨ r = 16 ∨ r = 17 ∨ r = 18 ∨ r = 19 := by omega
    have hi : ∀ (n : Nat) (gg : Nat → Nat), (∀ k, k < n → g (gg k) = f (gg k)) → (fun k => if k < n then g (gg k) else 0) = (fun k => if k < n then f (gg k) else 0) := fun n gg h => stIf (g := gg) h
    rcases e with rfl | rfl | rfl | rfl | rfl | rfl | rfl | rfl | rfl | rfl | rfl | rfl | rfl | rfl | rfl
    · have e : stF ad' g = stF ad f := by
        unfold stF
        rw [ha 1 (by decide) (by decide) (by decide), ha 3 (by decide) (by decide) (by decide), ha 5 (by decide) (by decide) (by decide), ha 6 (by decide) (by decide) (by decide), ha 7 (by decide) (by decide) (by decide), ha 8 (by decide) (by decide) (by decide), ha 10 (by decide) (by decide) (by decide), ha 11 (by decide) (by decide) (by decide), ha 12 (by decide) (by decide) (by decide), ha 13 (by decide) (by decide) (by decide), ha 14 (by decide) (by decide) (by decide), ha 15 (by decide) (by decide) (by decide), ha 16 (by decide) (by decide) (by decide), ha 17 (by decide) (by decide) (by decide),
          hf 19 (by decide) (by omega) (by decide) (by decide) (by decide) (by decide), hf 171 (by decide) (by omega) (by decide) (by decide) (by decide) (by decide), hf 177 (by decide) (by omega) (by decide) (by decide) (by decide) (by decide), hf 15 (by decide) (by omega) (by decide) (by decide) (by decide) (by decide), hf 0 (by decide) (by omega) (by decide) (by decide) (by decide) (by decide), hf 1 (by decide) (by omega) (by decide) (by decide) (by decide) (by decide), hf 2 (by decide) (by omega) (by decide) (by decide) (by decide) (by decide), hf 17 (by decide) (by omega) (by decide) (by decide) (by decide) (by decide), hf 4 (by decide) (by omega) (by decide) (by decide) (by decide) (by decide), hf 3 (by decide) (by omega) (by decide) (by decide) (by decide) (by decide), hf 13 (by decide) (by omega) (by decide) (by decide) (by decide) (by decide), hf 8 (by decide) (by omega) (by decide) (by decide) (by decide) (by decide), hf 9 (by decide) (by omega) (by decide) (by decide) (by decide) (by decide), hf 7 (by decide) (by omega) (by decide) (by decide) (by decide) (by decide), hf 6 (by decide) (by omega) (by decide) (by decide) (by decide) (by decide), hf 5 (by decide) (by omega) (by decide) (by decide) (by decide) (by decide)]
      exact congrArg (fun z => (Sum.inr (1, z) : va_E)) e
    · exact congrArg (mIc _ 12) (hi 12 (fun k => 134 + (3 * k)) (fun k hk => hf _ (by omega) (by omega) (by omega) (by omega) (by omega) (by omega)))
    · exact congrArg (mIc _ 12) (hi 12 (fun k => 134 + (3 * k) + 1) (fun k hk => hf _ (by omega) (by omega) (by omega) (by omega) (by omega) (by omega)))
    · exact congrArg (mIc _ 12) (hi 12 (fun k => 134 + (3 * k) + 2) (fun k hk => hf _ (by omega) (by omega) (by omega) (by omega) (by omega) (by omega)))
    · exact congrArg (fun z => (Sum.inr (9, [Value.int z, .ref (if nn = 0 then G.2 0 else b9), .int (nI nn)]) : va_E)) (hf 174 (by decide) (by omega) (by decide) (by decide) (by decide) (by decide))
    · rfl
    · exact congrArg (mIc _ 8) (hi 8 (fun k => 87 + (2 * k)) (fun k hk => hf _ (by omega) (by omega) (by omega) (by omega) (by omega) (by omega)))
    · exact congrArg (mIc _ 8) (hi 8 (fun k => 87 + (2 * k) + 1) (fun k hk => hf _ (by omega) (by omega) (by omega) (by omega) (by omega) (by omega)))
    · exact congrArg (mIc _ 19) (hi 19 (fun k => 20 + k) (fun k hk => hf _ (by omega) (by omega) (by omega) (by omega) (by omega) (by omega)))
    · exact congrArg (mIc _ 3) (hi 3 (fun k => 10 + k) (fun k hk => hf _ (by omega) (by omega) (by omega) (by omega) (by omega) (by omega)))
    · rfl
    · rfl
    · unfold stT
      show (Sum.inr (10, [.ref (ad' 18), .int (g 176), .ref (ad' 19), .int (g 175)]) : va_E) = Sum.inr (10, [.ref (ad 18), .int (f 176), .ref (ad 19), .int (f 175)])
      rw [ha 18 (by decide) (by decide) (by decide), ha 19 (by decide) (by decide) (by decide), hf 176 (by decide) (by omega) (by decide) (by decide) (by decide) (by decide), hf 175 (by decide) (by omega) (by decide) (by decide) (by decide) (by decide)]
    · refine congrArg (mRc _ 6) ?_
      funext k
      by_cases hk : k < 6
      · rw [if_pos hk, if_pos hk, hq k hk]
      · rw [if_neg hk, if_neg hk]
    · show (Sum.inr (2, [.ref (ad' 0)]) : va_E) = Sum.inr (2, [.ref (ad 0)])
      rw [ha 0 (by decide) (by decide) (by decide)]
  · by_cases c2 : r < 26
    · obtain ⟨k, rfl⟩ : ∃ k, r = 20 + k := ⟨r - 20, by omega⟩
      have hk : k < np := by have := hr.2.2.2.2.1 (by omega) c2; omega
      rw [stC_pm (by omega), stC_pm (by omega), show g (39 + (8 * k)) = f (39 + (8 * k)) from hp k 0 hk (by decide)]
      have e : pmF g k = pmF f k := by
        unfold pmF
        rw [hp k 1 hk (by decide), hp k 2 hk (by decide), hp k 3 hk (by decide), hp k 4 hk (by decide), hp k 5 hk (by decide), hp k 6 hk (by decide), hp k 7 hk (by decide)]
      rw [e]
    · obtain ⟨k, rfl⟩ : ∃ k, r = 26 + k := ⟨r - 26, by omega⟩
      have hk : k < np := by have := hr.2.2.2.2.2 (by omega); omega
      rw [stC_cv, stC_cv]
      refine congrArg (mIc _ 2) ?_
      funext j
      by_cases hj : j < 2
      · rw [if_pos hj, if_pos hj, show 39 + (8 * k) + 1 + j = 39 + (8 * k) + (1 + j) by omega, hp k (1 + j) hk (by omega)]
      · rw [if_neg hj, if_neg hj]
theorem StaB.addP (h : StaB G ad b9 bx np ng nn M0 M f) (hn : np < 6) (hx0 : rg (x 0) 2) (hw20 : ad (20 + np) = ad 0) (hw26 : ad (26 + np) = ad 0) (hw2 : np = 0 → ad 2 = ad 0)
    (hpq0 : ∀ r, stU np ng nn r → adr ad b9 r ≠ pq) (hpqM : M pq ≠ none) (hpq : M' pq = some (.inr (4 + tN (x 0), [.int (nI np), .int (x 1), .int (x 2), .int (1 - x 3), .int (x 4), .int (x 5), .int (x 6), .int (x 7)])))
    (hq : M q = none) (hq' : M' q = some (mIc (G.1.1 113) 2 (fun j => if j = 0 then x 1 else if j = 1 then x 2 else 0))) (h10 : M' (ad 10) = some (mRc (G.1.1 104) 6 (va_up (fun k => if k < np then some (ad (26 + k)) else none) np (some q))))
    (h1' : M' (ad 1) = some (.inr (9, [.int (f 172 + 1), .ref e2, .int (nI (np + 1))]))) (h2' : M' e2 = some (mRc (G.1.1 103) 10 (va_up (fun k => if k < np then some (ad (20 + k)) else none) np (some pq)))) (he2 : (np = 0 ∧ M e2 = none) ∨ (np ≠ 0 ∧ e2 = ad 2)) (hqe : q ≠ e2)
    (hk : ∀ a, M a ≠ none → a ≠ ad 10 → a ≠ ad 1 → a ≠ e2 → M' a = M a) : StaB G (aPa ad np pq q e2) b9 bx (np + 1) ng nn M0 M' (aPf f np x) := by
  obtain ⟨h1, h2, h3, h4, h5, h6, h7, h8, hqq⟩ := h
  have no := fun r (hr : stU np ng nn r) fs => stC_no (G := G) (ad := ad) (b9 := b9) (bx := bx) (f := f) hr h2 fs
  have g8 := h1.2.2.2.1
  have s1 : stU np ng nn 1 := stU_p (by decide) (by decide) (by decide) (by decide)
  have s10 : stU np ng nn 10 := stU_p (by decide) (by decide) (by decide) (by decide)
  have some3 : ∀ r, stU np ng nn r → M (adr ad b9 r) ≠ none := fun r hr => by rw [h3 r hr]; exact fun z => by cases z
  -- a role of old, or one of the new
  have cas : ∀ r, stU (np + 1) ng nn r → r = 20 + np ∨ r = 26 + np ∨ (r = 2 ∧ np = 0) ∨ (stU np ng nn r ∧ r ≠ 20 + np ∧ r ≠ 26 + np ∧ (r = 2 → np ≠ 0)) := fun r hr => by
    obtain ⟨a, b, c, d, e, i⟩ := hr
    by_cases c1 : r = 20 + np
    · exact Or.inl c1
    · by_cases c2 : r = 26 + np
      · exact Or.inr (Or.inl c2)
      · by_cases c3 : r = 2 ∧ np = 0
        · exact Or.inr (Or.inr (Or.inl c3))
        · exact Or.inr (Or.inr (Or.inr ⟨⟨a, fun z => fun w => c3 ⟨z, w⟩, c, d, fun z w => by have := e z w; omega, fun z => by have := i z; omega⟩, c1, c2, fun z w => c3 ⟨z, w⟩⟩))
  have old : ∀ r, stU np ng nn r → r ≠ 20 + np → r ≠ 26 + np → (r = 2 → np ≠ 0) → adr (aPa ad np pq q e2) b9 r = adr ad b9 r := fun r hr n1 n2 n3 => by
    by_cases r9 : r = 9
    · rw [r9]; rfl
    · rw [adr_n r9, adr_n r9]
      by_cases r2 : r = 2
      · rw [r2, aPa_2]
        rcases he2 with ⟨z, -⟩ | ⟨-, z⟩
        · exact absurd z (n3 r2)
        · exact z
      · exact aPa_o n1 n2 r2
  have a20 : adr (aPa ad np pq q e2) b9 (20 + np) = pq := (adr_n (by omega)).trans aPa_p
  have a26 : adr (aPa ad np pq q e2) b9 (26 + np) = q := (adr_n (by omega)).trans aPa_q
  have a2 : adr (aPa ad np pq q e2) b9 2 = e2 := (adr_n (by decide)).trans aPa_2
  have e2n : ∀ r, stU np ng nn r → (r = 2 → np ≠ 0 → False) → adr ad b9 r ≠ e2 := fun r hr hne z => by
    rcases he2 with ⟨-, w⟩ | ⟨n0, w⟩
    · rw [← z] at w
      exact some3 r hr w
    · have s2 : stU np ng nn 2 := ⟨by decide, fun _ => n0, fun z => by omega, fun z => by omega, fun z => by omega, fun z => by omega⟩
      have := h4 r 2 hr s2 (z.trans (w.trans (adr_n (by decide)).symm))
      exact hne this n0
  have hpm : ∀ k w, k < np → w < 8 → aPf f np x (39 + (8 * k) + w) = f (39 + (8 * k) + w) := fun k w hk hw => aPf_o (by omega) (by omega) (by omega)
  refine ⟨⟨aPf_14, by omega, (aPf_o (by omega) (by decide) (by decide)).trans h1.2.2.1, g8, (aPf_o (by omega) (by decide) (by decide)).trans h1.2.2.2.2.1, h1.2.2.2.2.2⟩, fun k hk' => ?_, fun r hr => ?_, fun r r' hr hr' e => ?_, fun k hk' => ?_, fun k hk' => ?_, fun a ha hna => ?_, fun n0 => ?_, fun k hk' => ?_⟩
  · by_cases c : k = np
    · subst c
      rw [show aPf f k x (39 + (8 * k)) = x 0 from aPf_x (w := 0) (by decide)]
      exact hx0
    · rw [show aPf f np x (39 + (8 * k)) = f (39 + (8 * k)) from hpm k 0 (by omega) (by decide)]
      exact h2 k (by omega)
  · rcases cas r hr with rfl | rfl | ⟨rfl, n0⟩ | ⟨hu, n1, n2, n3⟩
    · rw [a20, hpq, stC_pm (by omega), show aPf f np x (39 + (8 * np)) = x 0 from aPf_x (w := 0) (by decide)]
      unfold pmF
      rw [aPf_x (w := 1) (by decide), aPf_x (w := 2) (by decide), aPf_x (w := 3) (by decide), aPf_x (w := 4) (by decide), aPf_x (w := 5) (by decide), aPf_x (w := 6) (by decide), aPf_x (w := 7) (by decide)]
    · rw [a26, hq', stC_cv]
      refine congrArg some (congrArg (mIc _ 2) ?_)
      funext j
      by_cases hj : j < 2
      · rw [if_pos hj, show 39 + (8 * np) + 1 + j = 39 + (8 * np) + (1 + j) by omega, aPf_x (w := 1 + j) (by omega)]
        obtain rfl | rfl : j = 0 ∨ j = 1 := by omega
        · rfl
        · rfl
      · rw [if_neg hj, if_neg (by omega), if_neg (by omega)]
    · rw [a2, h2']
      refine congrArg some (congrArg (mRc _ 10) ?_)
      subst n0
      funext k
      by_cases c : k = 0
      · subst c
        rw [va_up_self, if_pos (by omega)]
        exact congrArg some (aPa_p (np := 0)).symm
      · rw [va_up_ne _ _ c, if_neg (by omega), if_neg (by omega)]
    · rw [old r hu n1 n2 n3]
      by_cases r2 : r = 2
      · subst r2
        have n0 := n3 rfl
        obtain ⟨z, -⟩ | ⟨-, w⟩ := he2
        · exact absurd z n0
        · rw [show adr ad b9 2 = e2 from (adr_n (by decide)).trans w.symm, h2']
          refine congrArg some (congrArg (mRc _ 10) ?_)
          funext k
          by_cases c : k = np
          · subst c
            rw [va_up_self, if_pos (by omega), aPa_p]
          · rw [va_up_ne _ _ c]
            by_cases c2 : k < np
            · rw [if_pos c2, if_pos (by omega), aPa_o (by omega) (by omega) (by omega)]
            · rw [if_neg c2, if_neg (by omega)]
      · by_cases r1 : r = 1
        · subst r1
          rw [show adr ad b9 1 = ad 1 from adr_n (by decide), h1', stC_t (by decide)]
          show some (Sum.inr (9, [Value.int (f 172 + 1), .ref (e2), .int (nI (np + 1))]) : va_E) = some (Sum.inr (9, [Value.int (aPf f np x 172), .ref (if np + 1 = 0 then G.2 0 else aPa ad np pq q e2 2), .int (nI (np + 1))]) : va_E)
          rw [aPf_172 hn, if_neg (by omega), aPa_2]
        · by_cases r10 : r = 10
          · subst r10
            rw [show adr ad b9 10 = ad 10 from adr_n (by decide), h10]
            refine congrArg some (congrArg (mRc _ 6) ?_)
            funext k
            by_cases c : k = np
            · subst c
              rw [va_up_self, if_pos (by omega), aPa_q]
            · rw [va_up_ne _ _ c]
              by_cases c2 : k < np
              · rw [if_pos c2, if_pos (by omega), aPa_o (by omega) (by omega) (by omega)]
              · rw [if_neg c2, if_neg (by omega)]
          · have na : ∀ t, stU np ng nn t → t ≠ 9 → r ≠ t → adr ad b9 r ≠ ad t := fun t ht t9 hne z => hne (h4 r t hu ht (z.trans (adr_n t9).symm))
            rw [hk _ (some3 r hu) (na 10 s10 (by decide) r10) (na 1 s1 (by decide) r1) (e2n r hu (fun z _ => r2 z)), h3 r hu]
            refine congrArg some ?_
            by_cases r3 : r = 3
            · subst r3
              rw [stC_t (by decide), stC_t (by decide)]
              show (Sum.inr (9, [Value.int (f 173), .ref (if ng = 0 then G.2 0 else ad 4), .int (nI ng)]) : va_E) = (Sum.inr (9, [Value.int (aPf f np x 173), .ref (if ng = 0 then G.2 0 else aPa ad np pq q e2 4), .int (nI ng)]) : va_E)
              rw [aPf_o (by omega) (by decide) (by decide), aPa_o (by omega) (by omega) (by decide)]
            · by_cases r4 : r = 4
              · subst r4
                rw [stC_t (by decide), stC_t (by decide)]
                refine congrArg (mRc _ 10) ?_
                funext k
                by_cases c : k < ng
                · rw [if_pos c, if_pos c, aPa_o (by omega) (by omega) (by omega)]
                · rw [if_neg c, if_neg c]
              · refine (stC_same hu (by omega) r1 r2 r10 r3 r4 (fun k k1 k2 _ => aPa_o (by omega) (by omega) k2) (fun k hk' => ?_) (fun p p0 p1 p2 _ p4 _ => aPf_o (by omega) p2 p4) hpm).symm
                rw [aPf_o (by omega) (by omega) (by omega)]
                rcases hqq k hk' with z | ⟨j, j1, j2⟩
                · rw [z]; rfl
                · rw [qrf_some ⟨j, j1, j2⟩ (by omega), qrf_some ⟨j, j1, j2⟩ (by omega), j2, tN_nI (by omega), aPa_o (by omega) (by omega) (by omega)]
  · have pqq : pq ≠ q := fun z => hpqM (z ▸ hq)
    have pqe : pq ≠ e2 := fun z => by
      rcases he2 with ⟨-, w⟩ | ⟨n0, w⟩
      · exact hpqM (z ▸ w)
      · have s2 : stU np ng nn 2 := ⟨by decide, fun _ => n0, fun z => by omega, fun z => by omega, fun z => by omega, fun z => by omega⟩
        exact hpq0 2 s2 ((adr_n (by decide)).trans (w.symm.trans z.symm))
    have qo : ∀ r, stU np ng nn r → adr ad b9 r ≠ q := fun r hr z => some3 r hr (z ▸ hq)
    rcases cas r hr with rfl | rfl | ⟨rfl, n0⟩ | ⟨hu, n1, n2, n3⟩
    · rw [a20] at e
      rcases cas r' hr' with rfl | rfl | ⟨rfl, n0⟩ | ⟨hu', n1', n2', n3'⟩
      · rfl
      · rw [a26] at e; exact absurd e pqq
      · rw [a2] at e; exact absurd e pqe
      · rw [old r' hu' n1' n2' n3'] at e; exact absurd e.symm (hpq0 r' hu')
    · rw [a26] at e
      rcases cas r' hr' with rfl | rfl | ⟨rfl, n0⟩ | ⟨hu', n1', n2', n3'⟩
      · rw [a20] at e; exact absurd e.symm pqq
      · rfl
      · rw [a2] at e; exact absurd e hqe
      · rw [old r' hu' n1' n2' n3'] at e; exact absurd e.symm (qo r' hu')
    · rw [a2] at e
      rcases cas r' hr' with rfl | rfl | ⟨rfl, n0'⟩ | ⟨hu', n1', n2', n3'⟩
      · rw [a20] at e; exact absurd e.symm pqe
      · rw [a26] at e; exact absurd e.symm hqe
      · rfl
      · rw [old r' hu' n1' n2' n3'] at e; exact absurd e.symm (e2n r' hu' (fun _ w => w n0))
    · rw [old r hu n1 n2 n3] at e
      rcases cas r' hr' with rfl | rfl | ⟨rfl, n0⟩ | ⟨hu', n1', n2', n3'⟩
      · rw [a20] at e; exact absurd e (hpq0 r hu)
      · rw [a26] at e; exact absurd e (qo r hu)
      · rw [a2] at e; exact absurd e (e2n r hu (fun _ w => w n0))
      · rw [old r' hu' n1' n2' n3'] at e; exact h4 r r' hu hu' e
  · have hc := h5 k hk'
    rw [aPa_o (by omega) (by omega) (by omega), aPf_o (by omega) (by omega) (by omega), aPf_o (by omega) (by omega) (by omega), aPf_o (by omega) (by omega) (by omega)]
    have nr : ∀ r, stU np ng nn r → ad (32 + k) ≠ adr ad b9 r := fun r hr z => by
      have := h3 r hr
      rw [← z, hc] at this
      exact (no r hr _).1 (Option.some.inj this).symm
    rw [hk _ (by rw [hc]; exact fun z => by cases z) (fun z => nr 10 s10 (z.trans (adr_n (by decide)).symm)) (fun z => nr 1 s1 (z.trans (adr_n (by decide)).symm)) (fun z => ?_)]
    · exact hc
    · rcases he2 with ⟨-, w⟩ | ⟨n0, w⟩
      · rw [← z, hc] at w; cases w
      · have s2 : stU np ng nn 2 := ⟨by decide, fun _ => n0, fun z => by omega, fun z => by omega, fun z => by omega, fun z => by omega⟩
        exact nr 2 s2 (z.trans (w.trans (adr_n (by decide)).symm))
  · rw [aPf_o (by omega) (by omega) (by omega)]
    rcases h6 k hk' with hb | hb
    · have nr : ∀ r, stU np ng nn r → bx k ≠ adr ad b9 r := fun r hr z => by
        have := h3 r hr
        rw [← z, hb] at this
        exact (no r hr _).2 (Option.some.inj this).symm
      refine Or.inl ?_
      rw [hk _ (by rw [hb]; exact fun z => by cases z) (fun z => nr 10 s10 (z.trans (adr_n (by decide)).symm)) (fun z => nr 1 s1 (z.trans (adr_n (by decide)).symm)) (fun z => ?_)]
      · exact hb
      · rcases he2 with ⟨-, w⟩ | ⟨n0, w⟩
        · rw [← z, hb] at w; cases w
        · have s2 : stU np ng nn 2 := ⟨by decide, fun _ => n0, fun z => by omega, fun z => by omega, fun z => by omega, fun z => by omega⟩
          exact nr 2 s2 (z.trans (w.trans (adr_n (by decide)).symm))
    · exact Or.inr hb
  · have hz : ∀ r, r < 32 → ad r ≠ a := fun r hr z => by
      by_cases c1 : r = 20 + np
      · rw [c1, hw20] at z
        exact hna 0 (by decide) ((aPa_o (by omega) (by omega) (by decide)).trans z)
      · by_cases c2 : r = 26 + np
        · rw [c2, hw26] at z
          exact hna 0 (by decide) ((aPa_o (by omega) (by omega) (by decide)).trans z)
        · by_cases c3 : r = 2
          · rcases he2 with ⟨n0, -⟩ | ⟨n0, w⟩
            · rw [c3, hw2 n0] at z
              exact hna 0 (by decide) ((aPa_o (by omega) (by omega) (by decide)).trans z)
            · rw [c3, ← w] at z
              exact hna 2 (by decide) (aPa_2.trans z)
          · exact hna r hr ((aPa_o c1 c2 c3).trans z)
    have e := h7 a ha hz
    rw [hk a (by rw [e]; exact ha) (fun z => hz 10 (by decide) z.symm) (fun z => hz 1 (by decide) z.symm) (fun z => hna 2 (by decide) (aPa_2.trans z.symm)), e]
  · rcases h8 n0 with ⟨r, hr, z⟩ | z
    · left
      by_cases c1 : r = 20 + np
      · rw [c1, hw20] at z
        exact ⟨0, by decide, z.trans (aPa_o (by omega) (by omega) (by decide)).symm⟩
      · by_cases c2 : r = 26 + np
        · rw [c2, hw26] at z
          exact ⟨0, by decide, z.trans (aPa_o (by omega) (by omega) (by decide)).symm⟩
        · by_cases c3 : r = 2
          · rcases he2 with ⟨n0, -⟩ | ⟨n0, w⟩
            · rw [c3, hw2 n0] at z
              exact ⟨0, by decide, z.trans (aPa_o (by omega) (by omega) (by decide)).symm⟩
            · rw [c3, ← w] at z
              exact ⟨2, by decide, z.trans aPa_2.symm⟩
          · exact ⟨r, hr, z.trans (aPa_o c1 c2 c3).symm⟩
    · exact Or.inr z
  · rw [aPf_o (by omega) (by omega) (by omega)]
    rcases hqq k hk' with z | ⟨j, j1, j2⟩
    · exact Or.inl z
    · exact Or.inr ⟨j, by omega, j2⟩
/-- a programme more -/
theorem StaB.addG (h : StaB G ad b9 bx np ng nn M0 M f) (hn : ng < 8) (hw4 : ng = 0 → ad 4 = ad 0)
    (hpr : M pr = some (.inr (7, [.int (y 0), .int (y 1), .int (y 2)])))
    (h3' : M' (ad 3) = some (.inr (9, [.int (f 173 + 1), .ref e4, .int (nI (ng + 1))]))) (h4' : M' e4 = some (mRc (G.1.1 103) 10 (va_up (fun k => if k < ng then some (ad (32 + k)) else none) ng (some pr)))) (he4 : (ng = 0 ∧ M e4 = none) ∨ (ng ≠ 0 ∧ e4 = ad 4))
    (hk : ∀ a, M a ≠ none → a ≠ ad 3 → a ≠ e4 → M' a = M a) : StaB G (aGa ad ng pr e4) b9 bx np (ng + 1) nn M0 M' (aGf f ng y) := by
  obtain ⟨h1, h2, h3, h4, h5, h6, h7, h8, hqq⟩ := h
  have no := fun r (hr : stU np ng nn r) fs => stC_no (G := G) (ad := ad) (b9 := b9) (bx := bx) (f := f) hr h2 fs
  have n6 := h1.2.1
  have s3 : stU np ng nn 3 := stU_p (by decide) (by decide) (by decide) (by decide)
  have some3 : ∀ r, stU np ng nn r → M (adr ad b9 r) ≠ none := fun r hr => by rw [h3 r hr]; exact fun z => by cases z
  have cas : ∀ r, stU np (ng + 1) nn r → (r = 4 ∧ ng = 0) ∨ (stU np ng nn r ∧ (r = 4 → ng ≠ 0)) := fun r hr => by
    obtain ⟨a, b, c, d, e, i⟩ := hr
    by_cases c3 : r = 4 ∧ ng = 0
    · exact Or.inl c3
    · exact Or.inr ⟨⟨a, b, fun z => fun w => c3 ⟨z, w⟩, d, e, i⟩, fun z w => c3 ⟨z, w⟩⟩
  have old : ∀ r, stU np ng nn r → (r = 4 → ng ≠ 0) → adr (aGa ad ng pr e4) b9 r = adr ad b9 r := fun r hr n3 => by
    have r32 := hr.1
    by_cases r9 : r = 9
    · rw [r9]; rfl
    · rw [adr_n r9, adr_n r9]
      by_cases r2 : r = 4
      · rw [r2, aGa_4]
        rcases he4 with ⟨z, -⟩ | ⟨-, z⟩
        · exact absurd z (n3 r2)
        · exact z
      · exact aGa_o (by omega) r2
  have a4 : adr (aGa ad ng pr e4) b9 4 = e4 := (adr_n (by decide)).trans aGa_4
  have e4n : ∀ r, stU np ng nn r → (r = 4 → ng ≠ 0 → False) → adr ad b9 r ≠ e4 := fun r hr hne z => by
    rcases he4 with ⟨-, w⟩ | ⟨n0, w⟩
    · rw [← z] at w
      exact some3 r hr w
    · have s4 : stU np ng nn 4 := ⟨by decide, fun z => by omega, fun _ => n0, fun z => by omega, fun z => by omega, fun z => by omega⟩
      have := h4 r 4 hr s4 (z.trans (w.trans (adr_n (by decide)).symm))
      exact hne this n0
  have hpm : ∀ k w, k < np → w < 8 → aGf f ng y (39 + (8 * k) + w) = f (39 + (8 * k) + w) := fun k w hk hw => aGf_o (by omega) (by omega) (by omega)
  have keep7 : ∀ {a : Nat} {fs : List Value}, M a = some (.inr (7, fs)) → M' a = M a := fun {a fs} hc => by
    have nr : ∀ r, stU np ng nn r → a ≠ adr ad b9 r := fun r hr z => by
      have := h3 r hr
      rw [← z, hc] at this
      exact (no r hr _).1 (Option.some.inj this).symm
    refine hk _ (by rw [hc]; exact fun z => by cases z) (fun z => nr 3 s3 (z.trans (adr_n (by decide)).symm)) (fun z => ?_)
    rcases he4 with ⟨-, w⟩ | ⟨n0, w⟩
    · rw [← z, hc] at w; cases w
    · have s4 : stU np ng nn 4 := ⟨by decide, fun z => by omega, fun _ => n0, fun z => by omega, fun z => by omega, fun z => by omega⟩
      exact nr 4 s4 (z.trans (w.trans (adr_n (by decide)).symm))
  refine ⟨⟨(aGf_o (by omega) (by decide) (by decide)).trans h1.1, n6, aGf_16, by omega, (aGf_o (by omega) (by decide) (by decide)).trans h1.2.2.2.2.1, h1.2.2.2.2.2⟩, fun k hk' => ?_, fun r hr => ?_, fun r r' hr hr' e => ?_, fun k hk' => ?_, fun k hk' => ?_, fun a ha hna => ?_, fun n0 => ?_, fun k hk' => ?_⟩
  · rw [show aGf f ng y (39 + (8 * k)) = f (39 + (8 * k)) from hpm k 0 hk' (by decide)]
    exact h2 k hk'
  · rcases cas r hr with ⟨rfl, n0⟩ | ⟨hu, n3⟩
    · rw [a4, h4']
      refine congrArg some (congrArg (mRc _ 10) ?_)
      subst n0
      funext k
      by_cases c : k = 0
      · subst c
        rw [va_up_self, if_pos (by omega)]
        exact congrArg some (aGa_p (ng := 0)).symm
      · rw [va_up_ne _ _ c, if_neg (by omega), if_neg (by omega)]
    · rw [old r hu n3]
      by_cases r2 : r = 4
      · subst r2
        have n0 := n3 rfl
        obtain ⟨z, -⟩ | ⟨-, w⟩ := he4
        · exact absurd z n0
        · rw [show adr ad b9 4 = e4 from (adr_n (by decide)).trans w.symm, h4']
          refine congrArg some (congrArg (mRc _ 10) ?_)
          funext k
          by_cases c : k = ng
          · subst c
            rw [va_up_self, if_pos (by omega), aGa_p]
          · rw [va_up_ne _ _ c]
            by_cases c2 : k < ng
            · rw [if_pos c2, if_pos (by omega), aGa_o (by omega) (by omega)]
            · rw [if_neg c2, if_neg (by omega)]
      · by_cases r1 : r = 3
        · subst r1
          rw [show adr ad b9 3 = ad 3 from adr_n (by decide), h3', stC_t (by decide)]
          show some (Sum.inr (9, [Value.int (f 173 + 1), .ref (e4), .int (nI (ng + 1))]) : va_E) = some (Sum.inr (9, [Value.int (aGf f ng y 173), .ref (if ng + 1 = 0 then G.2 0 else aGa ad ng pr e4 4), .int (nI (ng + 1))]) : va_E)
          rw [aGf_173 hn, if_neg (by omega), aGa_4]
        · have na : ∀ t, stU np ng nn t → t ≠ 9 → r ≠ t → adr ad b9 r ≠ ad t := fun t ht t9 hne z => hne (h4 r t hu ht (z.trans (adr_n t9).symm))
          rw [hk _ (some3 r hu) (na 3 s3 (by decide) r1) (e4n r hu (fun z _ => r2 z)), h3 r hu]
          refine congrArg some ?_
          by_cases q1 : r = 1
          · subst q1
            rw [stC_t (by decide), stC_t (by decide)]
            show (Sum.inr (9, [Value.int (f 172), .ref (if np = 0 then G.2 0 else ad 2), .int (nI np)]) : va_E) = (Sum.inr (9, [Value.int (aGf f ng y 172), .ref (if np = 0 then G.2 0 else aGa ad ng pr e4 2), .int (nI np)]) : va_E)
            rw [aGf_o (by omega) (by decide) (by decide), aGa_o (by omega) (by decide)]
          · by_cases q2 : r = 2
            · subst q2
              rw [stC_t (by decide), stC_t (by decide)]
              refine congrArg (mRc _ 10) ?_
              funext k
              by_cases c : k < np
              · rw [if_pos c, if_pos c, aGa_o (by omega) (by omega)]
              · rw [if_neg c, if_neg c]
            · by_cases q10 : r = 10
              · subst q10
                rw [stC_t (by decide), stC_t (by decide)]
                refine congrArg (mRc _ 6) ?_
                funext k
                by_cases c : k < np
                · rw [if_pos c, if_pos c, aGa_o (by omega) (by omega)]
                · rw [if_neg c, if_neg c]
              · refine (stC_same hu n6 q1 q2 q10 r1 r2 (fun k k1 _ k4 => aGa_o (by omega) k4) (fun k hk' => ?_) (fun p p0 p1 _ p3 _ p5 => aGf_o (by omega) p3 p5) hpm).symm
                rw [aGf_o (by omega) (by omega) (by omega)]
                rcases hqq k hk' with z | ⟨j, j1, j2⟩
                · rw [z]; rfl
                · rw [qrf_some ⟨j, j1, j2⟩ n6, qrf_some ⟨j, j1, j2⟩ n6, j2, tN_nI (by omega), aGa_o (by omega) (by omega)]
  · rcases cas r hr with ⟨rfl, n0⟩ | ⟨hu, n3⟩
    · rw [a4] at e
      rcases cas r' hr' with ⟨rfl, n0'⟩ | ⟨hu', n3'⟩
      · rfl
      · rw [old r' hu' n3'] at e; exact absurd e.symm (e4n r' hu' (fun _ w => w n0))
    · rw [old r hu n3] at e
      rcases cas r' hr' with ⟨rfl, n0⟩ | ⟨hu', n3'⟩
      · rw [a4] at e; exact absurd e (e4n r hu (fun _ w => w n0))
      · rw [old r' hu' n3'] at e; exact h4 r r' hu hu' e
  · by_cases c : k = ng
    · subst c
      rw [aGa_p, keep7 hpr, hpr, show aGf f k y (103 + (3 * k)) = y 0 from aGf_y (w := 0) (by decide), aGf_y (w := 1) (by decide), aGf_y (w := 2) (by decide)]
    · have hc := h5 k (by omega)
      rw [aGa_o (by omega) (by omega), keep7 hc, hc, show aGf f ng y (103 + (3 * k)) = f (103 + (3 * k)) from aGf_o (by omega) (by omega) (by omega), aGf_o (by omega) (by omega) (by omega), aGf_o (by omega) (by omega) (by omega)]
  · rw [aGf_o (by omega) (by omega) (by omega)]
    rcases h6 k hk' with hb | hb
    · have nr : ∀ r, stU np ng nn r → bx k ≠ adr ad b9 r := fun r hr z => by
        have := h3 r hr
        rw [← z, hb] at this
        exact (no r hr _).2 (Option.some.inj this).symm
      refine Or.inl ?_
      rw [hk _ (by rw [hb]; exact fun z => by cases z) (fun z => nr 3 s3 (z.trans (adr_n (by decide)).symm)) (fun z => ?_)]
      · exact hb
      · rcases he4 with ⟨-, w⟩ | ⟨n0, w⟩
        · rw [← z, hb] at w; cases w
        · have s4 : stU np ng nn 4 := ⟨by decide, fun z => by omega, fun _ => n0, fun z => by omega, fun z => by omega, fun z => by omega⟩
          exact nr 4 s4 (z.trans (w.trans (adr_n (by decide)).symm))
    · exact Or.inr hb
  · have hz : ∀ r, r < 32 → ad r ≠ a := fun r hr z => by
      by_cases c3 : r = 4
      · rcases he4 with ⟨n0, -⟩ | ⟨n0, w⟩
        · rw [c3, hw4 n0] at z
          exact hna 0 (by decide) ((aGa_o (by omega) (by decide)).trans z)
        · rw [c3, ← w] at z
          exact hna 4 (by decide) (aGa_4.trans z)
      · exact hna r hr ((aGa_o (by omega) c3).trans z)
    have e := h7 a ha hz
    rw [hk a (by rw [e]; exact ha) (fun z => hz 3 (by decide) z.symm) (fun z => hna 4 (by decide) (aGa_4.trans z.symm)), e]
  · rcases h8 n0 with ⟨r, hr, z⟩ | z
    · left
      by_cases c3 : r = 4
      · rcases he4 with ⟨n0, -⟩ | ⟨n0, w⟩
        · rw [c3, hw4 n0] at z
          exact ⟨0, by decide, z.trans (aGa_o (by omega) (by decide)).symm⟩
        · rw [c3, ← w] at z
          exact ⟨4, by decide, z.trans aGa_4.symm⟩
      · exact ⟨r, hr, z.trans (aGa_o (by omega) c3).symm⟩
    · exact Or.inr z
  · rw [aGf_o (by omega) (by omega) (by omega)]
    exact hqq k hk'
end AP

