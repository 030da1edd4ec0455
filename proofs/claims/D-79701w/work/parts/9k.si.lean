set_option maxRecDepth 100000
/-! SI: a station just made -/
def f00 (h : Nat → Int32) : Nat → Int32 := fun p => if 20 ≤ p ∧ p < 39 then h p else if p = 4 then -1 else if p = 2 then 10000 else if 180 ≤ p ∧ p < 186 then -1 else 0
theorem f00_0 {h : Nat → Int32} {p : Nat} (h1 : 39 ≤ p) (h2 : ¬ (180 ≤ p ∧ p < 186)) : f00 h p = 0 := by
  unfold f00
  rw [if_neg (by omega), if_neg (by omega), if_neg (by omega), if_neg h2]
theorem f00_q {h : Nat → Int32} {k : Nat} (hk : k < 6) : f00 h (180 + k) = -1 := by
  unfold f00
  rw [if_neg (by omega), if_neg (by omega), if_neg (by omega), if_pos (by omega)]
theorem f00_s {h : Nat → Int32} {k : Nat} (hk : k < 19) : f00 h (20 + k) = h (20 + k) := if_pos (by omega)
theorem si_zero {h : Nat → Int32} {n : Nat} {g : Nat → Nat} (hg : ∀ k, k < n → 39 ≤ g k ∧ ¬ (180 ≤ g k ∧ g k < 186)) : (fun _ => 0 : Nat → Int32) = fun k => if k < n then f00 h (g k) else 0 := by
  funext k
  by_cases c : k < n
  · rw [if_pos c, f00_0 (hg k c).1 (hg k c).2]
  · rw [if_neg c]
def siA (o sa q1 q3 q5 q6 q7 q8 q10 q11 q12 q14 q15 q_102 q17 q19 q_123 : Nat) : Nat → Nat := fun r => if r = 13 then sa else if r = 1 then q1 else if r = 3 then q3 else if r = 5 then q5 else if r = 6 then q6 else if r = 7 then q7 else if r = 8 then q8 else if r = 10 then q10 else if r = 11 then q11 else if r = 12 then q12 else if r = 14 then q14 else if r = 15 then q15 else if r = 16 then q_102 else if r = 17 then q17 else if r = 19 then q19 else if r = 18 then q_123 else o
set_option maxHeartbeats 4000000 in
theorem Sta_init {G : mg} {M1 M : mh} {o sa q1 q3 q5 q6 q7 q8 q10 q11 q12 q14 q15 q_102 q17 q19 q_123 : Nat} {h : Nat → Int32} (hB : Bs 2 [(o, .inr (1, [.ref q1, .ref q3, .ref q5, .ref q6, .ref q7, .int (0 : Int32), .ref q8, .ref q10, .ref q11, .ref q12, .ref sa, .ref q14, .ref q15, .ref q_102, .int (0 : Int32), .ref q17, .int (0 : Int32), .int (0 : Int32), .int (0 : Int32), .int (0 : Int32), .int (10000 : Int32), .int (0 : Int32), .int (-1 : Int32), .int (0 : Int32), .int (0 : Int32), .int (0 : Int32), .int (0 : Int32), .int (0 : Int32), .int (0 : Int32), .int (0 : Int32)])), (sa, mIc (G.1.1 100) 19 (fun k => if k < 19 then h (20 + k) else 0)), (q1, .inr (9, [.int (0 : Int32), .ref (G.2 0), .int (0 : Int32)])), (q3, .inr (9, [.int (0 : Int32), .ref (G.2 0), .int (0 : Int32)])), (q5, mIc (G.1.1 100) 12 (fun _ => 0)), (q6, mIc (G.1.1 100) 12 (fun _ => 0)), (q7, mIc (G.1.1 100) 12 (fun _ => 0)), (q8, .inr (9, [.int (0 : Int32), .ref (G.2 0), .int (0 : Int32)])), (q10, mRc (G.1.1 104) 6 (fun _ => none)), (q11, mIc (G.1.1 100) 8 (fun _ => 0)), (q12, mIc (G.1.1 101) 8 (fun _ => 0)), (q14, mIc (G.1.1 100) 3 (fun _ => 0)), (q15, mRc (G.1.1 105) 3 (va_up (va_up (va_up (fun _ => none) 0 (some (G.2 (6 + 0)))) 1 (some (G.2 (6 + 1)))) 2 (some (G.2 (6 + 2))))), (q_102, mRc (G.1.1 106) 6 (fun k => if k < 6 then some (G.2 (10 + k)) else none)), (q17, .inr (10, [.ref q_123, .int (0 : Int32), .ref q19, .int (0 : Int32)])), (q19, .inr (2, [.ref o])), (q_123, mRc (G.1.1 103) 6 (fun _ => none))] M1 M) : Sta G (siA o sa q1 q3 q5 q6 q7 q8 q10 q11 q12 q14 q15 q_102 q17 q19 q_123) 0 0 M1 M (f00 h) ∧ ∀ r, r < 32 → (siA o sa q1 q3 q5 q6 q7 q8 q10 q11 q12 q14 q15 q_102 q17 q19 q_123) r = o ∨ (siA o sa q1 q3 q5 q6 q7 q8 q10 q11 q12 q14 q15 q_102 q17 q19 q_123) r = sa ∨ M1 ((siA o sa q1 q3 q5 q6 q7 q8 q10 q11 q12 q14 q15 q_102 q17 q19 q_123) r) = none := by
  have hx : ∀ r, stU 0 0 0 r → r = 0 ∨ r = 1 ∨ r = 3 ∨ r = 5 ∨ r = 6 ∨ r = 7 ∨ r = 8 ∨ r = 10 ∨ r = 11 ∨ r = 12 ∨ r = 13 ∨ r = 14 ∨ r = 15 ∨ r = 16 ∨ r = 17 ∨ r = 18 ∨ r = 19 := fun r hr => by
    obtain ⟨a, b, c, d, e, f⟩ := hr
    have h2 : r ≠ 2 := fun z => b z rfl
    have h4 : r ≠ 4 := fun z => c z rfl
    have h9 : r ≠ 9 := fun z => d z rfl
    by_cases h20 : 20 ≤ r
    · by_cases h26 : r < 26
      · have := e h20 h26; omega
      · have := f (by omega); omega
    · omega
  refine ⟨⟨0, o, fun _ => 0, ⟨rfl, by decide, rfl, by decide, rfl, by decide⟩, fun k hk => absurd hk (Nat.not_lt_zero _), fun r hr => ?_, fun r r' hr hr' e => ?_, fun k hk => absurd hk (Nat.not_lt_zero _), fun k hk => absurd hk (Nat.not_lt_zero _), fun q hq hn => ?_, fun z => absurd rfl z, fun k hk => Or.inl (f00_q hk)⟩, fun r hr => ?_⟩
  · rcases hx r hr with rfl | rfl | rfl | rfl | rfl | rfl | rfl | rfl | rfl | rfl | rfl | rfl | rfl | rfl | rfl | rfl | rfl
    · exact hB.at 0 rfl
    · exact hB.at 2 rfl
    · exact hB.at 3 rfl
    · exact (hB.at 4 rfl).trans (congrArg some (congrArg (mIc _ 12) (si_zero (g := fun k => 134 + (3 * k)) (fun k hk => by omega))))
    · exact (hB.at 5 rfl).trans (congrArg some (congrArg (mIc _ 12) (si_zero (g := fun k => 134 + (3 * k) + 1) (fun k hk => by omega))))
    · exact (hB.at 6 rfl).trans (congrArg some (congrArg (mIc _ 12) (si_zero (g := fun k => 134 + (3 * k) + 2) (fun k hk => by omega))))
    · exact hB.at 7 rfl
    · exact (hB.at 8 rfl).trans (congrArg some (congrArg (mRc _ 6) (by funext k; exact (if_neg (Nat.not_lt_zero k)).symm)))
    · exact (hB.at 9 rfl).trans (congrArg some (congrArg (mIc _ 8) (si_zero (g := fun k => 87 + (2 * k)) (fun k hk => by omega))))
    · exact (hB.at 10 rfl).trans (congrArg some (congrArg (mIc _ 8) (si_zero (g := fun k => 87 + (2 * k) + 1) (fun k hk => by omega))))
    · refine (hB.at 1 rfl).trans (congrArg some (congrArg (mIc _ 19) ?_))
      funext k
      by_cases c : k < 19
      · rw [if_pos c, if_pos c, f00_s c]
      · rw [if_neg c, if_neg c]
    · refine (hB.at 11 rfl).trans (congrArg some (congrArg (mIc _ 3) ?_))
      funext k
      by_cases c : k < 3
      · obtain rfl | rfl | rfl : k = 0 ∨ k = 1 ∨ k = 2 := by omega
        all_goals rfl
      · rw [if_neg c]
    · refine (hB.at 12 rfl).trans (congrArg some (congrArg (mRc _ 3) ?_))
      funext k
      by_cases c : k < 3
      · obtain rfl | rfl | rfl : k = 0 ∨ k = 1 ∨ k = 2 := by omega
        all_goals rfl
      · rw [if_neg c, va_up_ne _ _ (by omega), va_up_ne _ _ (by omega), va_up_ne _ _ (by omega)]
    · exact hB.at 13 rfl
    · exact hB.at 14 rfl
    · refine (hB.at 16 rfl).trans (congrArg some (congrArg (mRc _ 6) ?_))
      funext k
      by_cases c : k < 6
      · rw [if_pos c, f00_q c]; rfl
      · rw [if_neg c]
    · exact hB.at 15 rfl
  · have ix : ∀ r, stU 0 0 0 r → ∃ e, [(o, .inr (1, [.ref q1, .ref q3, .ref q5, .ref q6, .ref q7, .int (0 : Int32), .ref q8, .ref q10, .ref q11, .ref q12, .ref sa, .ref q14, .ref q15, .ref q_102, .int (0 : Int32), .ref q17, .int (0 : Int32), .int (0 : Int32), .int (0 : Int32), .int (0 : Int32), .int (10000 : Int32), .int (0 : Int32), .int (-1 : Int32), .int (0 : Int32), .int (0 : Int32), .int (0 : Int32), .int (0 : Int32), .int (0 : Int32), .int (0 : Int32), .int (0 : Int32)])), (sa, mIc (G.1.1 100) 19 (fun k => if k < 19 then h (20 + k) else 0)), (q1, .inr (9, [.int (0 : Int32), .ref (G.2 0), .int (0 : Int32)])), (q3, .inr (9, [.int (0 : Int32), .ref (G.2 0), .int (0 : Int32)])), (q5, mIc (G.1.1 100) 12 (fun _ => 0)), (q6, mIc (G.1.1 100) 12 (fun _ => 0)), (q7, mIc (G.1.1 100) 12 (fun _ => 0)), (q8, .inr (9, [.int (0 : Int32), .ref (G.2 0), .int (0 : Int32)])), (q10, mRc (G.1.1 104) 6 (fun _ => none)), (q11, mIc (G.1.1 100) 8 (fun _ => 0)), (q12, mIc (G.1.1 101) 8 (fun _ => 0)), (q14, mIc (G.1.1 100) 3 (fun _ => 0)), (q15, mRc (G.1.1 105) 3 (va_up (va_up (va_up (fun _ => none) 0 (some (G.2 (6 + 0)))) 1 (some (G.2 (6 + 1)))) 2 (some (G.2 (6 + 2))))), (q_102, mRc (G.1.1 106) 6 (fun k => if k < 6 then some (G.2 (10 + k)) else none)), (q17, .inr (10, [.ref q_123, .int (0 : Int32), .ref q19, .int (0 : Int32)])), (q19, .inr (2, [.ref o])), (q_123, mRc (G.1.1 103) 6 (fun _ => none))][([0, 2, 20, 3, 21, 4, 5, 6, 7, 22, 8, 9, 10, 1, 11, 12, 13, 14, 16, 15] : List Nat).getD r 0]? = some (adr (siA o sa q1 q3 q5 q6 q7 q8 q10 q11 q12 q14 q15 q_102 q17 q19 q_123) o r, e) := fun r hr => by
      rcases hx r hr with rfl | rfl | rfl | rfl | rfl | rfl | rfl | rfl | rfl | rfl | rfl | rfl | rfl | rfl | rfl | rfl | rfl
      all_goals exact ⟨_, rfl⟩
    obtain ⟨x, h1⟩ := ix r hr
    obtain ⟨y, h2⟩ := ix r' hr'
    have h3 := hB.2.1 _ _ _ _ h1 h2 e
    have l1 : r < 20 := by have := hx r hr; omega
    have l2 : r' < 20 := by have := hx r' hr'; omega
    have key : ∀ a, a < 20 → ∀ b, b < 20 → ([0, 2, 20, 3, 21, 4, 5, 6, 7, 22, 8, 9, 10, 1, 11, 12, 13, 14, 16, 15] : List Nat).getD a 0 = ([0, 2, 20, 3, 21, 4, 5, 6, 7, 22, 8, 9, 10, 1, 11, 12, 13, 14, 16, 15] : List Nat).getD b 0 → a = b := by decide
    exact key r l1 r' l2 h3
  · refine hB.2.2.1 q hq fun i x hi => ?_
    have hl : i < 17 := (List.getElem?_eq_some_iff.mp hi).1
    obtain rfl | rfl | rfl | rfl | rfl | rfl | rfl | rfl | rfl | rfl | rfl | rfl | rfl | rfl | rfl | rfl | rfl : i = 0 ∨ i = 1 ∨ i = 2 ∨ i = 3 ∨ i = 4 ∨ i = 5 ∨ i = 6 ∨ i = 7 ∨ i = 8 ∨ i = 9 ∨ i = 10 ∨ i = 11 ∨ i = 12 ∨ i = 13 ∨ i = 14 ∨ i = 15 ∨ i = 16 := by omega
    · cases hi; exact hn 0 (by decide)
    · cases hi; exact hn 13 (by decide)
    · cases hi; exact hn 1 (by decide)
    · cases hi; exact hn 3 (by decide)
    · cases hi; exact hn 5 (by decide)
    · cases hi; exact hn 6 (by decide)
    · cases hi; exact hn 7 (by decide)
    · cases hi; exact hn 8 (by decide)
    · cases hi; exact hn 10 (by decide)
    · cases hi; exact hn 11 (by decide)
    · cases hi; exact hn 12 (by decide)
    · cases hi; exact hn 14 (by decide)
    · cases hi; exact hn 15 (by decide)
    · cases hi; exact hn 16 (by decide)
    · cases hi; exact hn 17 (by decide)
    · cases hi; exact hn 19 (by decide)
    · cases hi; exact hn 18 (by decide)
  · have hc : ∀ (i : Nat) (x : Nat × va_E), [(o, .inr (1, [.ref q1, .ref q3, .ref q5, .ref q6, .ref q7, .int (0 : Int32), .ref q8, .ref q10, .ref q11, .ref q12, .ref sa, .ref q14, .ref q15, .ref q_102, .int (0 : Int32), .ref q17, .int (0 : Int32), .int (0 : Int32), .int (0 : Int32), .int (0 : Int32), .int (10000 : Int32), .int (0 : Int32), .int (-1 : Int32), .int (0 : Int32), .int (0 : Int32), .int (0 : Int32), .int (0 : Int32), .int (0 : Int32), .int (0 : Int32), .int (0 : Int32)])), (sa, mIc (G.1.1 100) 19 (fun k => if k < 19 then h (20 + k) else 0)), (q1, .inr (9, [.int (0 : Int32), .ref (G.2 0), .int (0 : Int32)])), (q3, .inr (9, [.int (0 : Int32), .ref (G.2 0), .int (0 : Int32)])), (q5, mIc (G.1.1 100) 12 (fun _ => 0)), (q6, mIc (G.1.1 100) 12 (fun _ => 0)), (q7, mIc (G.1.1 100) 12 (fun _ => 0)), (q8, .inr (9, [.int (0 : Int32), .ref (G.2 0), .int (0 : Int32)])), (q10, mRc (G.1.1 104) 6 (fun _ => none)), (q11, mIc (G.1.1 100) 8 (fun _ => 0)), (q12, mIc (G.1.1 101) 8 (fun _ => 0)), (q14, mIc (G.1.1 100) 3 (fun _ => 0)), (q15, mRc (G.1.1 105) 3 (va_up (va_up (va_up (fun _ => none) 0 (some (G.2 (6 + 0)))) 1 (some (G.2 (6 + 1)))) 2 (some (G.2 (6 + 2))))), (q_102, mRc (G.1.1 106) 6 (fun k => if k < 6 then some (G.2 (10 + k)) else none)), (q17, .inr (10, [.ref q_123, .int (0 : Int32), .ref q19, .int (0 : Int32)])), (q19, .inr (2, [.ref o])), (q_123, mRc (G.1.1 103) 6 (fun _ => none))][i]? = some x → x.1 = (siA o sa q1 q3 q5 q6 q7 q8 q10 q11 q12 q14 q15 q_102 q17 q19 q_123) r → (siA o sa q1 q3 q5 q6 q7 q8 q10 q11 q12 q14 q15 q_102 q17 q19 q_123) r = o ∨ (siA o sa q1 q3 q5 q6 q7 q8 q10 q11 q12 q14 q15 q_102 q17 q19 q_123) r = sa ∨ M1 ((siA o sa q1 q3 q5 q6 q7 q8 q10 q11 q12 q14 q15 q_102 q17 q19 q_123) r) = none := fun i x hi e => by
      by_cases c : 2 ≤ i
      · rw [← e]
        exact Or.inr (Or.inr (hB.2.2.2 i x hi c))
      · obtain rfl | rfl : i = 0 ∨ i = 1 := by omega
        · cases hi; exact Or.inl e.symm
        · cases hi; exact Or.inr (Or.inl e.symm)
    by_cases c : r = 0 ∨ r = 1 ∨ r = 3 ∨ r = 5 ∨ r = 6 ∨ r = 7 ∨ r = 8 ∨ r = 10 ∨ r = 11 ∨ r = 12 ∨ r = 13 ∨ r = 14 ∨ r = 15 ∨ r = 16 ∨ r = 17 ∨ r = 18 ∨ r = 19
    · obtain rfl | rfl | rfl | rfl | rfl | rfl | rfl | rfl | rfl | rfl | rfl | rfl | rfl | rfl | rfl | rfl | rfl := c
      · exact hc 0 _ rfl rfl
      · exact hc 2 _ rfl rfl
      · exact hc 3 _ rfl rfl
      · exact hc 4 _ rfl rfl
      · exact hc 5 _ rfl rfl
      · exact hc 6 _ rfl rfl
      · exact hc 7 _ rfl rfl
      · exact hc 8 _ rfl rfl
      · exact hc 9 _ rfl rfl
      · exact hc 10 _ rfl rfl
      · exact hc 1 _ rfl rfl
      · exact hc 11 _ rfl rfl
      · exact hc 12 _ rfl rfl
      · exact hc 13 _ rfl rfl
      · exact hc 14 _ rfl rfl
      · exact hc 16 _ rfl rfl
      · exact hc 15 _ rfl rfl
    · left
      unfold siA
      rw [if_neg (by omega), if_neg (by omega), if_neg (by omega), if_neg (by omega), if_neg (by omega), if_neg (by omega), if_neg (by omega), if_neg (by omega), if_neg (by omega), if_neg (by omega), if_neg (by omega), if_neg (by omega), if_neg (by omega), if_neg (by omega), if_neg (by omega), if_neg (by omega)]

