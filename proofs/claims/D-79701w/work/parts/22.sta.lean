set_option maxRecDepth 100000
/-! STA: a station: its cells by role (ad), its values by place (f) -/
def stF (ad : Nat → Nat) (f : Nat → Int32) : List Value := [.ref (ad 1), .ref (ad 3), .ref (ad 5), .ref (ad 6), .ref (ad 7), .int (f 19), .ref (ad 8), .ref (ad 10), .ref (ad 11), .ref (ad 12), .ref (ad 13), .ref (ad 14), .ref (ad 15), .ref (ad 16), .int (f 171), .ref (ad 17), .int (f 177), .int (f 15), .int (f 0), .int (f 1), .int (f 2), .int (f 17), .int (f 4), .int (f 3), .int (f 13), .int (f 8), .int (f 9), .int (f 7), .int (f 6), .int (f 5)]
def pmF (f : Nat → Int32) (k : Nat) : List Value := [.int (nI k), .int (f (39 + (8 * k) + 1)), .int (f (39 + (8 * k) + 2)), .int (1 - f (39 + (8 * k) + 3)), .int (f (39 + (8 * k) + 4)), .int (f (39 + (8 * k) + 5)), .int (f (39 + (8 * k) + 6)), .int (f (39 + (8 * k) + 7))]
def qrf (ad : Nat → Nat) (x : Int32) : Option Nat := if x = -1 then none else some (ad (20 + tN x))
def stT (G : mg) (ad : Nat → Nat) (b9 : Nat) (bx : Nat → Nat) (np ng nn : Nat) (f : Nat → Int32) (r : Nat) : va_E := match r with
  | 0 => .inr (1, stF ad f)
  | 1 => .inr (9, [.int (f 172), .ref (if np = 0 then G.2 0 else ad 2), .int (nI np)])
  | 2 => mRc (G.1.1 103) 10 (fun k => if k < np then some (ad (20 + k)) else none)
  | 3 => .inr (9, [.int (f 173), .ref (if ng = 0 then G.2 0 else ad 4), .int (nI ng)])
  | 4 => mRc (G.1.1 103) 10 (fun k => if k < ng then some (ad (32 + k)) else none)
  | 5 => mIc (G.1.1 100) 12 (fun k => if k < 12 then f (134 + (3 * k)) else 0)
  | 6 => mIc (G.1.1 100) 12 (fun k => if k < 12 then f (134 + (3 * k) + 1) else 0)
  | 7 => mIc (G.1.1 100) 12 (fun k => if k < 12 then f (134 + (3 * k) + 2) else 0)
  | 8 => .inr (9, [.int (f 174), .ref (if nn = 0 then G.2 0 else b9), .int (nI nn)])
  | 9 => mRc (G.1.1 103) 10 (fun k => if k < nn then some (bx k) else none)
  | 10 => mRc (G.1.1 104) 6 (fun k => if k < np then some (ad (26 + k)) else none)
  | 11 => mIc (G.1.1 100) 8 (fun k => if k < 8 then f (87 + (2 * k)) else 0)
  | 12 => mIc (G.1.1 101) 8 (fun k => if k < 8 then f (87 + (2 * k) + 1) else 0)
  | 13 => mIc (G.1.1 100) 19 (fun k => if k < 19 then f (20 + k) else 0)
  | 14 => mIc (G.1.1 100) 3 (fun k => if k < 3 then f (10 + k) else 0)
  | 15 => mRc (G.1.1 105) 3 (fun k => if k < 3 then some (G.2 (6 + k)) else none)
  | 16 => mRc (G.1.1 106) 6 (fun k => if k < 6 then some (G.2 (10 + k)) else none)
  | 17 => .inr (10, [.ref (ad 18), .int (f 176), .ref (ad 19), .int (f 175)])
  | 18 => mRc (G.1.1 103) 6 (fun k => if k < 6 then qrf ad (f (180 + k)) else none)
  | _ => .inr (2, [.ref (ad 0)])
def stC (G : mg) (ad : Nat → Nat) (b9 : Nat) (bx : Nat → Nat) (np ng nn : Nat) (f : Nat → Int32) (r : Nat) : va_E :=
  if r < 20 then stT G ad b9 bx np ng nn f r else if r < 26 then .inr (4 + tN (f (39 + (8 * (r - 20)))), pmF f (r - 20)) else mIc (G.1.1 113) 2 (fun j => if j < 2 then f (39 + (8 * (r - 26)) + 1 + j) else 0)
def stU (np ng nn r : Nat) : Prop := r < 32 ∧ (r = 2 → np ≠ 0) ∧ (r = 4 → ng ≠ 0) ∧ (r = 9 → nn ≠ 0) ∧ (20 ≤ r → r < 26 → r < 20 + np) ∧ (26 ≤ r → r < 26 + np)
theorem stU_p {np ng nn r : Nat} (h : r < 20) (h2 : r ≠ 2) (h4 : r ≠ 4) (h9 : r ≠ 9) : stU np ng nn r := ⟨by omega, fun e => absurd e h2, fun e => absurd e h4, fun e => absurd e h9, fun e => by omega, fun e => by omega⟩
theorem stU_pm {np ng nn k : Nat} (hn : np ≤ 6) (h : k < np) : stU np ng nn (20 + k) := ⟨by omega, fun e => by omega, fun e => by omega, fun e => by omega, fun _ _ => by omega, fun e => by omega⟩
theorem stU_cv {np ng nn k : Nat} (hn : np ≤ 6) (h : k < np) : stU np ng nn (26 + k) := ⟨by omega, fun e => by omega, fun e => by omega, fun e => by omega, fun _ _ => by omega, fun e => by omega⟩
def adr (ad : Nat → Nat) (b9 r : Nat) : Nat := if r = 9 then b9 else ad r
theorem adr_n {ad : Nat → Nat} {b9 r : Nat} (h : r ≠ 9) : adr ad b9 r = ad r := if_neg h
/-- which role holds a place -/
def stO (p : Nat) : Nat := if p < 10 then 0 else if p < 13 then 14 else if p < 20 then 0 else if p < 39 then 13 else if p < 87 then 20 + (p - 39) / 8 else if p < 103 then 11 + (p - 87) % 2 else if p < 134 then 40 else if p < 170 then 5 + (p - 134) % 3 else if p < 172 then 0 else if p = 172 then 1 else if p = 173 then 3 else if p = 174 then 8 else if p < 177 then 17 else if p < 178 then 0 else if p < 180 then 40 else if p < 186 then 18 else 41
theorem stO_cn {p : Nat} (h1 : 10 ≤ p) (h2 : p < 13) : stO p = 14 := by
  unfold stO
  rw [if_neg (by omega), if_pos (by omega)]
theorem stO_se {p : Nat} (h1 : 20 ≤ p) (h2 : p < 39) : stO p = 13 := by
  unfold stO
  rw [if_neg (by omega), if_neg (by omega), if_neg (by omega), if_pos (by omega)]
theorem stO_pm {p : Nat} (h1 : 39 ≤ p) (h2 : p < 87) : stO p = 20 + (p - 39) / 8 := by
  unfold stO
  rw [if_neg (by omega), if_neg (by omega), if_neg (by omega), if_neg (by omega), if_pos (by omega)]
theorem stO_zo {p : Nat} (h1 : 87 ≤ p) (h2 : p < 103) : stO p = 11 + (p - 87) % 2 := by
  unfold stO
  rw [if_neg (by omega), if_neg (by omega), if_neg (by omega), if_neg (by omega), if_neg (by omega), if_pos (by omega)]
theorem stO_ev {p : Nat} (h1 : 134 ≤ p) (h2 : p < 170) : stO p = 5 + (p - 134) % 3 := by
  unfold stO
  rw [if_neg (by omega), if_neg (by omega), if_neg (by omega), if_neg (by omega), if_neg (by omega), if_neg (by omega), if_neg (by omega), if_pos (by omega)]
theorem stO_qu {p : Nat} (h1 : 180 ≤ p) (h2 : p < 186) : stO p = 18 := by
  unfold stO
  rw [if_neg (by omega), if_neg (by omega), if_neg (by omega), if_neg (by omega), if_neg (by omega), if_neg (by omega), if_neg (by omega), if_neg (by omega), if_neg (by omega), if_neg (by omega), if_neg (by omega), if_neg (by omega), if_neg (by omega), if_neg (by omega), if_neg (by omega), if_pos (by omega)]
def stOk0 (p : Nat) : Prop := p ≠ 14 ∧ p ≠ 16 ∧ p ≠ 18 ∧ (∀ k, k < 6 → p ≠ 39 + (8 * k) ∧ p ≠ 39 + (8 * k) + 1 ∧ p ≠ 39 + (8 * k) + 2) ∧ ¬ (103 ≤ p ∧ p < 127) ∧ p < 200
def stOk (p : Nat) : Prop := p ≠ 14 ∧ p ≠ 16 ∧ p ≠ 18 ∧ (∀ k, k < 6 → p ≠ 39 + (8 * k) ∧ p ≠ 39 + (8 * k) + 1 ∧ p ≠ 39 + (8 * k) + 2) ∧ ¬ (103 ≤ p ∧ p < 127) ∧ (p < 200 ∧ ¬ (180 ≤ p ∧ p < 186))
theorem stOk.o {p : Nat} (h : stOk p) : stOk0 p := ⟨h.1, h.2.1, h.2.2.1, h.2.2.2.1, h.2.2.2.2.1, h.2.2.2.2.2.1⟩
/-- the queue's entries: none, or a pump -/
def qOk (np : Nat) (f : Nat → Int32) : Prop := ∀ k, k < 6 → f (180 + k) = -1 ∨ ∃ j, j < np ∧ f (180 + k) = nI j
def StaB (G : mg) (ad : Nat → Nat) (b9 : Nat) (bx : Nat → Nat) (np ng nn : Nat) (M0 M : mh) (f : Nat → Int32) : Prop :=
  (f 14 = nI np ∧ np ≤ 6 ∧ f 16 = nI ng ∧ ng ≤ 8 ∧ f 18 = nI nn ∧ nn ≤ 8) ∧
  (∀ k, k < np → rg (f (39 + (8 * k))) 2) ∧
  (∀ r, stU np ng nn r → M (adr ad b9 r) = some (stC G ad b9 bx np ng nn f r)) ∧
  (∀ r r', stU np ng nn r → stU np ng nn r' → adr ad b9 r = adr ad b9 r' → r = r') ∧
  (∀ k, k < ng → M (ad (32 + k)) = some (.inr (7, [.int (f (103 + (3 * k))), .int (f (103 + (3 * k) + 1)), .int (f (103 + (3 * k) + 2))]))) ∧
  (∀ k, k < nn → boxAt G M (bx k) (f (200 + k))) ∧
  (∀ q, M0 q ≠ none → (∀ r, r < 32 → ad r ≠ q) → M q = M0 q) ∧
  ((nn ≠ 0 → (∃ r, r < 32 ∧ b9 = ad r) ∨ M0 b9 = none) ∧ qOk np f)
def Sta (G : mg) (ad : Nat → Nat) (np ng : Nat) (M0 M : mh) (f : Nat → Int32) : Prop := ∃ (nn b9 : Nat) (bx : Nat → Nat), StaB G ad b9 bx np ng nn M0 M f
section STA
variable {G : mg} {ad : Nat → Nat} {b9 : Nat} {bx : Nat → Nat} {np ng nn : Nat} {M0 M : mh} {f f' : Nat → Int32}
theorem stC_t {r : Nat} (h : r < 20) : stC G ad b9 bx np ng nn f r = stT G ad b9 bx np ng nn f r := if_pos h
theorem stC_pm {k : Nat} (h : k < 6) : stC G ad b9 bx np ng nn f (20 + k) = .inr (4 + tN (f (39 + (8 * k))), pmF f k) := by
  unfold stC
  rw [if_neg (by omega), if_pos (by omega), show 20 + k - 20 = k by omega]
theorem stC_cv {k : Nat} : stC G ad b9 bx np ng nn f (26 + k) = mIc (G.1.1 113) 2 (fun j => if j < 2 then f (39 + (8 * k) + 1 + j) else 0) := by
  unfold stC
  rw [if_neg (by omega), if_neg (by omega), show 26 + k - 26 = k by omega]
theorem stIf {n : Nat} {g : Nat → Nat} {f f' : Nat → Int32} (h : ∀ k, k < n → f' (g k) = f (g k)) : (fun k => if k < n then f' (g k) else 0) = (fun k => if k < n then f (g k) else 0) := by
  funext k
  by_cases hk : k < n
  · rw [if_pos hk, if_pos hk, h k hk]
  · rw [if_neg hk, if_neg hk]
theorem stC_c0 (h : ∀ p, stO p = 0 → f' p = f p) : stF ad f' = stF ad f := by
  have e : f' 19 = f 19 ∧ f' 171 = f 171 ∧ f' 177 = f 177 ∧ f' 15 = f 15 ∧ f' 0 = f 0 ∧ f' 1 = f 1 ∧ f' 2 = f 2 ∧ f' 17 = f 17 := ⟨h _ (by decide), h _ (by decide), h _ (by decide), h _ (by decide), h _ (by decide), h _ (by decide), h _ (by decide), h _ (by decide)⟩
  have eX : f' 4 = f 4 ∧ f' 3 = f 3 ∧ f' 13 = f 13 ∧ f' 8 = f 8 ∧ f' 9 = f 9 ∧ f' 7 = f 7 ∧ f' 6 = f 6 ∧ f' 5 = f 5 := ⟨h _ (by decide), h _ (by decide), h _ (by decide), h _ (by decide), h _ (by decide), h _ (by decide), h _ (by decide), h _ (by decide)⟩
  obtain ⟨e1, e2, e3, e4, e5, e6, e7, e8⟩ := e
  obtain ⟨g1, g2, g3, g4, g5, g6, g7, g8⟩ := eX
  unfold stF
  rw [e1, e2, e3, e4, e5, e6, e7, e8, g1, g2, g3, g4, g5, g6, g7, g8]
theorem stC_c5 (h : ∀ p, stO p = 5 → f' p = f p) : stT G ad b9 bx np ng nn f' 5 = stT G ad b9 bx np ng nn f 5 := by
  have e := stIf (n := 12) (g := fun k => 134 + (3 * k)) (f := f) (f' := f') (fun k hk => h _ ((stO_ev (by omega) (by omega)).trans (by omega)))
  unfold stT
  exact congrArg (mIc _ 12) e
theorem stC_c6 (h : ∀ p, stO p = 6 → f' p = f p) : stT G ad b9 bx np ng nn f' 6 = stT G ad b9 bx np ng nn f 6 := by
  have e := stIf (n := 12) (g := fun k => 134 + (3 * k) + 1) (f := f) (f' := f') (fun k hk => h _ ((stO_ev (by omega) (by omega)).trans (by omega)))
  unfold stT
  exact congrArg (mIc _ 12) e
theorem stC_c7 (h : ∀ p, stO p = 7 → f' p = f p) : stT G ad b9 bx np ng nn f' 7 = stT G ad b9 bx np ng nn f 7 := by
  have e := stIf (n := 12) (g := fun k => 134 + (3 * k) + 2) (f := f) (f' := f') (fun k hk => h _ ((stO_ev (by omega) (by omega)).trans (by omega)))
  unfold stT
  exact congrArg (mIc _ 12) e
theorem stC_c11 (h : ∀ p, stO p = 11 → f' p = f p) : stT G ad b9 bx np ng nn f' 11 = stT G ad b9 bx np ng nn f 11 := by
  have e := stIf (n := 8) (g := fun k => 87 + (2 * k)) (f := f) (f' := f') (fun k hk => h _ ((stO_zo (by omega) (by omega)).trans (by omega)))
  unfold stT
  exact congrArg (mIc _ 8) e
theorem stC_c12 (h : ∀ p, stO p = 12 → f' p = f p) : stT G ad b9 bx np ng nn f' 12 = stT G ad b9 bx np ng nn f 12 := by
  have e := stIf (n := 8) (g := fun k => 87 + (2 * k) + 1) (f := f) (f' := f') (fun k hk => h _ ((stO_zo (by omega) (by omega)).trans (by omega)))
  unfold stT
  exact congrArg (mIc _ 8) e
theorem stC_c13 (h : ∀ p, stO p = 13 → f' p = f p) : stT G ad b9 bx np ng nn f' 13 = stT G ad b9 bx np ng nn f 13 := by
  have e := stIf (n := 19) (g := fun k => 20 + k) (f := f) (f' := f') (fun k hk => h _ (stO_se (by omega) (by omega)))
  unfold stT
  exact congrArg (mIc _ 19) e
theorem stC_c14 (h : ∀ p, stO p = 14 → f' p = f p) : stT G ad b9 bx np ng nn f' 14 = stT G ad b9 bx np ng nn f 14 := by
  have e := stIf (n := 3) (g := fun k => 10 + k) (f := f) (f' := f') (fun k hk => h _ (stO_cn (by omega) (by omega)))
  unfold stT
  exact congrArg (mIc _ 3) e
theorem stC_c18 (h : ∀ p, stO p = 18 → f' p = f p) : stT G ad b9 bx np ng nn f' 18 = stT G ad b9 bx np ng nn f 18 := by
  have e : (fun k => if k < 6 then qrf ad (f' (180 + k)) else none) = (fun k => if k < 6 then qrf ad (f (180 + k)) else none) := by
    funext k
    by_cases hk : k < 6
    · rw [if_pos hk, if_pos hk, h (180 + k) (stO_qu (by omega) (by omega))]
    · rw [if_neg hk, if_neg hk]
  unfold stT
  exact congrArg (mRc _ 6) e
theorem stC_cP {k : Nat} (hk : k < 6) (h : ∀ p, stO p = 20 + k → f' p = f p) : stC G ad b9 bx np ng nn f' (20 + k) = stC G ad b9 bx np ng nn f (20 + k) := by
  have hp : ∀ w, w < 8 → f' (39 + (8 * k) + w) = f (39 + (8 * k) + w) := fun w hw => h _ ((stO_pm (by omega) (by omega)).trans (by omega))
  have h0 : f' (39 + (8 * k)) = f (39 + (8 * k)) := hp 0 (by decide)
  rw [stC_pm hk, stC_pm hk, h0]
  have e : pmF f' k = pmF f k := by
    unfold pmF
    rw [hp 1 (by decide), hp 2 (by decide), hp 3 (by decide), hp 4 (by decide), hp 5 (by decide), hp 6 (by decide), hp 7 (by decide)]
  rw [e]
theorem stC_cC {k : Nat} (c1 : f' (39 + (8 * k) + 1) = f (39 + (8 * k) + 1)) (c2 : f' (39 + (8 * k) + 2) = f (39 + (8 * k) + 2)) : stC G ad b9 bx np ng nn f' (26 + k) = stC G ad b9 bx np ng nn f (26 + k) := by
  rw [stC_cv, stC_cv]
  refine congrArg (mIc _ 2) ?_
  funext j
  by_cases hj : j < 2
  · rw [if_pos hj, if_pos hj]
    obtain rfl | rfl : j = 0 ∨ j = 1 := by omega
    · exact c1
    · exact c2
  · rw [if_neg hj, if_neg hj]
theorem stC_cT : ∀ r, r < 20 → (∀ p, stO p = r → f' p = f p) → stT G ad b9 bx np ng nn f' r = stT G ad b9 bx np ng nn f r
  | 0, _, h => congrArg (fun z => (Sum.inr (1, z) : va_E)) (stC_c0 h)
  | 1, _, h => congrArg (fun z => (Sum.inr (9, [Value.int z, _, _]) : va_E)) (h 172 (by decide))
  | 2, _, h => by simp only [stT]
  | 3, _, h => congrArg (fun z => (Sum.inr (9, [Value.int z, _, _]) : va_E)) (h 173 (by decide))
  | 4, _, h => by simp only [stT]
  | 5, _, h => stC_c5 h
  | 6, _, h => stC_c6 h
  | 7, _, h => stC_c7 h
  | 8, _, h => congrArg (fun z => (Sum.inr (9, [Value.int z, _, _]) : va_E)) (h 174 (by decide))
  | 9, _, h => by simp only [stT]
  | 10, _, h => by simp only [stT]
  | 11, _, h => stC_c11 h
  | 12, _, h => stC_c12 h
  | 13, _, h => stC_c13 h
  | 14, _, h => stC_c14 h
  | 15, _, h => by simp only [stT]
  | 16, _, h => by simp only [stT]
  | 17, _, h => (congrArg (fun z => (Sum.inr (10, [_, Value.int z, _, _]) : va_E)) (h 176 (by decide))).trans (congrArg (fun z => (Sum.inr (10, [_, _, _, Value.int z]) : va_E)) (h 175 (by decide)))
  | 18, _, h => stC_c18 h
  | 19, _, h => by simp only [stT]
  | _ + 20, q, _ => absurd q (by omega)
theorem stC_congr {r : Nat} (hr : r < 32) (h : ∀ p, stO p = r → f' p = f p) (hc : ∀ k, k < 6 → f' (39 + (8 * k) + 1) = f (39 + (8 * k) + 1) ∧ f' (39 + (8 * k) + 2) = f (39 + (8 * k) + 2)) : stC G ad b9 bx np ng nn f' r = stC G ad b9 bx np ng nn f r := by
  by_cases e : r < 20
  · rw [stC_t e, stC_t e]
    exact stC_cT r e h
  · by_cases e2 : r < 26
    · obtain ⟨k, rfl⟩ : ∃ k, r = 20 + k := ⟨r - 20, by omega⟩
      exact stC_cP (by omega) h
    · obtain ⟨k, rfl⟩ : ∃ k, r = 26 + k := ⟨r - 26, by omega⟩
      exact stC_cC (hc k (by omega)).1 (hc k (by omega)).2
theorem stN {a b : Nat} {x y : List Value} (h : a ≠ b) : (Sum.inr (a, x) : va_E) ≠ Sum.inr (b, y) := fun e => h (congrArg Prod.fst (Sum.inr.inj e))
theorem stN2 {a : ClassId × vp_A} {y : Nat × List Value} : (Sum.inl a : va_E) ≠ Sum.inr y := fun e => by cases e
theorem stC_noT (fs : List Value) : ∀ r, r < 20 → stT G ad b9 bx np ng nn f r ≠ .inr (7, fs) ∧ stT G ad b9 bx np ng nn f r ≠ .inr (14, fs)
  | 0, _ => ⟨stN (by decide), stN (by decide)⟩
  | 1, _ => ⟨stN (by decide), stN (by decide)⟩
  | 2, _ => ⟨stN2, stN2⟩
  | 3, _ => ⟨stN (by decide), stN (by decide)⟩
  | 4, _ => ⟨stN2, stN2⟩
  | 5, _ => ⟨stN2, stN2⟩
  | 6, _ => ⟨stN2, stN2⟩
  | 7, _ => ⟨stN2, stN2⟩
  | 8, _ => ⟨stN (by decide), stN (by decide)⟩
  | 9, _ => ⟨stN2, stN2⟩
  | 10, _ => ⟨stN2, stN2⟩
  | 11, _ => ⟨stN2, stN2⟩
  | 12, _ => ⟨stN2, stN2⟩
  | 13, _ => ⟨stN2, stN2⟩
  | 14, _ => ⟨stN2, stN2⟩
  | 15, _ => ⟨stN2, stN2⟩
  | 16, _ => ⟨stN2, stN2⟩
  | 17, _ => ⟨stN (by decide), stN (by decide)⟩
  | 18, _ => ⟨stN2, stN2⟩
  | 19, _ => ⟨stN (by decide), stN (by decide)⟩
  | _ + 20, q => absurd q (by omega)
theorem stC_no {r : Nat} (hu : stU np ng nn r) (hk : ∀ k, k < np → rg (f (39 + (8 * k))) 2) (fs : List Value) : stC G ad b9 bx np ng nn f r ≠ .inr (7, fs) ∧ stC G ad b9 bx np ng nn f r ≠ .inr (14, fs) := by
  by_cases e : r < 20
  · rw [stC_t e]
    exact stC_noT fs r e
  · by_cases e2 : r < 26
    · obtain ⟨k, rfl⟩ : ∃ k, r = 20 + k := ⟨r - 20, by omega⟩
      have := (rg_n (hk k (by have := hu.2.2.2.2.1 (by omega) e2; omega)) (by decide)).2
      rw [stC_pm (by omega)]
      exact ⟨stN (by omega), stN (by omega)⟩
    · obtain ⟨k, rfl⟩ : ∃ k, r = 26 + k := ⟨r - 26, by omega⟩
      rw [stC_cv]
      exact ⟨stN2, stN2⟩
theorem boxAt.ne {y : Nat} {v : Int32} {a : Nat} {e : va_E} (hy : boxAt G M y v) (ha : M a = some e) (he : ∀ fs, e ≠ .inr (14, fs)) (hA : ∀ k, k < 256 → M (G.2 (300 + k)) = none) : a ≠ y := by
  rintro rfl
  rcases hy with hy | ⟨k, hk, rfl, -⟩
  · rw [ha] at hy
    exact he _ (Option.some.inj hy)
  · rw [hA k hk] at ha
    cases ha
theorem boxAt.up {y : Nat} {v : Int32} {a : Nat} {e : Option va_E} (hy : boxAt G M y v) (ha : ∀ fs, M a ≠ some (.inr (14, fs))) : boxAt G (va_up M a e) y v := by
  rcases hy with hy | h
  · refine Or.inl ?_
    by_cases q : y = a
    · subst q
      exact absurd hy (ha _)
    · rw [va_up_k q]
      exact hy
  · exact Or.inr h
theorem StaB.put0 {r p : Nat} {x : Int32} {e' : va_E} (h : StaB G ad b9 bx np ng nn M0 M f) (hr : stU np ng nn r) (ho : stO p = r) (hp : stOk0 p) (hqq : qOk np (upd f p x)) (he : e' = stC G ad b9 bx np ng nn (upd f p x) r) : StaB G ad b9 bx np ng nn M0 (va_up M (adr ad b9 r) (some e')) (upd f p x) := by
  obtain ⟨h1, h2, h3, h4, h5, h6, h7, h8, -⟩ := h
  obtain ⟨p14, p16, p18, pk, pg, p200⟩ := hp
  have un : ∀ {q : Nat}, q ≠ p → upd f p x q = f q := fun hq => pk_un hq
  have h2' : ∀ k, k < np → rg (upd f p x (39 + (8 * k))) 2 := fun k hk => by
    rw [un (Ne.symm (pk k (by omega)).1)]
    exact h2 k hk
  have no := fun fs => stC_no (G := G) (ad := ad) (b9 := b9) (bx := bx) (f := f) hr h2 fs
  refine ⟨⟨(un (Ne.symm p14)).trans h1.1, h1.2.1, (un (Ne.symm p16)).trans h1.2.2.1, h1.2.2.2.1, (un (Ne.symm p18)).trans h1.2.2.2.2.1, h1.2.2.2.2.2⟩, h2', fun r' hr' => ?_, h4, fun k hk => ?_, fun k hk => ?_, fun q hq hn => ?_, h8, hqq⟩
  · by_cases e : r' = r
    · subst e
      rw [va_up_s, he]
    · rw [va_up_k (fun q => e (h4 _ _ hr' hr q)), h3 r' hr']
      refine congrArg some (stC_congr hr'.1 (fun q hq => un ?_) fun k hk => ⟨un (Ne.symm (pk k hk).2.1), un (Ne.symm (pk k hk).2.2)⟩).symm
      rintro rfl
      exact e (hq.symm.trans ho)
  · rw [va_up_k, h5 k hk, un (by omega), un (by omega), un (by omega)]
    intro q
    have := (h3 r hr).symm.trans (q ▸ h5 k hk)
    exact (no _).1 (Option.some.inj this)
  · rw [un (by omega)]
    exact (h6 k hk).up fun fs hf => (no fs).2 (Option.some.inj ((h3 r hr).symm.trans hf))
  · rw [va_up_k, h7 q hq hn]
    intro e
    by_cases e9 : r = 9
    · subst e9
      rw [show adr ad b9 9 = b9 from rfl] at e
      rcases h8 (hr.2.2.2.1 rfl) with ⟨r9, h9, h⟩ | h
      · exact hn r9 h9 (h.symm.trans e.symm)
      · exact hq (e ▸ h)
    · rw [adr_n e9] at e
      exact hn r hr.1 e.symm
theorem StaB.put {r p : Nat} {x : Int32} {e' : va_E} (h : StaB G ad b9 bx np ng nn M0 M f) (hr : stU np ng nn r) (ho : stO p = r) (hp : stOk p) (he : e' = stC G ad b9 bx np ng nn (upd f p x) r) : StaB G ad b9 bx np ng nn M0 (va_up M (adr ad b9 r) (some e')) (upd f p x) :=
  h.put0 hr ho hp.o (fun k hk => by rw [pk_un (by have := hp.2.2.2.2.2.2; omega)]; exact h.2.2.2.2.2.2.2.2 k hk) he
theorem Sta.put0 {r p : Nat} {x : Int32} {e' : va_E} (h : Sta G ad np ng M0 M f) (hr : r < 20) (h2 : r ≠ 2) (h4 : r ≠ 4) (h9 : r ≠ 9) (ho : stO p = r) (hp : stOk0 p) (hqq : qOk np (upd f p x)) (he : ∀ nn b9 bx, e' = stC G ad b9 bx np ng nn (upd f p x) r) : Sta G ad np ng M0 (va_up M (ad r) (some e')) (upd f p x) := by
  obtain ⟨nn, b9, bx, h⟩ := h
  have := h.put0 (r := r) (x := x) (stU_p hr h2 h4 h9) ho hp hqq (he nn b9 bx)
  rw [adr_n h9] at this
  exact ⟨nn, b9, bx, this⟩
theorem Sta.put {r p : Nat} {x : Int32} {e' : va_E} (h : Sta G ad np ng M0 M f) (hr : r < 20) (h2 : r ≠ 2) (h4 : r ≠ 4) (h9 : r ≠ 9) (ho : stO p = r) (hp : stOk p) (he : ∀ nn b9 bx, e' = stC G ad b9 bx np ng nn (upd f p x) r) : Sta G ad np ng M0 (va_up M (ad r) (some e')) (upd f p x) := by
  obtain ⟨nn, b9, bx, h⟩ := h
  have := h.put (r := r) (x := x) (stU_p hr h2 h4 h9) ho hp (he nn b9 bx)
  rw [adr_n h9] at this
  exact ⟨nn, b9, bx, this⟩
theorem Sta.at {r : Nat} (h : Sta G ad np ng M0 M f) (hr : r < 20) (h2 : r ≠ 2) (h4 : r ≠ 4) (h9 : r ≠ 9) {e : va_E} (he : ∀ nn b9 bx, stC G ad b9 bx np ng nn f r = e) : M (ad r) = some e := by
  obtain ⟨nn, b9, bx, h⟩ := h
  have := h.2.2.1 r (stU_p hr h2 h4 h9)
  rwa [adr_n h9, he nn b9 bx] at this
theorem Sta.st (h : Sta G ad np ng M0 M f) : M (ad 0) = some (.inr (1, stF ad f)) := h.at (by decide) (by decide) (by decide) (by decide) fun _ _ _ => rfl
theorem Sta.pl (h : Sta G ad np ng M0 M f) : M (ad 1) = some (.inr (9, [.int (f 172), .ref (if np = 0 then G.2 0 else ad 2), .int (nI np)])) := h.at (by decide) (by decide) (by decide) (by decide) fun _ _ _ => rfl
theorem Sta.gl (h : Sta G ad np ng M0 M f) : M (ad 3) = some (.inr (9, [.int (f 173), .ref (if ng = 0 then G.2 0 else ad 4), .int (nI ng)])) := h.at (by decide) (by decide) (by decide) (by decide) fun _ _ _ => rfl
theorem Sta.a5 (h : Sta G ad np ng M0 M f) : M (ad 5) = some (mIc (G.1.1 100) 12 (fun k => if k < 12 then f (134 + (3 * k)) else 0)) := h.at (by decide) (by decide) (by decide) (by decide) fun _ _ _ => rfl
theorem Sta.a6 (h : Sta G ad np ng M0 M f) : M (ad 6) = some (mIc (G.1.1 100) 12 (fun k => if k < 12 then f (134 + (3 * k) + 1) else 0)) := h.at (by decide) (by decide) (by decide) (by decide) fun _ _ _ => rfl
theorem Sta.a7 (h : Sta G ad np ng M0 M f) : M (ad 7) = some (mIc (G.1.1 100) 12 (fun k => if k < 12 then f (134 + (3 * k) + 2) else 0)) := h.at (by decide) (by decide) (by decide) (by decide) fun _ _ _ => rfl
theorem Sta.a11 (h : Sta G ad np ng M0 M f) : M (ad 11) = some (mIc (G.1.1 100) 8 (fun k => if k < 8 then f (87 + (2 * k)) else 0)) := h.at (by decide) (by decide) (by decide) (by decide) fun _ _ _ => rfl
theorem Sta.a12 (h : Sta G ad np ng M0 M f) : M (ad 12) = some (mIc (G.1.1 101) 8 (fun k => if k < 8 then f (87 + (2 * k) + 1) else 0)) := h.at (by decide) (by decide) (by decide) (by decide) fun _ _ _ => rfl
theorem Sta.a13 (h : Sta G ad np ng M0 M f) : M (ad 13) = some (mIc (G.1.1 100) 19 (fun k => if k < 19 then f (20 + k) else 0)) := h.at (by decide) (by decide) (by decide) (by decide) fun _ _ _ => rfl
theorem Sta.a14 (h : Sta G ad np ng M0 M f) : M (ad 14) = some (mIc (G.1.1 100) 3 (fun k => if k < 3 then f (10 + k) else 0)) := h.at (by decide) (by decide) (by decide) (by decide) fun _ _ _ => rfl
theorem Sta.a15 (h : Sta G ad np ng M0 M f) : M (ad 15) = some (mRc (G.1.1 105) 3 (fun k => if k < 3 then some (G.2 (6 + k)) else none)) := h.at (by decide) (by decide) (by decide) (by decide) fun _ _ _ => rfl
theorem Sta.a16 (h : Sta G ad np ng M0 M f) : M (ad 16) = some (mRc (G.1.1 106) 6 (fun k => if k < 6 then some (G.2 (10 + k)) else none)) := h.at (by decide) (by decide) (by decide) (by decide) fun _ _ _ => rfl
theorem Sta.a10 (h : Sta G ad np ng M0 M f) : M (ad 10) = some (mRc (G.1.1 104) 6 (fun k => if k < np then some (ad (26 + k)) else none)) := h.at (by decide) (by decide) (by decide) (by decide) fun _ _ _ => rfl
theorem Sta.q17 (h : Sta G ad np ng M0 M f) : M (ad 17) = some (.inr (10, [.ref (ad 18), .int (f 176), .ref (ad 19), .int (f 175)])) := h.at (by decide) (by decide) (by decide) (by decide) fun _ _ _ => rfl
theorem Sta.a18 (h : Sta G ad np ng M0 M f) : M (ad 18) = some (mRc (G.1.1 103) 6 (fun k => if k < 6 then qrf ad (f (180 + k)) else none)) := h.at (by decide) (by decide) (by decide) (by decide) fun _ _ _ => rfl
theorem Sta.c19 (h : Sta G ad np ng M0 M f) : M (ad 19) = some (.inr (2, [.ref (ad 0)])) := h.at (by decide) (by decide) (by decide) (by decide) fun _ _ _ => rfl
theorem Sta.qk (h : Sta G ad np ng M0 M f) : qOk np f := by obtain ⟨nn, b9, bx, h⟩ := h; exact h.2.2.2.2.2.2.2.2
theorem Sta.n6 (h : Sta G ad np ng M0 M f) : np ≤ 6 := by obtain ⟨nn, b9, bx, h⟩ := h; exact h.1.2.1
theorem Sta.g8 (h : Sta G ad np ng M0 M f) : ng ≤ 8 := by obtain ⟨nn, b9, bx, h⟩ := h; exact h.1.2.2.2.1
theorem Sta.f14 (h : Sta G ad np ng M0 M f) : f 14 = nI np := by obtain ⟨nn, b9, bx, h⟩ := h; exact h.1.1
theorem Sta.f16 (h : Sta G ad np ng M0 M f) : f 16 = nI ng := by obtain ⟨nn, b9, bx, h⟩ := h; exact h.1.2.2.1
theorem Sta.a2 (h : Sta G ad np ng M0 M f) (h0 : np ≠ 0) : M (ad 2) = some (mRc (G.1.1 103) 10 (fun k => if k < np then some (ad (20 + k)) else none)) := by
  obtain ⟨nn, b9, bx, h⟩ := h
  exact h.2.2.1 2 ⟨by decide, fun _ => h0, fun e => by omega, fun e => by omega, fun e => by omega, fun e => by omega⟩
theorem Sta.a4 (h : Sta G ad np ng M0 M f) (h0 : ng ≠ 0) : M (ad 4) = some (mRc (G.1.1 103) 10 (fun k => if k < ng then some (ad (32 + k)) else none)) := by
  obtain ⟨nn, b9, bx, h⟩ := h
  exact h.2.2.1 4 ⟨by decide, fun e => by omega, fun _ => h0, fun e => by omega, fun e => by omega, fun e => by omega⟩
theorem Sta.pm (h : Sta G ad np ng M0 M f) {k : Nat} (hk : k < np) : M (ad (20 + k)) = some (.inr (4 + tN (f (39 + (8 * k))), pmF f k)) ∧ tN (f (39 + (8 * k))) ≤ 2 := by
  have hn := h.n6
  obtain ⟨nn, b9, bx, h⟩ := h
  have := h.2.2.1 (20 + k) (stU_pm hn hk)
  rw [adr_n (by omega), stC_pm (by omega)] at this
  exact ⟨this, (rg_n (h.2.1 k hk) (by decide)).2⟩
theorem Sta.kd (h : Sta G ad np ng M0 M f) {k : Nat} (hk : k < np) : rg (f (39 + (8 * k))) 2 := by
  obtain ⟨nn, b9, bx, h⟩ := h
  exact h.2.1 k hk
theorem Sta.cv (h : Sta G ad np ng M0 M f) {k : Nat} (hk : k < np) : M (ad (26 + k)) = some (mIc (G.1.1 113) 2 (fun j => if j < 2 then f (39 + (8 * k) + 1 + j) else 0)) := by
  have hn := h.n6
  obtain ⟨nn, b9, bx, h⟩ := h
  have := h.2.2.1 (26 + k) (stU_cv hn hk)
  rwa [adr_n (by omega), stC_cv] at this
theorem Sta.pg (h : Sta G ad np ng M0 M f) {k : Nat} (hk : k < ng) : M (ad (32 + k)) = some (.inr (7, [.int (f (103 + (3 * k))), .int (f (103 + (3 * k) + 1)), .int (f (103 + (3 * k) + 2))])) := by
  obtain ⟨nn, b9, bx, h⟩ := h
  exact h.2.2.2.2.1 k hk
theorem stOk_lit {p : Nat} (h : (decide (p ≠ 14 ∧ p ≠ 16 ∧ p ≠ 18 ∧ ¬ (103 ≤ p ∧ p < 127) ∧ (p < 200 ∧ ¬ (180 ≤ p ∧ p < 186))) && (List.range 6).all fun k => decide (p ≠ 39 + (8 * k) ∧ p ≠ 39 + (8 * k) + 1 ∧ p ≠ 39 + (8 * k) + 2)) = true) : stOk p := by
  simp only [Bool.and_eq_true, decide_eq_true_eq, List.all_eq_true, List.mem_range] at h
  exact ⟨h.1.1, h.1.2.1, h.1.2.2.1, h.2, h.1.2.2.2.1, h.1.2.2.2.2⟩
theorem stSetI {n j : Nat} {g : Nat → Nat} {x : Int32} (hj : j < n) (hg : ∀ a b, g a = g b → a = b) : upd (fun k => if k < n then f (g k) else 0) j x = fun k => if k < n then upd f (g j) x (g k) else 0 := by
  funext k
  by_cases e : k = j
  · subst e
    rw [pk_us, if_pos hj, pk_us]
  · rw [pk_un e]
    by_cases hk : k < n
    · rw [if_pos hk, if_pos hk, pk_un (fun q => e (hg _ _ q))]
    · rw [if_neg hk, if_neg hk]
theorem Sta.set5 (h : Sta G ad np ng M0 M f) {j : Nat} (hj : j < 12) (x : Int32) : Sta G ad np ng M0 (va_up M (ad 5) (some (mIc (G.1.1 100) 12 (upd (fun k => if k < 12 then f (134 + (3 * k)) else 0) j x)))) (upd f (134 + (3 * j)) x) :=
  h.put (by decide) (by decide) (by decide) (by decide) ((stO_ev (by omega) (by omega)).trans (by omega)) ⟨by omega, by omega, by omega, fun k hk => by omega, by omega, by omega⟩ fun _ _ _ => by
    rw [stSetI (g := fun k => 134 + (3 * k)) hj (fun a b q => by omega)]; rfl
theorem Sta.set6 (h : Sta G ad np ng M0 M f) {j : Nat} (hj : j < 12) (x : Int32) : Sta G ad np ng M0 (va_up M (ad 6) (some (mIc (G.1.1 100) 12 (upd (fun k => if k < 12 then f (134 + (3 * k) + 1) else 0) j x)))) (upd f (134 + (3 * j) + 1) x) :=
  h.put (by decide) (by decide) (by decide) (by decide) ((stO_ev (by omega) (by omega)).trans (by omega)) ⟨by omega, by omega, by omega, fun k hk => by omega, by omega, by omega⟩ fun _ _ _ => by
    rw [stSetI (g := fun k => 134 + (3 * k) + 1) hj (fun a b q => by omega)]; rfl
theorem Sta.set7 (h : Sta G ad np ng M0 M f) {j : Nat} (hj : j < 12) (x : Int32) : Sta G ad np ng M0 (va_up M (ad 7) (some (mIc (G.1.1 100) 12 (upd (fun k => if k < 12 then f (134 + (3 * k) + 2) else 0) j x)))) (upd f (134 + (3 * j) + 2) x) :=
  h.put (by decide) (by decide) (by decide) (by decide) ((stO_ev (by omega) (by omega)).trans (by omega)) ⟨by omega, by omega, by omega, fun k hk => by omega, by omega, by omega⟩ fun _ _ _ => by
    rw [stSetI (g := fun k => 134 + (3 * k) + 2) hj (fun a b q => by omega)]; rfl
theorem Sta.set11 (h : Sta G ad np ng M0 M f) {j : Nat} (hj : j < 8) (x : Int32) : Sta G ad np ng M0 (va_up M (ad 11) (some (mIc (G.1.1 100) 8 (upd (fun k => if k < 8 then f (87 + (2 * k)) else 0) j x)))) (upd f (87 + (2 * j)) x) :=
  h.put (by decide) (by decide) (by decide) (by decide) ((stO_zo (by omega) (by omega)).trans (by omega)) ⟨by omega, by omega, by omega, fun k hk => by omega, by omega, by omega⟩ fun _ _ _ => by
    rw [stSetI (g := fun k => 87 + (2 * k)) hj (fun a b q => by omega)]; rfl
theorem Sta.set12 (h : Sta G ad np ng M0 M f) {j : Nat} (hj : j < 8) (x : Int32) : Sta G ad np ng M0 (va_up M (ad 12) (some (mIc (G.1.1 101) 8 (upd (fun k => if k < 8 then f (87 + (2 * k) + 1) else 0) j x)))) (upd f (87 + (2 * j) + 1) x) :=
  h.put (by decide) (by decide) (by decide) (by decide) ((stO_zo (by omega) (by omega)).trans (by omega)) ⟨by omega, by omega, by omega, fun k hk => by omega, by omega, by omega⟩ fun _ _ _ => by
    rw [stSetI (g := fun k => 87 + (2 * k) + 1) hj (fun a b q => by omega)]; rfl
theorem Sta.set13 (h : Sta G ad np ng M0 M f) {j : Nat} (hj : j < 19) (x : Int32) : Sta G ad np ng M0 (va_up M (ad 13) (some (mIc (G.1.1 100) 19 (upd (fun k => if k < 19 then f (20 + k) else 0) j x)))) (upd f (20 + j) x) :=
  h.put (by decide) (by decide) (by decide) (by decide) (stO_se (by omega) (by omega)) ⟨by omega, by omega, by omega, fun k hk => by omega, by omega, by omega⟩ fun _ _ _ => by
    rw [stSetI (g := fun k => 20 + k) hj (fun a b q => by omega)]; rfl
theorem Sta.set14 (h : Sta G ad np ng M0 M f) {j : Nat} (hj : j < 3) (x : Int32) : Sta G ad np ng M0 (va_up M (ad 14) (some (mIc (G.1.1 100) 3 (upd (fun k => if k < 3 then f (10 + k) else 0) j x)))) (upd f (10 + j) x) :=
  h.put (by decide) (by decide) (by decide) (by decide) (stO_cn (by omega) (by omega)) ⟨by omega, by omega, by omega, fun k hk => by omega, by omega, by omega⟩ fun _ _ _ => by
    rw [stSetI (g := fun k => 10 + k) hj (fun a b q => by omega)]; rfl
/-- a pump's number w is set -/
theorem Sta.setP (h : Sta G ad np ng M0 M f) {k w : Nat} (hk : k < np) (h3 : 3 ≤ w) (hw : w < 8) {x : Int32} {fs : List Value} (hf : fs = pmF (upd f (39 + (8 * k) + w) x) k) : Sta G ad np ng M0 (va_up M (ad (20 + k)) (some (.inr (4 + tN (f (39 + (8 * k))), fs)))) (upd f (39 + (8 * k) + w) x) := by
  have hn := h.n6
  obtain ⟨nn, b9, bx, h⟩ := h
  have := h.put (r := 20 + k) (p := 39 + (8 * k) + w) (x := x) (e' := .inr (4 + tN (f (39 + (8 * k))), fs)) (stU_pm hn hk) ((stO_pm (by omega) (by omega)).trans (by omega)) ⟨by omega, by omega, by omega, fun k hk => by omega, by omega, by omega⟩ (by
    rw [stC_pm (by omega), pk_un (show 39 + (8 * k) ≠ 39 + (8 * k) + w by omega), hf])
  rw [adr_n (by omega)] at this
  exact ⟨nn, b9, bx, this⟩
end STA
