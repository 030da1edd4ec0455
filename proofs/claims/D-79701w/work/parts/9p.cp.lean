set_option maxRecDepth 100000
/-! CP: what a copy of a station needs: its parts from the source, rows at its own address, whole roles copied -/
theorem raw_gen {p : Program} {l : Launch} {e : Env} {R : Room} {s : State} {m : MethodId} {args : Array Value} {below : List Frame} {meth : Method} {c : Code} {H : Heap} {locs : List Loc} {cells slots : Nat} {Q : State → Prop} {G : mg} {A : Nat → Prop} {M1 : mh} {g : JFrame} {P : mh → Prop} (w : mW G A s M1 H locs) (hP : P M1) (kk : ∀ M : mh, mW G A s M H locs → P M → W p l e R s m args below meth c H locs cells slots Q g) : W p l e R s m args below meth c H locs cells slots Q g := kk M1 w hP
/-- the roles that a station has not are at the station itself -/
def adN (np ng : Nat) (ad : Nat → Nat) : Prop := (∀ k, np ≤ k → k < 6 → ad (20 + k) = ad 0 ∧ ad (26 + k) = ad 0) ∧ (np = 0 → ad 2 = ad 0) ∧ (ng = 0 → ad 4 = ad 0)
def adF (M1 : mh) (o : Nat) (ad : Nat → Nat) : Prop := ∀ r, r < 32 → ad r = o ∨ M1 (ad r) = none
def mixR (r : Nat) (f g : Nat → Int32) : Nat → Int32 := fun p => if stO p = r then f p else g p
section CP
variable {G : mg} {ad adS : Nat → Nat} {b9 : Nat} {bx : Nat → Nat} {np ng nn : Nat} {M0 M1 M M' : mh} {f g : Nat → Int32} {x y : Nat → Int32} {pq q e2 pr e4 o : Nat}
theorem adN_P (h : adN np ng ad) (hn : np < 6) (he : (np = 0 ∧ M1 e2 = none) ∨ (np ≠ 0 ∧ e2 = ad 2)) : adN (np + 1) ng (aPa ad np pq q e2) := by
  refine ⟨fun k h1 h2 => ?_, fun z => by omega, fun z => ?_⟩
  · rw [aPa_o (r := 20 + k) (by omega) (by omega) (by omega), aPa_o (r := 26 + k) (by omega) (by omega) (by omega), aPa_o (r := 0) (by omega) (by omega) (by decide)]
    exact h.1 k (by omega) h2
  · rw [aPa_o (by omega) (by omega) (by decide), aPa_o (by omega) (by omega) (by decide)]
    exact h.2.2 z
theorem adN_G (h : adN np ng ad) (hn : ng < 8) (hp : np ≤ 6) : adN np (ng + 1) (aGa ad ng pr e4) := by
  refine ⟨fun k h1 h2 => ?_, fun z => ?_, fun z => by omega⟩
  · rw [aGa_o (r := 20 + k) (by omega) (by omega), aGa_o (r := 26 + k) (by omega) (by omega), aGa_o (r := 0) (by omega) (by decide)]
    exact h.1 k h1 h2
  · rw [aGa_o (by omega) (by decide), aGa_o (by omega) (by decide)]
    exact h.2.1 z
theorem adF_P (h : adF M1 o ad) (h1 : M1 pq = none) (h2 : M1 q = none) (h3 : M1 e2 = none ∨ e2 = ad 2) : adF M1 o (aPa ad np pq q e2) := fun r hr => by
  by_cases c1 : r = 20 + np
  · subst c1; rw [aPa_p]; exact Or.inr h1
  · by_cases c2 : r = 26 + np
    · subst c2; rw [aPa_q]; exact Or.inr h2
    · by_cases c3 : r = 2
      · subst c3
        rw [aPa_2]
        rcases h3 with z | z
        · exact Or.inr z
        · rw [z]; exact h 2 (by decide)
      · rw [aPa_o c1 c2 c3]; exact h r hr
theorem adF_G (h : adF M1 o ad) (h3 : M1 e4 = none ∨ e4 = ad 4) : adF M1 o (aGa ad ng pr e4) := fun r hr => by
  by_cases c3 : r = 4
  · subst c3
    rw [aGa_4]
    rcases h3 with z | z
    · exact Or.inr z
    · rw [z]; exact h 4 (by decide)
  · rw [aGa_o (by omega) c3]; exact h r hr
/-- what was there before is there, but for the station's own cells -/
theorem Sta.kept (h : Sta G ad np ng M1 M g) (hF : adF M1 o ad) (hq : M1 q ≠ none) (ho : q ≠ o) : M q = M1 q := by
  obtain ⟨nn, b9, bx, h⟩ := h
  refine h.2.2.2.2.2.2.1 q hq fun r hr z => ?_
  rcases hF r hr with w | w
  · exact ho (z.symm.trans w)
  · rw [z] at w; exact hq w
theorem Sta.src (h : Sta G ad np ng M1 M g) (hF : adF M1 o ad) {e : va_E} (hq : M1 q = some e) (ho : q ≠ o) : M q = some e := (h.kept hF (by rw [hq]; exact fun z => by cases z) ho).trans hq
theorem Sta.old (h : Sta G ad np ng M1 M g) (hF : adF M1 o ad) (e0 : ad 0 = o) (hq : M q = none) : M1 q = none := by
  by_cases c : M1 q = none
  · exact c
  · by_cases d : q = o
    · have := h.st
      rw [e0, ← d, hq] at this
      cases this
    · rw [h.kept hF c d] at hq
      exact absurd hq c
theorem Sta.base {Mc : mh} (h : Sta G ad np ng Mc M f) (he : ∀ q, M1 q ≠ none → Mc q = M1 q) : Sta G ad np ng M1 M f := by
  obtain ⟨nn, b9, bx, h1, h2, h3, h4, h5, h6, h7, h8, hqq⟩ := h
  refine ⟨nn, b9, bx, h1, h2, h3, h4, h5, h6, fun q hq hn => (h7 q (by rw [he q hq]; exact hq) hn).trans (he q hq), fun n0 => (h8 n0).imp id fun z => ?_, hqq⟩
  exact Classical.byContradiction fun c => c ((he b9 c).symm.trans z)
theorem Sta.obj (h : Sta G ad np ng M0 M f) (e0 : ad 0 = o) : M o = some (.inr (1, stF ad f)) := by
  rw [← e0]
  exact h.st
theorem Sta.ext (h : Sta G ad np ng M0 M f) (he : ∀ q, M q ≠ none → M' q = M q) : Sta G ad np ng M0 M' f := by
  obtain ⟨nn, b9, bx, h⟩ := h
  exact ⟨nn, b9, bx, h.ext he⟩
theorem stC_clT {c : Nat} (hc : c ≠ 1 ∧ c ≠ 2 ∧ c ≠ 4 ∧ c ≠ 5 ∧ c ≠ 6 ∧ c ≠ 9 ∧ c ≠ 10) (fs : List Value) : ∀ r, r < 20 → stT G ad b9 bx np ng nn f r ≠ .inr (c, fs)
  | 0, _ => stN (by omega)
  | 1, _ => stN (by omega)
  | 2, _ => stN2
  | 3, _ => stN (by omega)
  | 4, _ => stN2
  | 5, _ => stN2
  | 6, _ => stN2
  | 7, _ => stN2
  | 8, _ => stN (by omega)
  | 9, _ => stN2
  | 10, _ => stN2
  | 11, _ => stN2
  | 12, _ => stN2
  | 13, _ => stN2
  | 14, _ => stN2
  | 15, _ => stN2
  | 16, _ => stN2
  | 17, _ => stN (by omega)
  | 18, _ => stN2
  | 19, _ => stN (by omega)
  | _ + 20, q => absurd q (by omega)
theorem stC_cl {c r : Nat} (hc : c ≠ 1 ∧ c ≠ 2 ∧ c ≠ 4 ∧ c ≠ 5 ∧ c ≠ 6 ∧ c ≠ 9 ∧ c ≠ 10) (hu : stU np ng nn r) (hk : ∀ k, k < np → rg (f (39 + (8 * k))) 2) (fs : List Value) : stC G ad b9 bx np ng nn f r ≠ .inr (c, fs) := by
  by_cases e : r < 20
  · rw [stC_t e]
    exact stC_clT hc fs r e
  · by_cases e2 : r < 26
    · obtain ⟨k, rfl⟩ : ∃ k, r = 20 + k := ⟨r - 20, by omega⟩
      have := (rg_n (hk k (by have := hu.2.2.2.2.1 (by omega) e2; omega)) (by decide)).2
      rw [stC_pm (by omega)]
      exact stN (by omega)
    · obtain ⟨k, rfl⟩ : ∃ k, r = 26 + k := ⟨r - 26, by omega⟩
      rw [stC_cv]
      exact stN2
/-- an object of another class is written -/
theorem Sta.oth {c : Nat} {fs : List Value} {e' : Option va_E} (h : Sta G ad np ng M0 M f) (hc : c ≠ 1 ∧ c ≠ 2 ∧ c ≠ 4 ∧ c ≠ 5 ∧ c ≠ 6 ∧ c ≠ 9 ∧ c ≠ 10 ∧ c ≠ 7 ∧ c ≠ 14) (hq : M q = some (.inr (c, fs))) (h0 : M0 q = none) : Sta G ad np ng M0 (va_up M q e') f := by
  obtain ⟨nn, b9, bx, h1, h2, h3, h4, h5, h6, h7, h8, hqq⟩ := h
  refine ⟨nn, b9, bx, h1, h2, fun r hr => ?_, h4, fun k hk => ?_, fun k hk => ?_, fun a ha hn => ?_, h8, hqq⟩
  · rw [va_up_k (fun z => ?_)]
    · exact h3 r hr
    · have := h3 r hr
      rw [z, hq] at this
      exact stC_cl ⟨hc.1, hc.2.1, hc.2.2.1, hc.2.2.2.1, hc.2.2.2.2.1, hc.2.2.2.2.2.1, hc.2.2.2.2.2.2.1⟩ hr h2 fs (Option.some.inj this).symm
  · rw [va_up_k (fun z => ?_)]
    · exact h5 k hk
    · have := h5 k hk
      rw [z, hq] at this
      cases this
      exact hc.2.2.2.2.2.2.2.1 rfl
  · exact (h6 k hk).up fun fs' z => by
      rw [hq] at z
      cases z
      exact hc.2.2.2.2.2.2.2.2 rfl
  · rw [va_up_k (fun z => ha (by rw [z]; exact h0))]
    exact h7 a ha hn
/-- a whole role is written -/
theorem Sta.role {r : Nat} {D : Nat → Prop} {e' : va_E} (h : Sta G ad np ng M0 M f) (hr : r < 20) (r2 : r ≠ 2) (r4 : r ≠ 4) (r9 : r ≠ 9) (hD : ∀ p, D p → stO p = r ∧ stOk p) (hg : ∀ p, ¬ D p → g p = f p) (he : ∀ nn b9 bx, e' = stC G ad b9 bx np ng nn g r) : Sta G ad np ng M0 (va_up M (ad r) (some e')) g := by
  obtain ⟨nn, b9, bx, h1, h2, h3, h4, h5, h6, h7, h8, hqq⟩ := h
  have hu : stU np ng nn r := stU_p hr r2 r4 r9
  have un : ∀ p, ¬ stOk p → g p = f p := fun p hp => hg p fun z => hp (hD p z).2
  have uo : ∀ p, stO p ≠ r → g p = f p := fun p hp => hg p fun z => hp (hD p z).1
  have no := fun fs => stC_no (G := G) (ad := ad) (b9 := b9) (bx := bx) (f := f) hu h2 fs
  refine ⟨nn, b9, bx, ⟨(un 14 (fun z => z.1 rfl)).trans h1.1, h1.2.1, (un 16 (fun z => z.2.1 rfl)).trans h1.2.2.1, h1.2.2.2.1, (un 18 (fun z => z.2.2.1 rfl)).trans h1.2.2.2.2.1, h1.2.2.2.2.2⟩, fun k hk => ?_, fun r' hr' => ?_, h4, fun k hk => ?_, fun k hk => ?_, fun a ha hn => ?_, h8, fun k hk => ?_⟩
  · have n6 := h1.2.1
    rw [un _ (fun z => (z.2.2.2.1 k (by omega)).1 rfl)]
    exact h2 k hk
  · by_cases e : r' = r
    · subst e
      rw [show adr ad b9 r' = ad r' from adr_n r9, va_up_s, he nn b9 bx]
    · have n6 := h1.2.1
      rw [va_up_k (fun z => e (h4 _ _ hr' hu (z.trans (adr_n r9).symm))), h3 r' hr']
      exact congrArg some (stC_congr hr'.1 (fun p hp => uo p (by rw [hp]; exact e)) (fun k hk => ⟨un _ (fun z => (z.2.2.2.1 k hk).2.1 rfl), un _ (fun z => (z.2.2.2.1 k hk).2.2 rfl)⟩)).symm
  · have g8 := h1.2.2.2.1
    rw [va_up_k (fun z => ?_), un _ (fun z => z.2.2.2.2.1 (by omega)), un _ (fun z => z.2.2.2.2.1 (by omega)), un _ (fun z => z.2.2.2.2.1 (by omega))]
    · exact h5 k hk
    · have := h5 k hk
      have hc := h3 r hu
      rw [adr_n r9] at hc
      rw [z, hc] at this
      exact (no _).1 (Option.some.inj this)
  · rw [un _ (fun z => by have := z.2.2.2.2.2.1; omega)]
    refine (h6 k hk).up fun fs z => ?_
    have hc := h3 r hu
    rw [adr_n r9] at hc
    rw [hc] at z
    exact (no _).2 (Option.some.inj z)
  · rw [va_up_k (fun z => hn r (by omega) z.symm)]
    exact h7 a ha hn
  · rw [un _ (fun z => by have := z.2.2.2.2.2.2; omega)]
    exact hqq k hk
/-- only what a station has counts -/
theorem Sta.cong (h : Sta G ad np ng M0 M f) (h18 : f 18 = nI nn) (hn8 : nn ≤ 8) (hA : ∀ p, p < 39 → g p = f p) (hP : ∀ k w, k < np → w < 8 → g (39 + (8 * k) + w) = f (39 + (8 * k) + w)) (hZ : ∀ p, 87 ≤ p → p < 103 → g p = f p) (hG : ∀ k w, k < ng → w < 3 → g (103 + (3 * k) + w) = f (103 + (3 * k) + w)) (hE : ∀ p, 134 ≤ p → p < 186 → g p = f p) (hN : ∀ k, k < nn → g (200 + k) = f (200 + k)) (hX : ∀ p, 127 ≤ p → p < 200 → p < 134 ∨ 186 ≤ p → g p = f p) : Sta G ad np ng M0 M g := by
  obtain ⟨b9, bx, h1, h2, h3, h4, h5, h6, h7, h8, hqq⟩ := h.toB h18 hn8
  have n6 := h1.2.1
  refine ⟨nn, b9, bx, ⟨(hA 14 (by decide)).trans h1.1, n6, (hA 16 (by decide)).trans h1.2.2.1, h1.2.2.2.1, (hA 18 (by decide)).trans h1.2.2.2.2.1, h1.2.2.2.2.2⟩, fun k hk => ?_, fun r hr => ?_, h4, fun k hk => ?_, fun k hk => ?_, h7, h8, fun k hk => ?_⟩
  · rw [show g (39 + (8 * k)) = f (39 + (8 * k)) from hP k 0 hk (by decide)]
    exact h2 k hk
  · rw [h3 r hr]
    refine congrArg some ?_
    by_cases r1 : r = 1
    · subst r1
      rw [stC_t (by decide), stC_t (by decide)]
      show (Sum.inr (9, [Value.int (f 172), .ref (if np = 0 then G.2 0 else ad 2), .int (nI np)]) : va_E) = Sum.inr (9, [Value.int (g 172), .ref (if np = 0 then G.2 0 else ad 2), .int (nI np)])
      rw [hE 172 (by decide) (by decide)]
    · by_cases r3 : r = 3
      · subst r3
        rw [stC_t (by decide), stC_t (by decide)]
        show (Sum.inr (9, [Value.int (f 173), .ref (if ng = 0 then G.2 0 else ad 4), .int (nI ng)]) : va_E) = Sum.inr (9, [Value.int (g 173), .ref (if ng = 0 then G.2 0 else ad 4), .int (nI ng)])
        rw [hE 173 (by decide) (by decide)]
      · by_cases r2 : r = 2
        · subst r2
          rw [stC_t (by decide), stC_t (by decide)]
          simp only [stT]
        · by_cases r4 : r = 4
          · subst r4
            rw [stC_t (by decide), stC_t (by decide)]
            simp only [stT]
          · by_cases r10 : r = 10
            · subst r10
              rw [stC_t (by decide), stC_t (by decide)]
              simp only [stT]
            · refine (stC_same hr n6 r1 r2 r10 r3 r4 (fun k _ _ _ => rfl) (fun k hk => by rw [hE _ (by omega) (by omega)]) (fun p p0 p1 _ _ _ _ => ?_) hP).symm
              by_cases c : p < 39
              · exact hA p c
              · by_cases c2 : p < 103
                · exact hZ p (by omega) c2
                · by_cases c3 : 134 ≤ p ∧ p < 186
                  · exact hE p c3.1 c3.2
                  · exact hX p (by omega) p0 (by omega)
  · rw [show g (103 + (3 * k)) = f (103 + (3 * k)) from hG k 0 hk (by decide), hG k 1 hk (by decide), hG k 2 hk (by decide)]
    exact h5 k hk
  · rw [hN k hk]
    exact h6 k hk
  · rw [hE _ (by omega) (by omega)]
    exact hqq k hk
def mixE0 (f g : Nat → Int32) : Nat → Int32 := fun p => if 134 ≤ p ∧ p < 170 ∧ (p - 134) % 3 = 0 then f p else g p
theorem mixE0_o {p : Nat} (h : ¬ (134 ≤ p ∧ p < 170 ∧ (p - 134) % 3 = 0)) : mixE0 f g p = g p := if_neg h
theorem mixE0_y {p : Nat} (h : 134 ≤ p ∧ p < 170 ∧ (p - 134) % 3 = 0) : mixE0 f g p = f p := if_pos h
theorem Sta.cpyE0 (h : Sta G ad np ng M0 M g) (f : Nat → Int32) : Sta G ad np ng M0 (va_up M (ad 5) (some (mIc (G.1.1 100) 12 (va_cpy (fun k => if k < 12 then f (134 + (3 * k)) else 0) (fun k => if k < 12 then g (134 + (3 * k)) else 0) 0 0 12)))) (mixE0 f g) := by
  refine h.role (D := fun p => 134 ≤ p ∧ p < 170 ∧ (p - 134) % 3 = 0) (by decide) (by decide) (by decide) (by decide) (fun p h => ⟨(stO_ev h.1 h.2.1).trans (by omega), ⟨by omega, by omega, by omega, fun k hk => by omega, by omega, by omega⟩⟩) (fun p hp => mixE0_o hp) (fun nn b9 bx => congrArg (mIc _ 12) ?_)
  funext k
  unfold va_cpy
  by_cases c : k < 12
  · rw [if_pos (by omega), show 0 + (k - 0) = k by omega]
    show (if k < 12 then f (134 + (3 * k)) else 0) = (if k < 12 then mixE0 f g (134 + (3 * k)) else 0)
    rw [if_pos c, if_pos c, mixE0_y (by omega)]
  · rw [if_neg (by omega)]
    show (if k < 12 then g (134 + (3 * k)) else 0) = (if k < 12 then mixE0 f g (134 + (3 * k)) else 0)
    rw [if_neg c, if_neg c]
def mixE1 (f g : Nat → Int32) : Nat → Int32 := fun p => if 134 ≤ p ∧ p < 170 ∧ (p - 134) % 3 = 1 then f p else g p
theorem mixE1_o {p : Nat} (h : ¬ (134 ≤ p ∧ p < 170 ∧ (p - 134) % 3 = 1)) : mixE1 f g p = g p := if_neg h
theorem mixE1_y {p : Nat} (h : 134 ≤ p ∧ p < 170 ∧ (p - 134) % 3 = 1) : mixE1 f g p = f p := if_pos h
theorem Sta.cpyE1 (h : Sta G ad np ng M0 M g) (f : Nat → Int32) : Sta G ad np ng M0 (va_up M (ad 6) (some (mIc (G.1.1 100) 12 (va_cpy (fun k => if k < 12 then f (134 + (3 * k) + 1) else 0) (fun k => if k < 12 then g (134 + (3 * k) + 1) else 0) 0 0 12)))) (mixE1 f g) := by
  refine h.role (D := fun p => 134 ≤ p ∧ p < 170 ∧ (p - 134) % 3 = 1) (by decide) (by decide) (by decide) (by decide) (fun p h => ⟨(stO_ev h.1 h.2.1).trans (by omega), ⟨by omega, by omega, by omega, fun k hk => by omega, by omega, by omega⟩⟩) (fun p hp => mixE1_o hp) (fun nn b9 bx => congrArg (mIc _ 12) ?_)
  funext k
  unfold va_cpy
  by_cases c : k < 12
  · rw [if_pos (by omega), show 0 + (k - 0) = k by omega]
    show (if k < 12 then f (134 + (3 * k) + 1) else 0) = (if k < 12 then mixE1 f g (134 + (3 * k) + 1) else 0)
    rw [if_pos c, if_pos c, mixE1_y (by omega)]
  · rw [if_neg (by omega)]
    show (if k < 12 then g (134 + (3 * k) + 1) else 0) = (if k < 12 then mixE1 f g (134 + (3 * k) + 1) else 0)
    rw [if_neg c, if_neg c]
def mixE2 (f g : Nat → Int32) : Nat → Int32 := fun p => if 134 ≤ p ∧ p < 170 ∧ (p - 134) % 3 = 2 then f p else g p
theorem mixE2_o {p : Nat} (h : ¬ (134 ≤ p ∧ p < 170 ∧ (p - 134) % 3 = 2)) : mixE2 f g p = g p := if_neg h
theorem mixE2_y {p : Nat} (h : 134 ≤ p ∧ p < 170 ∧ (p - 134) % 3 = 2) : mixE2 f g p = f p := if_pos h
theorem Sta.cpyE2 (h : Sta G ad np ng M0 M g) (f : Nat → Int32) : Sta G ad np ng M0 (va_up M (ad 7) (some (mIc (G.1.1 100) 12 (va_cpy (fun k => if k < 12 then f (134 + (3 * k) + 2) else 0) (fun k => if k < 12 then g (134 + (3 * k) + 2) else 0) 0 0 12)))) (mixE2 f g) := by
  refine h.role (D := fun p => 134 ≤ p ∧ p < 170 ∧ (p - 134) % 3 = 2) (by decide) (by decide) (by decide) (by decide) (fun p h => ⟨(stO_ev h.1 h.2.1).trans (by omega), ⟨by omega, by omega, by omega, fun k hk => by omega, by omega, by omega⟩⟩) (fun p hp => mixE2_o hp) (fun nn b9 bx => congrArg (mIc _ 12) ?_)
  funext k
  unfold va_cpy
  by_cases c : k < 12
  · rw [if_pos (by omega), show 0 + (k - 0) = k by omega]
    show (if k < 12 then f (134 + (3 * k) + 2) else 0) = (if k < 12 then mixE2 f g (134 + (3 * k) + 2) else 0)
    rw [if_pos c, if_pos c, mixE2_y (by omega)]
  · rw [if_neg (by omega)]
    show (if k < 12 then g (134 + (3 * k) + 2) else 0) = (if k < 12 then mixE2 f g (134 + (3 * k) + 2) else 0)
    rw [if_neg c, if_neg c]
def mixZ0 (f g : Nat → Int32) : Nat → Int32 := fun p => if 87 ≤ p ∧ p < 103 ∧ (p - 87) % 2 = 0 then f p else g p
theorem mixZ0_o {p : Nat} (h : ¬ (87 ≤ p ∧ p < 103 ∧ (p - 87) % 2 = 0)) : mixZ0 f g p = g p := if_neg h
theorem mixZ0_y {p : Nat} (h : 87 ≤ p ∧ p < 103 ∧ (p - 87) % 2 = 0) : mixZ0 f g p = f p := if_pos h
theorem Sta.cpyZ0 (h : Sta G ad np ng M0 M g) (f : Nat → Int32) : Sta G ad np ng M0 (va_up M (ad 11) (some (mIc (G.1.1 100) 8 (va_cpy (fun k => if k < 8 then f (87 + (2 * k)) else 0) (fun k => if k < 8 then g (87 + (2 * k)) else 0) 0 0 8)))) (mixZ0 f g) := by
  refine h.role (D := fun p => 87 ≤ p ∧ p < 103 ∧ (p - 87) % 2 = 0) (by decide) (by decide) (by decide) (by decide) (fun p h => ⟨(stO_zo h.1 h.2.1).trans (by omega), ⟨by omega, by omega, by omega, fun k hk => by omega, by omega, by omega⟩⟩) (fun p hp => mixZ0_o hp) (fun nn b9 bx => congrArg (mIc _ 8) ?_)
  funext k
  unfold va_cpy
  by_cases c : k < 8
  · rw [if_pos (by omega), show 0 + (k - 0) = k by omega]
    show (if k < 8 then f (87 + (2 * k)) else 0) = (if k < 8 then mixZ0 f g (87 + (2 * k)) else 0)
    rw [if_pos c, if_pos c, mixZ0_y (by omega)]
  · rw [if_neg (by omega)]
    show (if k < 8 then g (87 + (2 * k)) else 0) = (if k < 8 then mixZ0 f g (87 + (2 * k)) else 0)
    rw [if_neg c, if_neg c]
def mixZ1 (f g : Nat → Int32) : Nat → Int32 := fun p => if 87 ≤ p ∧ p < 103 ∧ (p - 87) % 2 = 1 then f p else g p
theorem mixZ1_o {p : Nat} (h : ¬ (87 ≤ p ∧ p < 103 ∧ (p - 87) % 2 = 1)) : mixZ1 f g p = g p := if_neg h
theorem mixZ1_y {p : Nat} (h : 87 ≤ p ∧ p < 103 ∧ (p - 87) % 2 = 1) : mixZ1 f g p = f p := if_pos h
theorem Sta.cpyZ1 (h : Sta G ad np ng M0 M g) (f : Nat → Int32) : Sta G ad np ng M0 (va_up M (ad 12) (some (mIc (G.1.1 101) 8 (va_cpy (fun k => if k < 8 then f (87 + (2 * k) + 1) else 0) (fun k => if k < 8 then g (87 + (2 * k) + 1) else 0) 0 0 8)))) (mixZ1 f g) := by
  refine h.role (D := fun p => 87 ≤ p ∧ p < 103 ∧ (p - 87) % 2 = 1) (by decide) (by decide) (by decide) (by decide) (fun p h => ⟨(stO_zo h.1 h.2.1).trans (by omega), ⟨by omega, by omega, by omega, fun k hk => by omega, by omega, by omega⟩⟩) (fun p hp => mixZ1_o hp) (fun nn b9 bx => congrArg (mIc _ 8) ?_)
  funext k
  unfold va_cpy
  by_cases c : k < 8
  · rw [if_pos (by omega), show 0 + (k - 0) = k by omega]
    show (if k < 8 then f (87 + (2 * k) + 1) else 0) = (if k < 8 then mixZ1 f g (87 + (2 * k) + 1) else 0)
    rw [if_pos c, if_pos c, mixZ1_y (by omega)]
  · rw [if_neg (by omega)]
    show (if k < 8 then g (87 + (2 * k) + 1) else 0) = (if k < 8 then mixZ1 f g (87 + (2 * k) + 1) else 0)
    rw [if_neg c, if_neg c]
def mixC (f g : Nat → Int32) : Nat → Int32 := fun p => if 10 ≤ p ∧ p < 13 then f p else g p
theorem mixC_o {p : Nat} (h : ¬ (10 ≤ p ∧ p < 13)) : mixC f g p = g p := if_neg h
theorem mixC_y {p : Nat} (h : 10 ≤ p ∧ p < 13) : mixC f g p = f p := if_pos h
theorem Sta.cpyC (h : Sta G ad np ng M0 M g) (f : Nat → Int32) : Sta G ad np ng M0 (va_up M (ad 14) (some (mIc (G.1.1 100) 3 (va_cpy (fun k => if k < 3 then f (10 + k) else 0) (fun k => if k < 3 then g (10 + k) else 0) 0 0 3)))) (mixC f g) := by
  refine h.role (D := fun p => 10 ≤ p ∧ p < 13) (by decide) (by decide) (by decide) (by decide) (fun p h => ⟨stO_cn h.1 h.2, ⟨by omega, by omega, by omega, fun k hk => by omega, by omega, by omega⟩⟩) (fun p hp => mixC_o hp) (fun nn b9 bx => congrArg (mIc _ 3) ?_)
  funext k
  unfold va_cpy
  by_cases c : k < 3
  · rw [if_pos (by omega), show 0 + (k - 0) = k by omega]
    show (if k < 3 then f (10 + k) else 0) = (if k < 3 then mixC f g (10 + k) else 0)
    rw [if_pos c, if_pos c, mixC_y (by omega)]
  · rw [if_neg (by omega)]
    show (if k < 3 then g (10 + k) else 0) = (if k < 3 then mixC f g (10 + k) else 0)
    rw [if_neg c, if_neg c]
end CP

