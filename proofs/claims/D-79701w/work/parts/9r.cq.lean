set_option maxRecDepth 100000
/-! CQ: facts for the walk of the copy -/
section CQ
variable {G : mg} {ad adS : Nat → Nat} {b9 : Nat} {bx : Nat → Nat} {np ng nn : Nat} {M0 M1 M M' : mh} {f g gx : Nat → Int32} {it o q e2 e4 : Nat} {fs : List Value}
theorem cp_fit {i : Nat} (hop : ∀ k, k < 8 → rg (f (87 + (2 * k) + 1)) 1) (hi : i < 8) : fits .boolean (.int ((fun k => if k < 8 then f (87 + (2 * k) + 1) else 0) (0 + i))) = true := by
  obtain ⟨j, hj, ej⟩ := hop i hi
  show fits .boolean (.int (if 0 + i < 8 then f (87 + (2 * (0 + i)) + 1) else 0)) = true
  rw [Nat.zero_add, if_pos hi, ej]
  obtain rfl | rfl : j = 0 ∨ j = 1 := by omega
  · rfl
  · rfl
theorem cp_nar {x : Int32} (h : rg x 1) : narrow .boolean (.int x) = .int x := by
  obtain ⟨j, hj, rfl⟩ := h
  obtain rfl | rfl : j = 0 ∨ j = 1 := by omega
  · rfl
  · rfl
theorem cp_fitb {x : Int32} (h : rg x 1) : fits .boolean (.int x) = true := by
  obtain ⟨j, hj, rfl⟩ := h
  obtain rfl | rfl : j = 0 ∨ j = 1 := by omega
  · rfl
  · rfl
theorem cp_it (hit : M it = some (.inr (13, fs))) (h : StaB G ad b9 bx np ng nn M0 M f) {r : Nat} (hr : stU np ng nn r) : it ≠ adr ad b9 r := fun z => by
  have := h.2.2.1 r hr
  rw [← z, hit] at this
  exact stC_cl (c := 13) (by decide) hr h.2.1 fs (Option.some.inj this).symm
theorem cp_i1 (hit : M it = some (.inr (13, fs))) (h : StaB G ad b9 bx np ng nn M0 M f) : it ≠ ad 10 := cp_it hit h (stU_p (r := 10) (by decide) (by decide) (by decide) (by decide))
theorem cp_i2 (hit : M it = some (.inr (13, fs))) (h : StaB G ad b9 bx np ng nn M0 M f) : it ≠ ad 1 := cp_it hit h (stU_p (r := 1) (by decide) (by decide) (by decide) (by decide))
theorem cp_i3 (hit : M it = some (.inr (13, fs))) (h : StaB G ad b9 bx np ng nn M0 M f) (he : (np = 0 ∧ M e2 = none) ∨ (np ≠ 0 ∧ e2 = ad 2)) : it ≠ e2 := fun z => by
  rcases he with ⟨-, w⟩ | ⟨n0, w⟩
  · rw [← z, hit] at w; cases w
  · exact cp_it hit h (r := 2) ⟨by decide, fun _ => n0, fun z => by omega, fun z => by omega, fun z => by omega, fun z => by omega⟩ (z.trans w)
theorem cp_i4 (hit : M it = some (.inr (13, fs))) (h : StaB G ad b9 bx np ng nn M0 M f) : it ≠ ad 3 := cp_it hit h (stU_p (r := 3) (by decide) (by decide) (by decide) (by decide))
theorem cp_i5 (hit : M it = some (.inr (13, fs))) (h : StaB G ad b9 bx np ng nn M0 M f) (he : (ng = 0 ∧ M e4 = none) ∨ (ng ≠ 0 ∧ e4 = ad 4)) : it ≠ e4 := fun z => by
  rcases he with ⟨-, w⟩ | ⟨n0, w⟩
  · rw [← z, hit] at w; cases w
  · exact cp_it hit h (r := 4) ⟨by decide, fun z => by omega, fun _ => n0, fun z => by omega, fun z => by omega, fun z => by omega⟩ (z.trans w)
theorem cp_i6 (hit : M it = some (.inr (13, fs))) (h : StaB G ad b9 bx np ng nn M0 M f) : it ≠ ad 8 := cp_it hit h (stU_p (r := 8) (by decide) (by decide) (by decide) (by decide))
theorem cp_i7 (hit : M it = some (.inr (13, fs))) (h : StaB G ad b9 bx np ng nn M0 M f) : nn ≠ 0 → it ≠ b9 := fun n0 => cp_it hit h (r := 9) ⟨by decide, fun z => by omega, fun z => by omega, fun _ => n0, fun z => by omega, fun z => by omega⟩
theorem cp_g1 (hn : np < 6) (h : ∀ j w, j < np → w < 8 → g (39 + (8 * j) + w) = f (39 + (8 * j) + w)) : ∀ j w, j < np + 1 → w < 8 → aPf g np (fun w => f (39 + (8 * np) + w)) (39 + (8 * j) + w) = f (39 + (8 * j) + w) := fun j w hj hw => by
  by_cases c : j = np
  · subst c
    exact aPf_x hw
  · rw [aPf_o (by omega) (by omega) (by omega)]
    exact h j w (by omega) hw
theorem cp_g0 {x : Nat → Int32} (hn : np < 6) (h : ∀ p, (p < 39 ∨ 87 ≤ p) → p ≠ 14 → p ≠ 172 → g p = f00 f p) : ∀ p, (p < 39 ∨ 87 ≤ p) → p ≠ 14 → p ≠ 172 → aPf g np x p = f00 f p := fun p h1 h2 h3 => by
  rw [aPf_o (by omega) h2 h3]
  exact h p h1 h2 h3
theorem cp_gG (hn : ng < 8) (h : ∀ j w, j < ng → w < 3 → g (103 + (3 * j) + w) = f (103 + (3 * j) + w)) : ∀ j w, j < ng + 1 → w < 3 → aGf g ng (fun w => f (103 + (3 * ng) + w)) (103 + (3 * j) + w) = f (103 + (3 * j) + w) := fun j w hj hw => by
  by_cases c : j = ng
  · subst c
    exact aGf_y hw
  · rw [aGf_o (by omega) (by omega) (by omega)]
    exact h j w (by omega) hw
theorem cp_gO {y : Nat → Int32} (hn : ng < 8) (h : ∀ p, (p < 103 ∨ 127 ≤ p) → p ≠ 16 → p ≠ 173 → g p = gx p) : ∀ p, (p < 103 ∨ 127 ≤ p) → p ≠ 16 → p ≠ 173 → aGf g ng y p = gx p := fun p h1 h2 h3 => by
  rw [aGf_o (by omega) h2 h3]
  exact h p h1 h2 h3
theorem cp_gN (h : ∀ j, j < nn → g (200 + j) = f (200 + j)) : ∀ j, j < nn + 1 → nAdd g nn (f (200 + nn)) (200 + j) = f (200 + j) := fun j hj => by
  rw [nAdd_k]
  by_cases c : j = nn
  · rw [if_pos c, c]
  · rw [if_neg c]
    exact h j (by omega)
theorem cp_gX {x : Int32} (h : ∀ p, p < 200 → p ≠ 18 → p ≠ 174 → g p = gx p) : ∀ p, p < 200 → p ≠ 18 → p ≠ 174 → nAdd g nn x p = gx p := fun p h1 h2 h3 => (nAdd_o h1 h2 h3).trans (h p h1 h2 h3)
theorem Sta.srcBox {v : Int32} (h : Sta G ad np ng M1 M g) (hF : adF M1 o ad) (ho : M1 o = some (.inr (1, fs))) (hb : boxAt G M1 q v) : boxAt G M q v := by
  rcases hb with hb | hb
  · exact Or.inl (h.src hF hb (fun z => by rw [z, ho] at hb; cases hb))
  · exact Or.inr hb
theorem cp_F {sa : Nat} {e : va_E} {ad : Nat → Nat} (zsa : M1 sa = none) (h : ∀ r, r < 32 → ad r = o ∨ ad r = sa ∨ va_up M1 sa (some e) (ad r) = none) : adF M1 o ad := fun r hr => by
  rcases h r hr with z | z | z
  · exact Or.inl z
  · exact Or.inr (by rw [z]; exact zsa)
  · by_cases c : ad r = sa
    · exact Or.inr (by rw [c]; exact zsa)
    · rw [va_up_k c] at z
      exact Or.inr z
/-- the last thirteen numbers -/
def putsF (f g : Nat → Int32) : Nat → Int32 := upd (upd (upd (upd (upd (upd (upd (upd (upd (upd (upd (upd (upd g 15 (f 15)) 0 (f 0)) 1 (f 1)) 2 (f 2)) 17 (f 17)) 4 (f 4)) 3 (f 3)) 13 (f 13)) 8 (f 8)) 9 (f 9)) 7 (f 7)) 6 (f 6)) 5 (f 5)
theorem putsF_o {p : Nat} (h : p ≠ 15 ∧ p ≠ 0 ∧ p ≠ 1 ∧ p ≠ 2 ∧ p ≠ 17 ∧ p ≠ 4 ∧ p ≠ 3 ∧ p ≠ 13 ∧ p ≠ 8 ∧ p ≠ 9 ∧ p ≠ 7 ∧ p ≠ 6 ∧ p ≠ 5) : putsF f g p = g p := by
  unfold putsF
  rw [pk_un (by omega), pk_un (by omega), pk_un (by omega), pk_un (by omega), pk_un (by omega), pk_un (by omega), pk_un (by omega), pk_un (by omega), pk_un (by omega), pk_un (by omega), pk_un (by omega), pk_un (by omega), pk_un (by omega)]
theorem putsF_y {p : Nat} (h : p = 15 ∨ p = 0 ∨ p = 1 ∨ p = 2 ∨ p = 17 ∨ p = 4 ∨ p = 3 ∨ p = 13 ∨ p = 8 ∨ p = 9 ∨ p = 7 ∨ p = 6 ∨ p = 5) : putsF f g p = f p := by
  rcases h with rfl | rfl | rfl | rfl | rfl | rfl | rfl | rfl | rfl | rfl | rfl | rfl | rfl
  all_goals rfl
/-- places that no cell holds -/
theorem Sta.free {g' : Nat → Int32} (h : Sta G ad np ng M0 M g) (h18 : g 18 = nI nn) (hn8 : nn ≤ 8) (hg : ∀ p, (p < 127 ∨ 134 ≤ p) → g' p = g p) : Sta G ad np ng M0 M g' := by
  obtain ⟨b9, bx, h1, h2, h3, h4, h5, h6, h7, h8, hqq⟩ := h.toB h18 hn8
  have n6 := h1.2.1
  have g8 := h1.2.2.2.1
  refine ⟨nn, b9, bx, ⟨(hg 14 (by omega)).trans h1.1, n6, (hg 16 (by omega)).trans h1.2.2.1, g8, (hg 18 (by omega)).trans h1.2.2.2.2.1, h1.2.2.2.2.2⟩, fun k hk => ?_, fun r hr => ?_, h4, fun k hk => ?_, fun k hk => ?_, h7, h8, fun k hk => ?_⟩
  · rw [hg _ (by omega)]
    exact h2 k hk
  · rw [h3 r hr]
    refine congrArg some (stC_congr hr.1 (fun p hp => hg p ?_) (fun k hk => ⟨hg _ (by omega), hg _ (by omega)⟩)).symm
    by_cases c : 127 ≤ p ∧ p < 134
    · exfalso
      have e : stO p = 40 := by
        unfold stO
        rw [if_neg (by omega), if_neg (by omega), if_neg (by omega), if_neg (by omega), if_neg (by omega), if_neg (by omega), if_pos (by omega)]
      have := hr.1
      omega
    · omega
  · rw [hg _ (by omega), hg _ (by omega), hg _ (by omega)]
    exact h5 k hk
  · rw [hg _ (by omega)]
    exact h6 k hk
  · rw [hg _ (by omega)]
    exact hqq k hk
theorem cp_fin {g1 g2 g3 : Nat → Int32} (hN : Sta G ad np ng M1 M (putsF f (mixC f (mixZ1 f (mixZ0 f g3))))) (hS : Sta G adS np ng M1 M1 f) (h18 : f 18 = nI nn) (hn7 : nn ≤ 7) (e0 : ad 0 = o) (hF : adF M1 o ad) (hAN : adN np ng ad)
    (hgX : ∀ p, p < 200 → p ≠ 18 → p ≠ 174 → g3 p = gx p) (h18g : g3 18 = nI nn) (hgN : ∀ j, j < nn → g3 (200 + j) = f (200 + j)) (egx : gx = upd (mixE2 f (mixE1 f (mixE0 f g2))) 19 (f 19))
    (hgG : ∀ j w, j < ng → w < 3 → g2 (103 + (3 * j) + w) = f (103 + (3 * j) + w)) (hgO : ∀ p, (p < 103 ∨ 127 ≤ p) → p ≠ 16 → p ≠ 173 → g2 p = g1 p) (hg1 : ∀ j w, j < np → w < 8 → g1 (39 + (8 * j) + w) = f (39 + (8 * j) + w)) (hg0 : ∀ p, (p < 39 ∨ 87 ≤ p) → p ≠ 14 → p ≠ 172 → g1 p = f00 f p) :
    ∃ (ad' : Nat → Nat) (g' : Nat → Int32), Sta G ad' np ng M1 M g' ∧ ad' 0 = o ∧ adF M1 o ad' ∧ adN np ng ad' ∧ (∀ p, p < 170 → g' p = f p) ∧ (∀ p, 200 ≤ p → g' p = f p) ∧ g' 176 = 0 ∧ g' 177 = 0 := by
  have n6 := hS.n6
  have g8 := hS.g8
  obtain ⟨gN, eN⟩ : ∃ gN, gN = putsF f (mixC f (mixZ1 f (mixZ0 f g3))) := ⟨_, rfl⟩
  rw [← eN] at hN
  -- a place that the late rows don't touch
  have o1 : ∀ p, ¬ (p < 13) → p ≠ 13 → p ≠ 15 → p ≠ 17 → ¬ (87 ≤ p ∧ p < 103) → gN p = g3 p := fun p h1 h2 h3 h4 h5 => by
    rw [eN, putsF_o (by omega), mixC_o (by omega), mixZ1_o (by omega), mixZ0_o (by omega)]
  have o2 : ∀ p, ¬ (134 ≤ p ∧ p < 170) → p ≠ 19 → gx p = g2 p := fun p h1 h2 => by
    rw [egx, pk_un h2, mixE2_o (by omega), mixE1_o (by omega), mixE0_o (by omega)]
  have f00s : ∀ p, 20 ≤ p → p < 39 → f00 f p = f p := fun p h1 h2 => if_pos ⟨h1, h2⟩
  have eN18 : gN 18 = nI nn := (o1 18 (by decide) (by decide) (by decide) (by decide) (by omega)).trans h18g
  have hA : ∀ p, p < 39 → f p = gN p := fun p hp => by
    by_cases c1 : p = 15 ∨ p = 0 ∨ p = 1 ∨ p = 2 ∨ p = 17 ∨ p = 4 ∨ p = 3 ∨ p = 13 ∨ p = 8 ∨ p = 9 ∨ p = 7 ∨ p = 6 ∨ p = 5
    · rw [eN, putsF_y c1]
    · by_cases c2 : p < 13
      · rw [eN, putsF_o (by omega), mixC_y (by omega)]
      · by_cases c3 : p = 14
        · rw [c3, hS.f14, hN.f14]
        · by_cases c4 : p = 16
          · rw [c4, hS.f16, hN.f16]
          · by_cases c5 : p = 18
            · rw [c5, h18, eN18]
            · rw [o1 p (by omega) (by omega) (by omega) (by omega) (by omega), hgX p (by omega) c5 (by omega)]
              by_cases c6 : p = 19
              · rw [c6, egx, pk_us]
              · rw [o2 p (by omega) c6, hgO p (by omega) c4 (by omega), hg0 p (by omega) c3 (by omega), f00s p (by omega) hp]
  have hP : ∀ k w, k < np → w < 8 → f (39 + (8 * k) + w) = gN (39 + (8 * k) + w) := fun k w hk hw => by
    rw [o1 _ (by omega) (by omega) (by omega) (by omega) (by omega), hgX _ (by omega) (by omega) (by omega), o2 _ (by omega) (by omega), hgO _ (by omega) (by omega) (by omega), hg1 k w hk hw]
  have hZ : ∀ p, 87 ≤ p → p < 103 → f p = gN p := fun p h1 h2 => by
    rw [eN, putsF_o (by omega), mixC_o (by omega)]
    by_cases c : (p - 87) % 2 = 1
    · rw [mixZ1_y ⟨h1, h2, c⟩]
    · rw [mixZ1_o (by omega), mixZ0_y ⟨h1, h2, by omega⟩]
  have hG : ∀ k w, k < ng → w < 3 → f (103 + (3 * k) + w) = gN (103 + (3 * k) + w) := fun k w hk hw => by
    rw [o1 _ (by omega) (by omega) (by omega) (by omega) (by omega), hgX _ (by omega) (by omega) (by omega), o2 _ (by omega) (by omega), hgG k w hk hw]
  have hE : ∀ p, 134 ≤ p → p < 170 → f p = gN p := fun p h1 h2 => by
    rw [o1 p (by omega) (by omega) (by omega) (by omega) (by omega), hgX p (by omega) (by omega) (by omega), egx, pk_un (by omega)]
    by_cases c : (p - 134) % 3 = 2
    · rw [mixE2_y ⟨h1, h2, c⟩]
    · rw [mixE2_o (by omega)]
      by_cases c2 : (p - 134) % 3 = 1
      · rw [mixE1_y ⟨h1, h2, c2⟩]
      · rw [mixE1_o (by omega), mixE0_y ⟨h1, h2, by omega⟩]
  have hQ : ∀ p, 175 ≤ p → p < 180 → gN p = 0 := fun p h1 h2 => by
    rw [o1 p (by omega) (by omega) (by omega) (by omega) (by omega), hgX p (by omega) (by omega) (by omega), o2 p (by omega) (by omega), hgO p (by omega) (by omega) (by omega), hg0 p (by omega) (by omega) (by omega), f00_0 (by omega) (by omega)]
  have hNN : ∀ k, k < nn → f (200 + k) = gN (200 + k) := fun k hk => by
    rw [o1 _ (by omega) (by omega) (by omega) (by omega) (by omega), hgN k hk]
  obtain ⟨g', eg⟩ : ∃ g' : Nat → Int32, ∀ p, g' p = if 170 ≤ p ∧ p < 200 then gN p else f p := ⟨fun p => if 170 ≤ p ∧ p < 200 then gN p else f p, fun _ => rfl⟩
  have y : ∀ p, 170 ≤ p → p < 200 → g' p = gN p := fun p h1 h2 => by rw [eg, if_pos ⟨h1, h2⟩]
  have n : ∀ p, p < 170 ∨ 200 ≤ p → g' p = f p := fun p h1 => by rw [eg, if_neg (by omega)]
  -- places that no cell holds
  obtain ⟨gM, hM, e1, e2⟩ : ∃ gM : Nat → Int32, Sta G ad np ng M1 M gM ∧ (∀ p, (p < 127 ∨ 134 ≤ p) → gM p = gN p) ∧ (∀ p, 127 ≤ p ∧ p < 134 → gM p = f p) := by
    refine ⟨fun p => if 127 ≤ p ∧ p < 134 then f p else gN p, Sta.free hN eN18 (by omega) (fun p h1 => if_neg (by omega)), fun p h1 => if_neg (by omega), fun p h1 => if_pos h1⟩
  refine ⟨ad, g', Sta.cong hM ((e1 18 (by omega)).trans eN18) (by omega) (fun p hp => ?_) (fun k w hk hw => ?_) (fun p h1 h2 => ?_) (fun k w hk hw => ?_) (fun p h1 h2 => ?_) (fun k hk => ?_) (fun p h1 h2 h3 => ?_), e0, hF, hAN, fun p hp => n p (Or.inl hp), fun p hp => n p (Or.inr hp), (y 176 (by decide) (by decide)).trans (hQ 176 (by decide) (by decide)), (y 177 (by decide) (by decide)).trans (hQ 177 (by decide) (by decide))⟩
  · rw [n p (by omega), e1 p (by omega)]; exact hA p hp
  · rw [n _ (by omega), e1 _ (by omega)]; exact hP k w hk hw
  · rw [n p (by omega), e1 p (by omega)]; exact hZ p h1 h2
  · rw [n _ (by omega), e1 _ (by omega)]; exact hG k w hk hw
  · by_cases c : p < 170
    · rw [n p (by omega), e1 p (by omega)]; exact hE p h1 c
    · rw [y p (by omega) (by omega), e1 p (by omega)]
  · rw [n _ (by omega), e1 _ (by omega)]; exact hNN k hk
  · by_cases c : p < 134
    · rw [n p (by omega), e2 p (by omega)]
    · rw [y p (by omega) (by omega), e1 p (by omega)]
end CQ
/-! CQ: the copy's start -/
theorem siA_N {o sa q1 q3 q5 q6 q7 q8 q10 q11 q12 q14 q15 q_102 q17 q19 q_123 : Nat} : adN 0 0 (siA o sa q1 q3 q5 q6 q7 q8 q10 q11 q12 q14 q15 q_102 q17 q19 q_123) := ⟨fun k _ hk => by
  obtain rfl | rfl | rfl | rfl | rfl | rfl : k = 0 ∨ k = 1 ∨ k = 2 ∨ k = 3 ∨ k = 4 ∨ k = 5 := by omega
  all_goals exact ⟨rfl, rfl⟩, fun _ => rfl, fun _ => rfl⟩

theorem ct_addPo (l : Launch) (G : mg) (A : Nat → Prop) (ad : Nat → Nat) (b9 : Nat) (bx : Nat → Nat) (np ng nn : Nat) (M0 M1 : mh) (f : Nat → Int32) (x : Nat → Int32) (pq : Nat) (o : Nat) (e0 : ad 0 = o) (hB : StaB G ad b9 bx np ng nn M0 M1 f) (hn : np < 6) (hx0 : rg (x 0) 2) (hw20 : ad (20 + np) = ad 0) (hw26 : ad (26 + np) = ad 0) (hw2 : np = 0 → ad 2 = ad 0) (hpq0 : ∀ r, stU np ng nn r → adr ad b9 r ≠ pq) (hpq : M1 pq = some (.inr (4 + tN (x 0), [.int (nI np), .int (x 1), .int (x 2), .int (1 - x 3), .int (x 4), .int (x 5), .int (x 6), .int (x 7)]))) : Met l yX1_add (ws_ yX1_add cX1_add 4 (none)) ({ frames := 5, cells := 2, slots := 12, locals := 3090 }) (va_Pc [.ref o, .ref pq] (mU G A (fun M => M = M1))) (mQv G A (fun M => ∃ q e2, M1 q = none ∧ ((np = 0 ∧ M1 e2 = none) ∨ (np ≠ 0 ∧ e2 = ad 2)) ∧ StaB G (aPa ad np pq q e2) b9 bx (np + 1) ng nn M0 M (aPf f np x) ∧ ∀ a, M1 a ≠ none → a ≠ ad 10 → a ≠ ad 1 → a ≠ e2 → M a = M1 a)) 2 12 A := by
  subst e0
  exact ct_addP l G A ad b9 bx np ng nn M0 M1 f x pq hB hn hx0 hw20 hw26 hw2 hpq0 hpq

