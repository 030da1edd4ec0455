set_option maxRecDepth 100000
/-! RL: the law of orders read and done -/
section RL
variable {hn tl hn2 tl2 : Nat} {f g g0 g' : Nat → Int32} {fs fs2 : Nat → Nat → Int32} {tb tb2 : Nat → Int32} {v w u w2 : Nat → Nat → Int32} {s num m r : Int32} {np nz ng T k p pl n d : Nat}
theorem RelV.rw0 (h : RelV v s f hn fs tl tb) (hr : ∀ r, r ≠ 0 → w r = v r) (h2 : w 0 2 = v 0 2) (h6 : w 0 6 = v 0 6) : RelV w s f hn fs tl tb := by
  obtain ⟨a, b, c, d, e, i⟩ := h
  refine ⟨a, ?_, h2.trans c, fun i p hi hp => by rw [hr 2 (by decide)]; exact d i p hi hp, h6.trans e, fun j hj => by rw [hr 4 (by decide)]; exact i j hj⟩
  refine Vf_row fun k hk => ?_
  rw [hr 1 (by decide)]
  have e1 := congrFun (congrFun b 1) k
  rw [e1]
  unfold Vf
  rw [if_pos rfl, if_pos rfl]
  by_cases c1 : k < 170
  · rw [if_pos c1, if_pos c1]
  · rw [if_neg c1, if_neg c1, if_pos (by omega), if_pos (by omega)]
theorem here_at (h6 : u 0 6 = nI tl) (h7 : u 0 7 = nI p) (ht : tl ≤ 60) (hp : p ≤ 70) (h4 : ∀ i, i < tl → u 4 i = tb i) : mf_here u = if p < tl then tb p else -1 := by
  rw [mf_here, h6, h7]
  by_cases c : p < tl
  · rw [if_pos c, if_neg (by rw [nI_leq (by omega) (by omega)]; omega), mf_here_24, tN_nI (by omega), h4 p c]
  · rw [if_neg c, if_pos (by rw [nI_leq (by omega) (by omega)]; omega), mf_here_24]
theorem dig_m1 : ¬ mf_in ((-1 : Int32).toInt64) (48 : Int64) (57 : Int64) = true := by decide
/-- the number's loop -/
theorem rdo_75 {b : Nat} {bx : Int32} (hbx : (u2 (u2 v 0 8 (mf_here v)) 0 7 ((u2 v 0 8 (mf_here v)) 0 7 + (1 : Int32))) 0 7 = nI b) (ht : tl ≤ 60) (hb : b ≤ 60) : ∀ (j n : Nat) (u : Nat → Nat → Int32) (d : Nat) (m : Int32) (p : Nat), d + j = 3 → p = b + d → j < n → u 0 7 = nI p → ¬ u 0 8 = 114 → u 0 9 = m → u 0 6 = nI tl → (∀ i, i < tl → u 4 i = tb i) → ∃ rc u', mf_readsOrder_75 v n u = mf_readsOrder_143 v rc u' ∧ u' 0 7 = nI (rdN tb tl j d m p).2.2 ∧ u' 0 9 = (rdN tb tl j d m p).2.1 ∧ (rdN tb tl j d m p).2.2 = b + (rdN tb tl j d m p).1 ∧ (rdN tb tl j d m p).1 ≤ 3 ∧ (∀ r k, r ≠ 0 ∨ (k ≠ 7 ∧ k ≠ 9) → u' r k = u r k) := by
  intro j
  induction j with
  | zero =>
    intro n u d m p hd hp hn h7 h8 h9 h6 h4
    obtain ⟨n, rfl⟩ : ∃ n', n = n' + 1 := ⟨n - 1, by omega⟩
    refine ⟨mf_readsOrder_75 v n, u, ?_, h7, h9, hp, by show d ≤ 3; omega, fun _ _ _ => rfl⟩
    rw [mf_readsOrder_75, if_neg h8, hbx, h7, show (3 : Int32) = nI 3 from rfl, nI_add]
    by_cases c : mf_in (mf_here u).toInt64 (48 : Int64) (57 : Int64) = true
    · rw [if_pos c, if_pos (by rw [nI_leq (by omega) (by omega)]; omega)]
    · rw [if_neg c]
  | succ j ih =>
    intro n u d m p hd hp hn h7 h8 h9 h6 h4
    obtain ⟨n, rfl⟩ : ∃ n', n = n' + 1 := ⟨n - 1, by omega⟩
    have hh := here_at (tb := tb) h6 h7 ht (by omega) h4
    rw [rdN]
    by_cases c : p < tl ∧ cf_isBetween (tb p).toInt64 (48 : Int64) (57 : Int64) = true
    · have e1 : mf_here u = tb p := hh.trans (if_pos c.1)
      have c2 : mf_in (tb p).toInt64 (48 : Int64) (57 : Int64) = true := c.2
      rw [if_pos c]
      have e7 : u2 u 0 9 (((10 : Int32) * u 0 9 + mf_here u) - 48) 0 7 + 1 = nI (p + 1) := by rw [u2_k (by decide), h7, show (1 : Int32) = nI 1 from rfl, nI_add]
      obtain ⟨rc, u', q1, q2, q3, q4, q5, q6⟩ := ih n (u2 (u2 u 0 9 (((10 : Int32) * u 0 9 + mf_here u) - 48)) 0 7 (nI (p + 1))) (d + 1) (m * 10 + tb p - 48) (p + 1) (by omega) (by omega) (by omega) u2_s (by rw [u2_k (by decide), u2_k (by decide)]; exact h8) (by rw [u2_k (by decide), u2_s, e1, h9, Int32.mul_comm]) (by rw [u2_k (by decide), u2_k (by decide)]; exact h6) (fun i hi => by rw [u2_r (by decide), u2_r (by decide)]; exact h4 i hi)
      refine ⟨rc, u', ?_, q2, q3, q4, q5, fun r k hk => (q6 r k hk).trans ?_⟩
      · rw [mf_readsOrder_75, if_neg h8, e1, if_pos c2, hbx, h7, show (3 : Int32) = nI 3 from rfl, nI_add, if_neg (by rw [nI_leq (by omega) (by omega)]; omega)]
        rw [e1] at q1 e7
        rw [e7]
        exact q1
      · by_cases c0 : r = 0
        · subst c0
          rcases hk with z | ⟨z1, z2⟩
          · exact absurd rfl z
          · rw [u2_k z1, u2_k z2]
        · rw [u2_r c0, u2_r c0]
    · rw [if_neg c]
      refine ⟨mf_readsOrder_75 v n, u, ?_, h7, h9, hp, by show d ≤ 3; omega, fun _ _ _ => rfl⟩
      rw [mf_readsOrder_75, if_neg h8, if_neg]
      intro z
      rw [hh] at z
      by_cases c1 : p < tl
      · rw [if_pos c1] at z
        exact c ⟨c1, z⟩
      · rw [if_neg c1] at z
        exact dig_m1 z
/-- what a reading leaves: only places 7 8 9 of row 0 are others -/
def okW (v w : Nat → Nat → Int32) : Prop := ∀ r k, r ≠ 0 ∨ (k ≠ 7 ∧ k ≠ 8 ∧ k ≠ 9) → w r k = v r k
theorem rdo_143 {rc : (Nat → Nat → Int32) → (Bool × (Nat → Nat → Int32))} {b : Nat} (hbx : (u2 (u2 v 0 8 (mf_here v)) 0 7 ((u2 v 0 8 (mf_here v)) 0 7 + (1 : Int32))) 0 7 = nI b) (ht : tl ≤ 60) (hb : b ≤ 60) (hp : p ≤ 66) (h7 : u 0 7 = nI p) (h8 : ¬ u 0 8 = 114) (h6 : u 0 6 = nI tl) (h4 : ∀ i, i < tl → u 4 i = tb i) : mf_readsOrder_143 v rc u = (decide (b < p ∧ accB tb tl p 59 = true), u2 u 0 7 (nI (p + 1))) := by
  have hh := here_at (tb := tb) h6 h7 ht (by omega) h4
  have e7 : u 0 7 + 1 = nI (p + 1) := by rw [h7, show (1 : Int32) = nI 1 from rfl, nI_add]
  rw [mf_readsOrder_143, if_neg h8, hbx, h7]
  by_cases c : b < p
  · rw [if_neg (by rw [nI_leq (by omega) (by omega)]; omega), mf_readsOrder_160, hh]
    by_cases c1 : p < tl
    · rw [if_pos c1]
      by_cases c2 : tb p = 59
      · rw [if_pos c2, mf_readsOrder_174, e7, decide_eq_true (show b < p ∧ accB tb tl p 59 = true from ⟨c, decide_eq_true ⟨c1, c2⟩⟩)]
      · rw [if_neg c2, mf_readsOrder_173, mf_readsOrder_174, e7, decide_eq_false (show ¬ (b < p ∧ accB tb tl p 59 = true) from fun z => c2 (of_decide_eq_true z.2).2)]
    · rw [if_neg c1, if_neg (by decide), mf_readsOrder_173, mf_readsOrder_174, e7, decide_eq_false (show ¬ (b < p ∧ accB tb tl p 59 = true) from fun z => c1 (of_decide_eq_true z.2).1)]
  · rw [if_pos (by rw [nI_leq (by omega) (by omega)]; omega), mf_readsOrder_173, mf_readsOrder_174, e7, decide_eq_false (show ¬ (b < p ∧ accB tb tl p 59 = true) from fun z => c z.1)]
theorem rdo_143r {rc : (Nat → Nat → Int32) → (Bool × (Nat → Nat → Int32))} (ht : tl ≤ 60) (hp : p ≤ 66) (h7 : u 0 7 = nI p) (h8 : u 0 8 = 114) (h6 : u 0 6 = nI tl) (h4 : ∀ i, i < tl → u 4 i = tb i) : mf_readsOrder_143 v rc u = (accB tb tl p 59, u2 u 0 7 (nI (p + 1))) := by
  have hh := here_at (tb := tb) h6 h7 ht (by omega) h4
  have e7 : u 0 7 + 1 = nI (p + 1) := by rw [h7, show (1 : Int32) = nI 1 from rfl, nI_add]
  rw [mf_readsOrder_143, if_pos h8, mf_readsOrder_160, hh]
  by_cases c1 : p < tl
  · rw [if_pos c1]
    by_cases c2 : tb p = 59
    · rw [if_pos c2, mf_readsOrder_174, e7, show accB tb tl p 59 = true from decide_eq_true ⟨c1, c2⟩]
    · rw [if_neg c2, mf_readsOrder_173, mf_readsOrder_174, e7, show accB tb tl p 59 = false from decide_eq_false (fun z => c2 z.2)]
  · rw [if_neg c1, if_neg (by decide), mf_readsOrder_173, mf_readsOrder_174, e7, show accB tb tl p 59 = false from decide_eq_false (fun z => c1 z.1)]
theorem sgK_cases {x : Int32} : (sgK x = none ∧ x ≠ 111 ∧ x ≠ 99 ∧ x ≠ 115 ∧ x ≠ 112 ∧ x ≠ 114) ∨ (x = 111 ∧ sgK x = some 0) ∨ (x = 99 ∧ sgK x = some 1) ∨ (x = 115 ∧ sgK x = some 2) ∨ (x = 112 ∧ sgK x = some 3) ∨ (x = 114 ∧ sgK x = some 4) := by
  by_cases c0 : x = 111
  · exact Or.inr (Or.inl ⟨c0, by rw [c0]; rfl⟩)
  · by_cases c1 : x = 99
    · exact Or.inr (Or.inr (Or.inl ⟨c1, by rw [c1]; rfl⟩))
    · by_cases c2 : x = 115
      · exact Or.inr (Or.inr (Or.inr (Or.inl ⟨c2, by rw [c2]; rfl⟩)))
      · by_cases c3 : x = 112
        · exact Or.inr (Or.inr (Or.inr (Or.inr (Or.inl ⟨c3, by rw [c3]; rfl⟩))))
        · by_cases c4 : x = 114
          · exact Or.inr (Or.inr (Or.inr (Or.inr (Or.inr ⟨c4, by rw [c4]; rfl⟩))))
          · refine Or.inl ⟨?_, c0, c1, c2, c3, c4⟩
            unfold sgK
            rw [if_neg c0, if_neg c1, if_neg c2, if_neg c3, if_neg c4]
/-- an order read -/
theorem reads_ref (h6 : v 0 6 = nI tl) (h7 : v 0 7 = nI pl) (ht : tl ≤ 60) (hl : pl < tl) (h4 : ∀ i, i < tl → v 4 i = tb i) : ∃ b w, mf_readsOrder v = (b, w) ∧ okW v w ∧ (sgK (tb pl) = none → b = false) ∧ ∀ k, sgK (tb pl) = some k → (ordP tb tl k num pl = none → b = false) ∧ ∀ m p, ordP tb tl k num pl = some (m, p) → b = true ∧ w 0 7 = nI p ∧ w 0 8 = sgn k ∧ (k ≠ 4 → w 0 9 = m) := by
  have hh : mf_here v = tb pl := (here_at (tb := tb) h6 h7 ht (by omega) h4).trans (if_pos hl)
  have e8 : u2 (u2 v 0 8 (mf_here v)) 0 7 ((u2 v 0 8 (mf_here v)) 0 7 + (1 : Int32)) 0 8 = tb pl := by rw [u2_k (by decide), u2_s, hh]
  have e7 : u2 (u2 v 0 8 (mf_here v)) 0 7 ((u2 v 0 8 (mf_here v)) 0 7 + (1 : Int32)) 0 7 = nI (pl + 1) := by rw [u2_s, u2_k (by decide), h7, show (1 : Int32) = nI 1 from rfl, nI_add]
  have ok1 : okW v (u2 (u2 v 0 8 (mf_here v)) 0 7 ((u2 v 0 8 (mf_here v)) 0 7 + (1 : Int32))) := fun r k hk => by
    by_cases c : r = 0
    · subst c
      rcases hk with z | ⟨z1, z2, z3⟩
      · exact absurd rfl z
      · rw [u2_k z1, u2_k z2]
    · rw [u2_r c, u2_r c]
  -- the part behind a sign
  have go : ∀ k c, sgK (tb pl) = some k → sgn k = c → tb pl = c → (c = 114 ↔ k = 4) → mf_readsOrder v = mf_readsOrder_65 v → ∃ b w, mf_readsOrder v = (b, w) ∧ okW v w ∧ (sgK (tb pl) = none → b = false) ∧ ∀ k, sgK (tb pl) = some k → (ordP tb tl k num pl = none → b = false) ∧ ∀ m p, ordP tb tl k num pl = some (m, p) → b = true ∧ w 0 7 = nI p ∧ w 0 8 = sgn k ∧ (k ≠ 4 → w 0 9 = m) := by
    intro k c hs e1 e2 e3 hq
    generalize hU : u2 (u2 (u2 v 0 8 (mf_here v)) 0 7 ((u2 v 0 8 (mf_here v)) 0 7 + (1 : Int32))) 0 9 0 = U
    have U8 : U 0 8 = c := by rw [← hU, u2_k (by decide), e8, e2]
    have U7 : U 0 7 = nI (pl + 1) := by rw [← hU, u2_k (by decide), e7]
    have U9 : U 0 9 = 0 := by rw [← hU, u2_s]
    have okU : okW v U := fun r k hk => by
      rw [← hU]
      by_cases c0 : r = 0
      · subst c0
        rcases hk with z | z
        · exact absurd rfl z
        · rw [u2_k z.2.2, ok1 0 k (Or.inr z)]
      · rw [u2_r c0, ok1 r k (Or.inl c0)]
    have U6 : U 0 6 = nI tl := (okU 0 6 (Or.inr ⟨by decide, by decide, by decide⟩)).trans h6
    have U4 : ∀ i, i < tl → U 4 i = tb i := fun i hi => (okU 4 i (Or.inl (by decide))).trans (h4 i hi)
    rw [mf_readsOrder_65, hU] at hq
    by_cases k4 : k = 4
    · have c4 := e3.mpr k4
      rw [mf_readsOrder_75, if_pos (U8.trans c4), rdo_143r (p := pl + 1) ht (by omega) U7 (U8.trans c4) U6 U4] at hq
      refine ⟨_, _, hq, fun r k hk => ?_, fun z => by rw [hs] at z; cases z, fun k' hs' => ?_⟩
      · by_cases c0 : r = 0
        · subst c0
          rcases hk with z | z
          · exact absurd rfl z
          · rw [u2_k z.1, okU 0 k (Or.inr z)]
        · rw [u2_r c0, okU r k (Or.inl c0)]
      · rw [hs] at hs'
        obtain rfl := Option.some.inj hs'
        unfold ordP
        rw [if_pos k4]
        by_cases ca : accB tb tl (pl + 1) 59 = true
        · rw [if_pos ca]
          refine ⟨fun z => by cases z, fun m p z => ?_⟩
          obtain ⟨z1, z2⟩ := Prod.mk.inj (Option.some.inj z)
          exact ⟨ca, by rw [u2_s, ← z2], by rw [u2_k (by decide), U8, e1], fun z => absurd k4 z⟩
        · rw [if_neg ca]
          exact ⟨fun _ => Bool.eq_false_iff.mpr ca, fun m p z => by cases z⟩
    · have c4 : ¬ U 0 8 = 114 := fun z => k4 (e3.mp (U8.symm.trans z))
      obtain ⟨rc, u', q1, q2, q3, q4, q5, q6⟩ := rdo_75 (v := v) (tb := tb) (b := pl + 1) (bx := 0) e7 ht (by omega) 3 5 U 0 0 (pl + 1) rfl rfl (by decide) U7 c4 U9 U6 U4
      rw [q1] at hq
      generalize hE : rdN tb tl 3 0 0 (pl + 1) = E at q2 q3 q4 q5
      have u8 : u' 0 8 = c := (q6 0 8 (Or.inr ⟨by decide, by decide⟩)).trans U8
      rw [rdo_143 (b := pl + 1) (p := E.2.2) e7 ht (by omega) (by omega) q2 (by rw [u8, ← U8]; exact c4) ((q6 0 6 (Or.inr ⟨by decide, by decide⟩)).trans U6) (fun i hi => (q6 4 i (Or.inl (by decide))).trans (U4 i hi))] at hq
      refine ⟨_, _, hq, fun r k hk => ?_, fun z => by rw [hs] at z; cases z, fun k' hs' => ?_⟩
      · by_cases c0 : r = 0
        · subst c0
          rcases hk with z | z
          · exact absurd rfl z
          · rw [u2_k z.1, q6 0 k (Or.inr ⟨z.1, z.2.2⟩), okU 0 k (Or.inr z)]
        · rw [u2_r c0, q6 r k (Or.inl c0), okU r k (Or.inl c0)]
      · rw [hs] at hs'
        obtain rfl := Option.some.inj hs'
        unfold ordP
        rw [if_neg k4, hE]
        have eq1 : (pl + 1 < E.2.2 ∧ accB tb tl E.2.2 59 = true) ↔ (0 < E.1 ∧ accB tb tl E.2.2 59 = true) := ⟨fun z => ⟨by omega, z.2⟩, fun z => ⟨by omega, z.2⟩⟩
        by_cases ca : 0 < E.1 ∧ accB tb tl E.2.2 59 = true
        · rw [if_pos ca]
          refine ⟨fun z => by cases z, fun m p z => ?_⟩
          obtain ⟨z1, z2⟩ := Prod.mk.inj (Option.some.inj z)
          exact ⟨decide_eq_true (eq1.mpr ca), by rw [u2_s, ← z2], by rw [u2_k (by decide), u8, e1], fun _ => by rw [u2_k (by decide), q3, z1]⟩
        · rw [if_neg ca]
          exact ⟨fun _ => decide_eq_false (fun z => ca (eq1.mp z)), fun m p z => by cases z⟩
  rcases sgK_cases (x := tb pl) with ⟨z, c0, c1, c2, c3, c4⟩ | ⟨e, z⟩ | ⟨e, z⟩ | ⟨e, z⟩ | ⟨e, z⟩ | ⟨e, z⟩
  · refine ⟨false, _, ?_, ok1, fun _ => rfl, fun k hk => by rw [z] at hk; cases hk⟩
    rw [mf_readsOrder, e8, if_neg c0, if_neg c1, if_neg c2, if_neg c3, if_neg c4]
  · exact go 0 111 z rfl e (by decide) (by rw [mf_readsOrder, e8, if_pos e])
  · exact go 1 99 z rfl e (by decide) (by rw [mf_readsOrder, e8, if_neg (by rw [e]; decide), if_pos e])
  · exact go 2 115 z rfl e (by decide) (by rw [mf_readsOrder, e8, if_neg (by rw [e]; decide), if_neg (by rw [e]; decide), if_pos e])
  · exact go 3 112 z rfl e (by decide) (by rw [mf_readsOrder, e8, if_neg (by rw [e]; decide), if_neg (by rw [e]; decide), if_neg (by rw [e]; decide), if_pos e])
  · exact go 4 114 z rfl e (by decide) (by rw [mf_readsOrder, e8, if_neg (by rw [e]; decide), if_neg (by rw [e]; decide), if_neg (by rw [e]; decide), if_neg (by rw [e]; decide), if_pos e])
end RL

