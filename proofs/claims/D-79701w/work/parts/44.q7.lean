set_option maxRecDepth 100000
set_option maxRecDepth 100000
/-! Q7: the queue polled i times -/
section Q7
variable {w : Nat → Nat → Int32} {s : Int32} {f : Nat → Int32} {T np nz ng : Nat}
def qD (np : Nat) (f : Nat → Int32) (D : Nat → Bool) (i n : Nat) (g : Nat → Int32) : Prop := (∀ q, (q < 175 ∨ q = 177 ∨ 200 ≤ q) → g q = fR f q) ∧ qH np n (ltN (fR f)) (fun j => (j < np ∧ cf_isReady f j = true) ∧ D j = false) g ∧ cntF (fun j => cf_isReady f j && D j) 0 np = i ∧
  ∀ a b, a < np → b < np → cf_isReady f a = true → D a = true → cf_isReady f b = true → D b = false → ltN (fR f) a b
theorem qD_0 (hn : np ≤ 6) (hp : nC f 14 = np) (hR : runOk np f) (hQ : rg (f 176) 6) : ∃ n, qD np f (fun _ => false) 0 n (cf_ready f) := by
  obtain ⟨m, h1, h2⟩ := ready_H hn hp hR hQ
  exact ⟨m, h2, qH_S h1 fun j => ⟨fun h => ⟨h, rfl⟩, fun h => h.1⟩, cntF_0 np 0 (fun j _ _ => Bool.and_false _), fun a b _ _ _ h => absurd h Bool.false_ne_true⟩
theorem aheadP_x (hn : np ≤ 6) (hp : nC f 14 = np) (hR : runOk np f) {x o : Nat} (hx : x < np) (ho : o < np) : aheadP (Vf w s f) x o = true ↔ (o ≠ x ∧ cf_isReady f o = true ∧ ltN (fR f) o x) := by
  unfold aheadP
  by_cases e : o = x
  · subst e; simp
  · have b1 : (o == x) = false := by rw [beq_eq_false_iff_ne]; exact e
    rw [b1, ← E_isReady (show o < 6 by omega), Bool.and_eq_true, Bool.and_eq_true, ahead_iff hn hp hR ho hx e]
    simp [e]
theorem rank_inj (hn : np ≤ 6) (hp : nC f 14 = np) (hR : runOk np f) {x y : Nat} (hx : x < np) (hy : y < np) (rx : cf_isReady f x = true) (h : ltN (fR f) x y) : cntF (aheadP (Vf w s f) x) 0 np < cntF (aheadP (Vf w s f) y) 0 np := by
  have irr : ∀ a, ¬ ltN (fR f) a a := fun a h => Nat.lt_irrefl _ h
  refine cntF_lt (q := x) np 0 (fun j _ h2 h3 => ?_) (Nat.zero_le _) (by omega) ?_ ?_
  · have h4 := (aheadP_x hn hp hR hx (show j < np by omega)).mp h3
    have h5 : ltN (fR f) j y := Nat.lt_trans h4.2.2 h
    exact (aheadP_x hn hp hR hy (show j < np by omega)).mpr ⟨fun e => irr y (by rw [e] at h5; exact h5), h4.2.1, h5⟩
  · rw [Bool.eq_false_iff]
    exact fun h9 => ((aheadP_x hn hp hR hx hx).mp h9).1 rfl
  · exact (aheadP_x hn hp hR hy hx).mpr ⟨fun e => irr y (by rw [e] at h; exact h), rx, h⟩
theorem poll_step (hn : np ≤ 6) (hp : nC f 14 = np) (hR : runOk np f) {D : Nat → Bool} {i n : Nat} {g : Nat → Int32} (h : qD np f D i (n + 1) g) :
    ∃ x, (cf_poll g).1 = some x ∧ x < np ∧ mf_ready (Vf w s f) (nI i) = nI x ∧ qD np f (fun j => D j || j == x) (i + 1) n (cf_poll g).2 ∧ x = qE g 0 := by
  obtain ⟨h1, h2, h3, h4⟩ := h
  have hRb : runOk np (fR f) := fun k hk => by unfold fR; rw [pk_un (by omega)]; exact hR k hk
  have e1 : (cf_poll g).1 = some (qE g 0) := by unfold cf_poll; split <;> rfl
  obtain ⟨x, a1, a2, a3, a4, a5, a6⟩ := poll_H (ord_ltN hn) hn (cmp_ok hn hRb) (fun q hq => h1 q (by omega)) h2
  have ex : x = qE g 0 := by rw [e1] at a1; exact (Option.some.inj a1).symm
  have cx : cntF (aheadP (Vf w s f) x) 0 np = i := by
    rw [← h3]
    refine cntF_cong np 0 (fun o _ ho => ?_)
    rw [Bool.eq_iff_iff, aheadP_x hn hp hR a2 (show o < np by omega), Bool.and_eq_true]
    constructor
    · rintro ⟨b1, b2, b3⟩
      refine ⟨b2, ?_⟩
      cases hD : D o with
      | true => rfl
      | false => exact absurd b3 (a4 o ⟨⟨by omega, b2⟩, hD⟩)
    · rintro ⟨b1, b2⟩
      exact ⟨fun e => by rw [e, a3.2] at b2; exact Bool.false_ne_true b2, b1, h4 o x (by omega) a2 b1 b2 a3.1.2 a3.2⟩
  refine ⟨x, a1, a2, ?_, ⟨fun q hq => (a6 q hq).trans (h1 q hq), qH_S a5 fun j => ?_, ?_, fun a b ha hb ra da rb db => ?_⟩, ex⟩
  · refine ready_2_some (Vf w s f) i x ((Vf_n (by decide)).trans hp) hn a2 (by rw [← E_isReady (show x < 6 by omega)]; exact a3.1.2) cx (fun p hpp rp cp => ?_) 7 0 (Nat.zero_le _) (by omega)
    rw [← E_isReady (show p < 6 by omega)] at rp
    by_cases e : p = x
    · exact e
    · exfalso
      by_cases l1 : ltN (fR f) p x
      · have := rank_inj (w := w) (s := s) hn hp hR hpp a2 rp l1
        omega
      · by_cases l2 : ltN (fR f) x p
        · have := rank_inj (w := w) (s := s) hn hp hR a2 hpp a3.1.2 l2
          omega
        · exact e ((ord_ltN hn).2.2 p x hpp a2 l1 l2)
  · constructor
    · rintro ⟨⟨b1, b2⟩, b3⟩
      exact ⟨b1, by show (D j || j == x) = false; rw [b2, Bool.false_or, beq_eq_false_iff_ne]; exact b3⟩
    · rintro ⟨b1, b2⟩
      replace b2 : (D j || j == x) = false := b2
      rw [Bool.or_eq_false_iff, beq_eq_false_iff_ne] at b2
      exact ⟨⟨b1, b2.1⟩, b2.2⟩
  · have e : (fun j => cf_isReady f j && (D j || j == x)) = fun j => (cf_isReady f j && D j) || j == x := by
      funext j
      by_cases c : j = x
      · subst c
        simp [a3.1.2]
      · have : (j == x) = false := by rw [beq_eq_false_iff_ne]; exact c
        simp [this]
    rw [e, cntF_add (by rw [a3.2, Bool.and_false]) np 0 (Nat.zero_le _) (by omega), h3]
  · replace db : (D b || b == x) = false := db
    replace da : (D a || a == x) = true := da
    rw [Bool.or_eq_false_iff, beq_eq_false_iff_ne] at db
    rw [Bool.or_eq_true] at da
    rcases da with da | da
    · exact h4 a b ha hb ra da rb db.1
    · have ea : a = x := by simpa using da
      rw [ea]
      by_cases l1 : ltN (fR f) x b
      · exact l1
      · exact absurd ((ord_ltN hn).2.2 x b a2 hb l1 (a4 b ⟨⟨hb, rb⟩, db.1⟩)) (Ne.symm db.2)
theorem qD_cnt (hn : np ≤ 6) (hp : nC f 14 = np) (hR : runOk np f) : ∀ (n i : Nat) (D : Nat → Bool) (g : Nat → Int32), qD np f D i n g → cntF (cf_isReady f) 0 np = i + n := by
  intro n
  induction n with
  | zero =>
    intro i D g h
    rw [← h.2.2.1, Nat.add_zero]
    refine cntF_cong np 0 (fun j _ hj => ?_)
    cases hr : cf_isReady f j with
    | false => rfl
    | true =>
      cases hd : D j with
      | true => rfl
      | false =>
        obtain ⟨a, b, _⟩ := h.2.1.2.2.2.1.2.1 j ⟨⟨by omega, hr⟩, hd⟩
        omega
  | succ n ih =>
    intro i D g h
    obtain ⟨x, _, _, _, h5, _⟩ := poll_step (w := fun _ _ => 0) (s := 0) hn hp hR h
    have := ih (i + 1) _ _ h5
    omega
theorem ready_no (hn : np ≤ 6) (hp : nC f 14 = np) (hR : runOk np f) {idx : Int32} (h : ∀ j, j < cntF (cf_isReady f) 0 np → nI j ≠ idx) : mf_ready (Vf w s f) idx = -1 := by
  refine ready_2_none (Vf w s f) idx ((Vf_n (by decide)).trans hp) hn (fun p hpp rp cp => ?_) 7 0 (by omega)
  rw [← E_isReady (show p < 6 by omega)] at rp
  refine h _ ?_ cp
  refine cntF_lt (q := p) np 0 (fun j _ h2 h3 => ((aheadP_x hn hp hR hpp (show j < np by omega)).mp h3).2.1) (Nat.zero_le _) (by omega) ?_ rp
  rw [Bool.eq_false_iff]
  exact fun h9 => ((aheadP_x hn hp hR hpp hpp).mp h9).1 rfl
/-- the first of the queue -/
theorem ready_fst (hn : np ≤ 6) (hp : nC f 14 = np) (hR : runOk np f) (hQ : rg (f 176) 6) : (cf_hasReady f = true → mf_ready (Vf w s f) 0 = nI (tN (cf_ready f (180 + 0)))) ∧ (¬ cf_hasReady f = true → mf_ready (Vf w s f) 0 = -1) := by
  constructor
  · intro h
    obtain ⟨n, hd⟩ := qD_0 hn hp hR hQ
    obtain ⟨j, hj⟩ := (hasReady_iff hn hp).mp h
    obtain ⟨i, hi, _⟩ := hd.2.1.2.2.2.1.2.1 j ⟨hj, rfl⟩
    cases n with
    | zero => omega
    | succ n =>
      obtain ⟨x, _, _, h3, _, h5⟩ := poll_step (w := w) (s := s) hn hp hR hd
      rw [show (0 : Int32) = nI 0 from nI_0.symm, h3, h5]
      rfl
  · intro h
    refine ready_no hn hp hR (fun j hj => ?_)
    rw [cntF_0 np 0 (fun j _ hj => by
      rw [Bool.eq_false_iff]
      exact fun h9 => h ((hasReady_iff hn hp).mpr ⟨j, by omega, h9⟩))] at hj
    omega
end Q7

