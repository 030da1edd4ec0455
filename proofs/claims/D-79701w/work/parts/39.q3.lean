set_option maxRecDepth 100000
set_option maxRecDepth 100000
/-! Q3: the order of ready pumps, the queue's laying and polling -/
theorem nIs_toInt {a b : Nat} (ha : a < 2 ^ 30) (hb : b < 2 ^ 30) : (nI a - nI b).toInt = (a : Int) - b := by
  rw [Int32.toInt_sub, nI_toInt (by omega), nI_toInt (by omega), Int.bmod_def]
  omega
theorem nIs_lt {a b : Nat} (ha : a < 2 ^ 30) (hb : b < 2 ^ 30) : nI a - nI b < 0 ↔ a < b := by
  rw [Int32.lt_iff_toInt_lt, nIs_toInt ha hb, show (0 : Int32).toInt = 0 from rfl]
  omega
theorem nIs_gt {a b : Nat} (ha : a < 2 ^ 30) (hb : b < 2 ^ 30) : 0 < nI a - nI b ↔ b < a := by
  rw [Int32.lt_iff_toInt_lt, nIs_toInt ha hb, show (0 : Int32).toInt = 0 from rfl]
  omega
theorem nIs_0 {a b : Nat} (ha : a < 2 ^ 30) (hb : b < 2 ^ 30) : nI a - nI b = 0 ↔ a = b := by
  rw [← Int32.toInt_inj, nIs_toInt ha hb, show (0 : Int32).toInt = 0 from rfl]
  omega
def rkN (f : Nat → Int32) (k : Nat) : Nat := if bI (isJo f k) = f 171 then 0 else 1
def kN (f : Nat → Int32) (k : Nat) : Nat := rkN f k * 1000000000000 + nC f (39 + (8 * k) + 5) * 10 + k
theorem rank_N (f : Nat → Int32) (k : Nat) : cf_rank f k = nI (rkN f k) := by
  unfold cf_rank rkN
  split <;> rfl
theorem rkN_le (f : Nat → Int32) (k : Nat) : rkN f k ≤ 1 := by unfold rkN; split <;> decide
def runOk (np : Nat) (f : Nat → Int32) : Prop := ∀ k, k < np → rg (f (39 + (8 * k) + 5)) 10000000
theorem run_N {np : Nat} {f : Nat → Int32} (h : runOk np f) {k : Nat} (hk : k < np) : f (39 + (8 * k) + 5) = nI (nC f (39 + (8 * k) + 5)) ∧ nC f (39 + (8 * k) + 5) ≤ 10000000 := rg_nC (h k hk) (by decide)
theorem cmp_key {np : Nat} {f : Nat → Int32} (hn : np ≤ 6) (h : runOk np f) {a b : Nat} (ha : a < np) (hb : b < np) : (cf_cmpO f a b < 0 ↔ kN f a < kN f b) ∧ (0 < cf_cmpO f a b ↔ kN f b < kN f a) := by
  obtain ⟨ra, la⟩ := run_N h ha
  obtain ⟨rb, lb⟩ := run_N h hb
  have ka := rkN_le f a
  have kb := rkN_le f b
  have e : cf_cmpO f a b = if nI (rkN f a) - nI (rkN f b) = 0 then (if nI (nC f (39 + (8 * a) + 5)) - nI (nC f (39 + (8 * b) + 5)) = 0 then nI a - nI b else nI (nC f (39 + (8 * a) + 5)) - nI (nC f (39 + (8 * b) + 5))) else nI (rkN f a) - nI (rkN f b) := by
    rw [← ra, ← rb, ← rank_N, ← rank_N]
    rfl
  rw [e]
  unfold kN
  generalize rkN f a = x1 at *
  generalize rkN f b = x2 at *
  generalize nC f (39 + (8 * a) + 5) = y1 at *
  generalize nC f (39 + (8 * b) + 5) = y2 at *
  by_cases c1 : nI x1 - nI x2 = 0
  · rw [if_pos c1]
    rw [nIs_0 (by omega) (by omega)] at c1
    by_cases c2 : nI y1 - nI y2 = 0
    · rw [if_pos c2]
      rw [nIs_0 (by omega) (by omega)] at c2
      rw [nIs_lt (by omega) (by omega), nIs_gt (by omega) (by omega)]
      omega
    · rw [if_neg c2]
      rw [nIs_0 (by omega) (by omega)] at c2
      rw [nIs_lt (by omega) (by omega), nIs_gt (by omega) (by omega)]
      omega
  · rw [if_neg c1]
    rw [nIs_0 (by omega) (by omega)] at c1
    rw [nIs_lt (by omega) (by omega), nIs_gt (by omega) (by omega)]
    omega
def ltN (f : Nat → Int32) (a b : Nat) : Prop := kN f a < kN f b
theorem ord_ltN {np : Nat} {f : Nat → Int32} (hn : np ≤ 6) : ordN np (ltN f) := by
  refine ⟨fun a b _ _ h => ?_, fun a b g _ _ _ h1 h2 => ?_, fun a b ha hb h1 h2 => ?_⟩
  · unfold ltN at *; omega
  · unfold ltN at *; omega
  · unfold ltN at h1 h2
    unfold kN at h1 h2
    omega
theorem isJo_cong {f g : Nat → Int32} {a : Nat} (h : g (39 + (8 * a)) = f (39 + (8 * a))) : isJo g a = isJo f a := by
  unfold isJo
  rw [h]
theorem rank_cong {f g : Nat → Int32} {a : Nat} (h : g (39 + (8 * a)) = f (39 + (8 * a))) (h1 : g 171 = f 171) : cf_rank g a = cf_rank f a := by
  unfold cf_rank
  rw [isJo_cong h, h1]
  rfl
theorem cmpO_cong {f g : Nat → Int32} {a b : Nat} (ha : a < 6) (hb : b < 6) (h : ∀ q, q < 175 → g q = f q) : cf_cmpO g a b = cf_cmpO f a b := by
  show cf_cmpP g a b = cf_cmpP f a b
  unfold cf_cmpP
  rw [rank_cong (h (39 + (8 * a)) (by omega)) (h 171 (by decide)), rank_cong (h (39 + (8 * b)) (by omega)) (h 171 (by decide)), h (39 + (8 * a) + 5) (by omega), h (39 + (8 * b) + 5) (by omega)]
  rfl
theorem cmp_ok {np : Nat} {f : Nat → Int32} (hn : np ≤ 6) (h : runOk np f) : cmpOk np (ltN f) f := fun a b ha hb g hg => by
  rw [cmpO_cong (by omega) (by omega) hg]
  exact cmp_key hn h ha hb
/-- the queue holds the numbers of S, n of them -/
def qH (np n : Nat) (lt : Nat → Nat → Prop) (S : Nat → Prop) (f : Nat → Int32) : Prop := f 176 = nI n ∧ n ≤ 6 ∧ vq np f n ∧ hpS np n n (qE f) S ∧ hpO lt n n (qE f)
theorem qH.rq {np n k : Nat} {lt : Nat → Nat → Prop} {S : Nat → Prop} {f : Nat → Int32} (h : qH np n lt S f) (hk : n ≤ k) : rq np f k := by
  have hc : nC f 176 = n := nC_of h.1 (by have := h.2.1; omega)
  exact ⟨by omega, by rw [hc]; exact h.1, by rw [hc]; exact h.2.2.1⟩
theorem qH_S {np n : Nat} {lt : Nat → Nat → Prop} {S S' : Nat → Prop} {f : Nat → Int32} (h : qH np n lt S f) (e : ∀ j, S j ↔ S' j) : qH np n lt S' f := by
  have : S = S' := funext fun j => propext (e j)
  rw [← this]
  exact h
theorem qadd_H {np n x : Nat} {lt : Nat → Nat → Prop} {S : Nat → Prop} {f fb : Nat → Int32} (hO : ordN np lt) (hn : np ≤ 6) (hc : cmpOk np lt fb) (hf : ∀ q, q < 175 → f q = fb q) (h : qH np n lt S f) (h6 : n < 6) (hx : x < np) (hS : ¬ S x) :
    qH np (n + 1) lt (fun j => S j ∨ j = x) (cf_qadd f x).2 := by
  obtain ⟨a1, a2, a3, a4, a5⟩ := h
  obtain ⟨b1, b2, b3⟩ := qadd_vq a1 h6 hx hn a3
  have hcn : nC f 176 = n := nC_of a1 (by omega)
  have e : qE (cf_qadd f x).2 = qE (cf_siftUpC_0 (upd f 175 (f 175 + 1)) n x 7 n (upd f 175 (f 175 + 1))) := by
    show qE (upd (cf_siftUpC_0 (upd f 175 (f 175 + 1)) (nC f 176) x 7 (nC f 176) (upd f 175 (f 175 + 1))) 176 (nI (nC f 176 + 1))) = _
    rw [hcn, qE_o (by decide)]
  have hup := up_heap hO hn hc (f0 := upd f 175 (f 175 + 1)) (nq := n) (S := S) hx hS 7 n (upd f 175 (f 175 + 1)) (fun q hq => by rw [pk_un (by omega)]; exact hf q hq)
    (by
      rw [qE_o (by decide)]
      exact ⟨fun i hi hne => a4.1 i (by omega) (by omega), fun j hj => (by obtain ⟨i, hi, h1, h2⟩ := a4.2.1 j hj; exact ⟨i, by omega, h1, h2⟩), fun i i' hi hi' n1 n2 => a4.2.2 i i' (by omega) (by omega) n1 n2⟩)
    (by
      rw [qE_o (by decide)]
      exact fun i h0 hi n1 n2 => a5 i h0 (by omega) n1 n2)
    (fun i h0 hi e => by omega) (Nat.le_refl _) (by omega)
  refine ⟨b1, by omega, b2, ?_, ?_⟩
  · rw [e]; exact hup.1
  · rw [e]; exact hup.2
theorem dn_vq (np : Nat) (f0 : Nat → Int32) (k0 kx nq : Nat) (h7 : nq < 7) (hk : kx < np) (hn6 : np ≤ 6) : ∀ (n k : Nat) (f : Nat → Int32), (∀ i, i < nq → i ≠ k → ∃ j, j < np ∧ f (180 + i) = nI j) → k < nq → nq ≤ k + n →
    vq np (cf_siftDnC_5 f0 k0 kx nq n k f) nq ∧ ∀ q, (q < 180 ∨ 200 ≤ q) → cf_siftDnC_5 f0 k0 kx nq n k f q = f q := by
  intro n
  induction n with
  | zero => intro k f _ _ h; omega
  | succ n ih =>
    intro k f hq hkn hm
    rw [cf_siftDnC_5]
    have fin : vq np (cf_siftDnC_88 f0 k0 kx nq (cf_siftDnC_5 f0 k0 kx nq n) k f) nq ∧ ∀ q, (q < 180 ∨ 200 ≤ q) → cf_siftDnC_88 f0 k0 kx nq (cf_siftDnC_5 f0 k0 kx nq n) k f q = f q := by
      rw [cf_siftDnC_88]
      refine ⟨fun i hi => ?_, fun q hq => pk_un (by omega)⟩
      by_cases e : i = k
      · subst e
        exact ⟨kx, hk, pk_us⟩
      · rw [pk_un (by omega)]
        exact hq i hi e
    have go : ∀ g, g < nq → k < g → vq np (cf_siftDnC_61 f0 k0 kx nq (cf_siftDnC_5 f0 k0 kx nq n) k f g (tN (f (180 + g)))) nq ∧ ∀ q, (q < 180 ∨ 200 ≤ q) → cf_siftDnC_61 f0 k0 kx nq (cf_siftDnC_5 f0 k0 kx nq n) k f g (tN (f (180 + g))) q = f q := by
      intro g hg hkg
      rw [cf_siftDnC_61]
      have hl : tN (f (180 + g)) < np := q_lt (hq g hg (by omega)) hn6
      by_cases c1 : 0 < cf_cmpO f kx (tN (f (180 + g)))
      · rw [if_pos c1]
        have h2 := ih g (upd f (180 + k) (nI (tN (f (180 + g))))) (fun i hi hne => by
          by_cases e : i = k
          · subst e
            exact ⟨_, hl, pk_us⟩
          · rw [pk_un (by omega)]
            exact hq i hi e) hg (by omega)
        exact ⟨h2.1, fun q hq => by rw [h2.2 q hq, pk_un (by omega)]⟩
      · rw [if_neg c1]
        exact fin
    by_cases c0 : nq / 2 ≤ k
    · rw [if_pos c0]
      exact fin
    · rw [if_neg c0]
      by_cases c1 : nq ≤ k * 2 + 1 + 1
      · rw [if_pos c1]
        exact go (k * 2 + 1) (by omega) (by omega)
      · rw [if_neg c1]
        by_cases c2 : cf_cmpO f (tN (f (180 + (k * 2 + 1)))) (tN (f (180 + (k * 2 + 1 + 1)))) ≤ 0
        · rw [if_pos c2]
          exact go (k * 2 + 1) (by omega) (by omega)
        · rw [if_neg c2]
          exact go (k * 2 + 1 + 1) (by omega) (by omega)
/-- what poll answers and leaves -/
theorem poll_H {np n : Nat} {lt : Nat → Nat → Prop} {S : Nat → Prop} {f fb : Nat → Int32} (hO : ordN np lt) (hn : np ≤ 6) (hc : cmpOk np lt fb) (hf : ∀ q, q < 175 → f q = fb q) (h : qH np (n + 1) lt S f) :
    ∃ x, (cf_poll f).1 = some x ∧ x < np ∧ S x ∧ (∀ j, S j → ¬ lt j x) ∧ qH np n lt (fun j => S j ∧ j ≠ x) (cf_poll f).2 ∧ ∀ q, (q < 175 ∨ q = 177 ∨ 200 ≤ q) → (cf_poll f).2 q = f q := by
  obtain ⟨a1, a2, a3, a4, a5⟩ := h
  have hcn : nC f 176 = n + 1 := nC_of a1 (by omega)
  have hx := a4.1 0 (by omega) (by omega)
  have hmin : ∀ j, S j → ¬ lt j (qE f 0) := fun j hj => by
    obtain ⟨i, hi, _, rfl⟩ := a4.2.1 j hj
    exact hp_min hO a4 a5 i hi
  have e1 : (cf_poll f).1 = some (qE f 0) := by unfold cf_poll; split <;> rfl
  refine ⟨qE f 0, e1, hx.1, hx.2, hmin, ?_⟩
  generalize hg : upd (upd f 175 (f 175 + 1)) 176 (nI n) = g
  have hgE : qE g = qE f := by rw [← hg, qE_o (by decide), qE_o (by decide)]
  have e2 : (cf_poll f).2 = if n = 0 then upd g (180 + n) (-1) else cf_siftDnC_5 (upd g (180 + n) (-1)) 0 (qE f n) n 7 0 (upd g (180 + n) (-1)) := by
    unfold cf_poll
    rw [hcn, Nat.add_sub_cancel, hg]
    split
    · rfl
    · show cf_siftDnC_5 (upd g (180 + n) (-1)) 0 (qE g n) n 7 0 (upd g (180 + n) (-1)) = _
      rw [hgE]
  rw [e2]
  have hgq : ∀ q, (q < 175 ∨ q = 177 ∨ 200 ≤ q) → g q = f q := fun q hq => by rw [← hg, pk_un (by omega), pk_un (by omega)]
  have g6 : g 176 = nI n := by rw [← hg, pk_us]
  have hgv : vq np g (n + 1) := by rw [← hg]; exact q_oth (q_oth a3 (by decide)) (by decide)
  by_cases c : n = 0
  · subst c
    rw [if_pos rfl]
    refine ⟨⟨by rw [pk_un (by omega)]; exact g6, by omega, fun i hi => by omega, ⟨fun i hi => by omega, fun j hj => ?_, fun i i' hi => by omega⟩, fun i h0 hi => by omega⟩, fun q hq => by rw [pk_un (by omega)]; exact hgq q hq⟩
    obtain ⟨i, hi, _, ei⟩ := a4.2.1 j hj.1
    have : i = 0 := by omega
    subst this
    exact absurd ei.symm hj.2
  · rw [if_neg c]
    have hn1 := a4.1 n (by omega) (by omega)
    have hE : ∀ i, i < n → qE (upd g (180 + n) (-1)) i = qE f i := fun i hi => by
      show tN _ = _
      rw [pk_un (by omega)]
      show qE g i = _
      rw [hgE]
    have hv := dn_vq np (upd g (180 + n) (-1)) 0 (qE f n) n (by omega) hn1.1 hn 7 0 (upd g (180 + n) (-1)) (fun i hi _ => by rw [pk_un (by omega)]; exact hgv i (by omega)) (by omega) (by omega)
    have hd := dn_heap hO hn hc (f0 := upd g (180 + n) (-1)) (nq := n) (k0 := 0) (x := qE f n) (S := fun j => S j ∧ j ≠ qE f 0 ∧ j ≠ qE f n) hn1.1 (fun h => h.2.2 rfl) 7 0 (upd g (180 + n) (-1))
      (fun q hq => by rw [pk_un (by omega), hgq q (by omega)]; exact hf q hq)
      ⟨fun i hi hne => by
          rw [hE i hi]
          exact ⟨(a4.1 i (by omega) (by omega)).1, (a4.1 i (by omega) (by omega)).2, fun e => hne (a4.2.2 i 0 (by omega) (by omega) (by omega) (by omega) e), fun e => absurd (a4.2.2 i n (by omega) (by omega) (by omega) (by omega) e) (by omega)⟩,
        fun j hj => by
          obtain ⟨i, hi, _, ei⟩ := a4.2.1 j hj.1
          have n0 : i ≠ 0 := fun e => hj.2.1 (by rw [← ei, e])
          have nn : i ≠ n := fun e => hj.2.2 (by rw [← ei, e])
          exact ⟨i, by omega, n0, by rw [hE i (by omega)]; exact ei⟩,
        fun i i' hi hi' n1 n2 e => by
          rw [hE i hi, hE i' hi'] at e
          exact a4.2.2 i i' (by omega) (by omega) (by omega) (by omega) e⟩
      (fun i h0 hi n1 n2 => by
        rw [hE i hi, hE ((i - 1) / 2) (by omega)]
        exact a5 i h0 (by omega) (by omega) (by omega))
      (fun i h0 hi e h => by omega) (fun h => by omega) (by omega) (by omega)
    refine ⟨⟨by rw [hv.2 176 (by decide), pk_un (by omega)]; exact g6, by omega, hv.1, ?_, hd.2⟩, fun q hq => by rw [hv.2 q (by omega), pk_un (by omega)]; exact hgq q hq⟩
    have hSe : (fun j => (S j ∧ j ≠ qE f 0 ∧ j ≠ qE f n) ∨ j = qE f n) = fun j => S j ∧ j ≠ qE f 0 := funext fun j => propext ⟨fun h => by
      rcases h with h | h
      · exact ⟨h.1, h.2.1⟩
      · subst h
        exact ⟨hn1.2, fun e => absurd (a4.2.2 n 0 (by omega) (by omega) (by omega) (by omega) e) (by omega)⟩, fun h => by
      by_cases d : j = qE f n
      · exact Or.inr d
      · exact Or.inl ⟨h.1, h.2, d⟩⟩
    rw [← hSe]
    exact hd.1
theorem runs_cong {f g : Nat → Int32} {k : Nat} (h : g (39 + (8 * k) + 4) = f (39 + (8 * k) + 4)) : cf_runs g k = cf_runs f k := by
  unfold cf_runs
  rw [h]
  rfl
theorem isReady_cong {f g : Nat → Int32} {k : Nat} (hk : k < 6) (h : ∀ q, q < 127 → g q = f q) : cf_isReady g k = cf_isReady f k := by
  unfold cf_isReady
  rw [h (39 + (8 * k) + 3) (by omega), runs_cong (h (39 + (8 * k) + 4) (by omega))]
  rfl
theorem ready_loop {np : Nat} {lt : Nat → Nat → Prop} {f0 fb fc : Nat → Int32} {b : Bool} (hO : ordN np lt) (hn : np ≤ 6) (hc : cmpOk np lt fb) (hp : nC fb 14 = np) : ∀ (n k m : Nat) (g : Nat → Int32), (∀ q, (q < 175 ∨ q = 177 ∨ 200 ≤ q) → g q = fb q) → qH np m lt (fun j => j < k ∧ cf_isReady fb j = true) g → m ≤ k → k ≤ np → np < k + n →
    ∃ m', qH np m' lt (fun j => j < np ∧ cf_isReady fb j = true) (cf_ready_25 f0 b fc n k g) ∧ ∀ q, (q < 175 ∨ q = 177 ∨ 200 ≤ q) → cf_ready_25 f0 b fc n k g q = fb q := by
  intro n
  induction n with
  | zero => intro k m g _ _ _ h1 h2; omega
  | succ n ih =>
    intro k m g hg hq hm hk hkn
    rw [cf_ready_25]
    have e14 : nC g 14 = np := by unfold nC; rw [hg 14 (by omega)]; exact hp
    rw [e14]
    by_cases c : np ≤ k
    · rw [if_pos c]
      have : k = np := by omega
      rw [this] at hq
      exact ⟨m, hq, hg⟩
    · rw [if_neg c, isReady_cong (f := fb) (by omega) (fun q hq => hg q (by omega))]
      by_cases d : cf_isReady fb k = true
      · rw [if_pos d]
        have h1 := qadd_H hO hn hc (fun q hq => hg q (by omega)) hq (by omega) (show k < np by omega) (fun h => by omega)
        have h3 := (qadd_vq hq.1 (by omega) (show k < np by omega) hn hq.2.2.1).2.2
        show ∃ m', qH np m' lt _ (cf_ready_25 f0 b fc n (k + 1) (cf_qadd g k).2) ∧ _
        refine ih (k + 1) (m + 1) (cf_qadd g k).2 (fun q hq => (h3 q hq).trans (hg q hq)) (qH_S h1 fun j => ?_) (by omega) (by omega) (by omega)
        constructor
        · intro h
          rcases h with h | h
          · exact ⟨by omega, h.2⟩
          · subst h; exact ⟨by omega, d⟩
        · intro h
          by_cases e : j = k
          · exact Or.inr e
          · exact Or.inl ⟨by omega, h.2⟩
      · rw [if_neg d]
        show ∃ m', qH np m' lt _ (cf_ready_25 f0 b fc n (k + 1) g) ∧ _
        refine ih (k + 1) m g hg (qH_S hq fun j => ?_) (by omega) (by omega) (by omega)
        constructor
        · intro h; exact ⟨by omega, h.2⟩
        · intro h
          by_cases e : j = k
          · subst e; exact absurd h.2 d
          · exact ⟨by omega, h.2⟩
def fR (f : Nat → Int32) : Nat → Int32 := upd f 171 (bI (decide (cf_running f = 0)))
theorem ready_H {np : Nat} {f : Nat → Int32} (hn : np ≤ 6) (hp : nC f 14 = np) (hR : runOk np f) (hQ : rg (f 176) 6) :
    ∃ m, qH np m (ltN (fR f)) (fun j => j < np ∧ cf_isReady f j = true) (cf_ready f) ∧ ∀ q, (q < 175 ∨ q = 177 ∨ 200 ≤ q) → cf_ready f q = fR f q := by
  have e : cf_ready f = cf_ready_25 f (decide (cf_running f = 0)) (cf_qclear (fR f)) 7 0 (cf_qclear (fR f)) := by
    unfold cf_ready fR
    by_cases c : cf_running f = 0
    · rw [if_pos c, show decide (cf_running f = 0) = true from decide_eq_true c]
      rfl
    · rw [if_neg c, show decide (cf_running f = 0) = false from decide_eq_false c]
      rfl
  have hRb : runOk np (fR f) := fun k hk => by unfold fR; rw [pk_un (by omega)]; exact hR k hk
  have hpb : nC (fR f) 14 = np := by unfold nC fR; rw [pk_un (by decide)]; exact hp
  have h0 : rq np (cf_qclear (fR f)) 0 := rq_clear (by unfold fR; rw [pk_un (by decide)]; exact hQ)
  have hz : nC (cf_qclear (fR f)) 176 = 0 := by have := h0.1; omega
  obtain ⟨m, h1, h2⟩ := ready_loop (f0 := f) (b := decide (cf_running f = 0)) (fc := cf_qclear (fR f)) (ord_ltN hn) hn (cmp_ok hn hRb) hpb 7 0 0 (cf_qclear (fR f)) (fun q hq => qclear_o hq)
    ⟨by rw [← hz]; exact h0.2.1, by omega, fun i hi => by omega, ⟨fun i hi => by omega, fun j hj => by omega, fun i i' hi => by omega⟩, fun i _ hi => by omega⟩ (by omega) (by omega) (by omega)
  rw [e]
  refine ⟨m, qH_S h1 fun j => ⟨fun h => ⟨h.1, ?_⟩, fun h => ⟨h.1, ?_⟩⟩, h2⟩
  · have h9 := h.2
    rw [isReady_cong (f := f) (by omega) (fun q hq => by unfold fR; exact pk_un (by omega))] at h9
    exact h9
  · rw [isReady_cong (f := f) (by omega) (fun q hq => by unfold fR; exact pk_un (by omega))]
    exact h.2
theorem Vf_fR {w : Nat → Nat → Int32} {s : Int32} {f : Nat → Int32} : Vf w s (fR f) = Vf w s f := Vf_hid (by decide) (by decide) (by decide)
theorem Vf_q {w : Nat → Nat → Int32} {s : Int32} {f g : Nat → Int32} (h : ∀ q, (q < 171 ∨ q = 177 ∨ 200 ≤ q) → g q = f q) : Vf w s g = Vf w s f := by
  funext r k
  by_cases hr : r = 1
  · subst hr
    by_cases c : k < 170
    · rw [Vf_R c, Vf_R c]
      exact Rf_cong (fun q hq => h q (by omega)) (fun q hq => h q (by omega)) (fun q _ hq => h q (by omega)) c
    · by_cases c2 : k = 170
      · subst c2
        rw [Vf_170, Vf_170, h 177 (by omega)]
      · rw [Vf_hi (by omega), Vf_hi (by omega)]
  · rw [Vf_r hr, Vf_r hr]
theorem E_ready {w : Nat → Nat → Int32} {s : Int32} {np : Nat} {f : Nat → Int32} (hn : np ≤ 6) (hp : nC f 14 = np) (hR : runOk np f) (hQ : rg (f 176) 6) : Vf w s (cf_ready f) = Vf w s f := by
  obtain ⟨m, _, h2⟩ := ready_H hn hp hR hQ
  exact Vf_q fun q hq => (h2 q (by omega)).trans (by unfold fR; rw [pk_un (by omega)])
theorem hasReady_iff_4 {np : Nat} {f : Nat → Int32} (hp : nC f 14 = np) : ∀ (n k : Nat) (b : Bool), k ≤ np → np < k + n → (cf_hasReady_4 f n b k = true ↔ b = true ∨ ∃ j, k ≤ j ∧ j < np ∧ cf_isReady f j = true) := by
  intro n
  induction n with
  | zero => intro k b h1 h2; omega
  | succ n ih =>
    intro k b h1 h2
    rw [cf_hasReady_4, hp]
    by_cases c : np ≤ k
    · rw [if_pos c]
      exact ⟨Or.inl, fun h => h.elim id fun ⟨j, a, b, _⟩ => by omega⟩
    · rw [if_neg c, ih (k + 1) _ (by omega) (by omega), Bool.or_eq_true]
      constructor
      · rintro ((h | h) | ⟨j, a, b, d⟩)
        · exact Or.inl h
        · exact Or.inr ⟨k, by omega, by omega, h⟩
        · exact Or.inr ⟨j, by omega, b, d⟩
      · rintro (h | ⟨j, a, b, d⟩)
        · exact Or.inl (Or.inl h)
        · by_cases e : j = k
          · subst e; exact Or.inl (Or.inr d)
          · exact Or.inr ⟨j, by omega, b, d⟩
theorem hasReady_iff {np : Nat} {f : Nat → Int32} (hn : np ≤ 6) (hp : nC f 14 = np) : cf_hasReady f = true ↔ ∃ j, j < np ∧ cf_isReady f j = true := by
  unfold cf_hasReady
  rw [hasReady_iff_4 hp 7 0 false (by omega) (by omega)]
  constructor
  · rintro (h | ⟨j, _, b, d⟩)
    · exact absurd h (by decide)
    · exact ⟨j, b, d⟩
  · rintro ⟨j, b, d⟩
    exact Or.inr ⟨j, by omega, b, d⟩
/-- the queue's first, where one is ready -/
theorem ready_pk {np : Nat} {f : Nat → Int32} (hn : np ≤ 6) (hp : nC f 14 = np) (hR : runOk np f) (hQ : rg (f 176) 6) (hr : cf_hasReady f = true) : ∃ j, j < np ∧ cf_ready f (180 + 0) = nI j := by
  obtain ⟨m, h1, _⟩ := ready_H hn hp hR hQ
  obtain ⟨j, hj⟩ := (hasReady_iff hn hp).mp hr
  obtain ⟨i, hi, _⟩ := h1.2.2.2.1.2.1 j hj
  exact h1.2.2.1 0 (by omega)

