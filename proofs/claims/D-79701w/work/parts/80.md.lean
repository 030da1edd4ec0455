set_option maxRecDepth 100000
/-! MD: the middle of the nights: counting -/
def nct (p : Nat → Bool) : Nat → Nat
  | 0 => 0
  | n + 1 => nct p n + (if p n = true then 1 else 0)
def cntN (nv : Nat → Int32) (n : Nat) (v : Int32) : Nat := nct (fun j => decide (nv j = v)) n
theorem nct_le (p : Nat → Bool) : ∀ n, nct p n ≤ n
  | 0 => Nat.le_refl _
  | n + 1 => by
    have := nct_le p n
    unfold nct
    by_cases c : p n = true
    · rw [if_pos c]; omega
    · rw [if_neg c]; omega
theorem nct_cong {p q : Nat → Bool} : ∀ {n}, (∀ j, j < n → p j = q j) → nct p n = nct q n
  | 0, _ => rfl
  | n + 1, h => by
    unfold nct
    rw [nct_cong (fun j hj => h j (by omega)), h n (by omega)]
theorem nct_add {p q r : Nat → Bool} : ∀ {n}, (∀ j, j < n → (r j = true ↔ p j = true ∨ q j = true) ∧ ¬ (p j = true ∧ q j = true)) → nct r n = nct p n + nct q n
  | 0, _ => rfl
  | n + 1, h => by
    unfold nct
    rw [nct_add (fun j hj => h j (by omega))]
    obtain ⟨h1, h2⟩ := h n (by omega)
    by_cases c : p n = true
    · have d : ¬ q n = true := fun z => h2 ⟨c, z⟩
      rw [if_pos (h1.mpr (Or.inl c)), if_pos c, if_neg d]
      omega
    · by_cases d : q n = true
      · rw [if_pos (h1.mpr (Or.inr d)), if_neg c, if_pos d]
        omega
      · rw [if_neg (fun z => by rcases h1.mp z with z | z; exact c z; exact d z), if_neg c, if_neg d]
        omega
theorem nct_pos {p : Nat → Bool} {j : Nat} : ∀ {n}, j < n → p j = true → 0 < nct p n
  | 0, h, _ => absurd h (by omega)
  | n + 1, h, hp => by
    unfold nct
    by_cases e : j = n
    · subst e
      rw [if_pos hp]
      omega
    · have := nct_pos (n := n) (by omega) hp
      omega
theorem nct_ex {p : Nat → Bool} : ∀ {n}, nct p n < n → ∃ j, j < n ∧ ¬ p j = true
  | 0, h => absurd h (by omega)
  | n + 1, h => by
    by_cases c : p n = true
    · unfold nct at h
      rw [if_pos c] at h
      obtain ⟨j, h1, h2⟩ := nct_ex (n := n) (p := p) (by omega)
      exact ⟨j, by omega, h2⟩
    · exact ⟨n, by omega, c⟩
theorem cntN_0 (nv : Nat → Int32) : cntN nv 0 = fun _ => 0 := rfl
theorem cntN_s (nv : Nat → Int32) (n : Nat) : cset (cntN nv n) (nv n) (cntN nv n (nv n) + 1) = cntN nv (n + 1) := by
  funext v
  unfold cset
  by_cases e : v = nv n
  · subst e
    rw [if_pos rfl]
    show cntN nv n (nv n) + 1 = cntN nv n (nv n) + (if decide (nv n = nv n) = true then 1 else 0)
    rw [if_pos (decide_eq_true rfl)]
  · rw [if_neg e]
    show cntN nv n v = cntN nv n v + (if decide (nv n = v) = true then 1 else 0)
    rw [if_neg (fun z => e (of_decide_eq_true z).symm), Nat.add_zero]
theorem cntN_pos {nv : Nat → Int32} {n k : Nat} (h : k < n) : cntN nv n (nv k) ≠ 0 := by
  have : 0 < cntN nv n (nv k) := nct_pos h (decide_eq_true rfl)
  omega
def MidOk (nv : Nat → Int32) (nn : Nat) (r : Int32) : Prop := nct (fun k => decide (nv k < r)) nn ≤ (nn - 1) / 2 ∧ (nn - 1) / 2 < nct (fun k => decide (nv k < r)) nn + cntN nv nn r
def zc (cc : Int32 → Nat) (nv : Nat → Int32) (nn : Nat) : Nat := nct (fun k => decide (cc (nv k) = 0)) nn
def PollI (nv : Nat → Int32) (nn : Nat) (cc : Int32 → Nat) (left : Nat) : Prop := (∀ v, cc v = 0 ∨ cc v = cntN nv nn v) ∧ (∀ k v, k < nn → cc (nv k) = 0 → cc v ≠ 0 → nv k < v) ∧ left + zc cc nv nn = (nn - 1) / 2
section MD
variable {nv : Nat → Int32} {nn left : Nat} {cc : Int32 → Nat} {K : Int32}
theorem PollI.init : PollI nv nn (cntN nv nn) ((nn - 1) / 2) := by
  refine ⟨fun v => Or.inr rfl, fun k v hk e => absurd e (cntN_pos hk), ?_⟩
  have : zc (cntN nv nn) nv nn = nct (fun _ => false) nn := nct_cong fun j hj => decide_eq_false (cntN_pos hj)
  rw [this]
  have z : ∀ n, nct (fun _ => false) n = 0 := fun n => by
    induction n with
    | zero => rfl
    | succ n ih =>
      show nct (fun _ => false) n + (if false = true then 1 else 0) = 0
      rw [ih]; rfl
  rw [z]
  omega
theorem PollI.ex (h : PollI nv nn cc left) (hn : 1 ≤ nn) : ∃ v, cc v ≠ 0 := by
  obtain ⟨j, h1, h2⟩ := nct_ex (p := fun k => decide (cc (nv k) = 0)) (n := nn) (by have := h.2.2; unfold zc at this; omega)
  exact ⟨nv j, fun e => h2 (decide_eq_true e)⟩
theorem PollI.le (h : PollI nv nn cc left) (v : Int32) : cc v ≤ nn := by
  rcases h.1 v with e | e
  · omega
  · rw [e]; exact nct_le _ _
theorem PollI.step (h : PollI nv nn cc left) (hK : cc K ≠ 0) (hm : ∀ v, cc v ≠ 0 → K ≤ v) (hl : cc K ≤ left) : PollI nv nn (cset cc K 0) (left - cc K) ∧ zc (cset cc K 0) nv nn = zc cc nv nn + cc K := by
  obtain ⟨h1, h2, h3⟩ := h
  have e0 : cset cc K 0 K = 0 := if_pos rfl
  have en : ∀ v, v ≠ K → cset cc K 0 v = cc v := fun v hv => if_neg hv
  have key : zc (cset cc K 0) nv nn = zc cc nv nn + cc K := by
    rw [(h1 K).resolve_left hK]
    refine nct_add fun j _ => ⟨?_, ?_⟩
    · by_cases e : nv j = K
      · rw [e, e0]
        exact ⟨fun _ => Or.inr (decide_eq_true rfl), fun _ => decide_eq_true rfl⟩
      · rw [en _ e]
        exact ⟨fun z => Or.inl z, fun z => z.resolve_right (fun y => e (of_decide_eq_true y))⟩
    · rintro ⟨a, b⟩
      rw [of_decide_eq_true b] at a
      exact hK (of_decide_eq_true a)
  refine ⟨⟨fun v => ?_, fun k v hk a b => ?_, by rw [key]; omega⟩, key⟩
  · by_cases e : v = K
    · rw [e, e0]; exact Or.inl rfl
    · rw [en v e]; exact h1 v
  · have vK : v ≠ K := fun e => b (by rw [e]; exact e0)
    rw [en v vK] at b
    by_cases e : nv k = K
    · rw [e]
      exact Int32.lt_of_le_of_ne (hm v b) (Ne.symm vK)
    · rw [en _ e] at a
      exact h2 k v hk a b
theorem PollI.fin (h : PollI nv nn cc left) (hK : cc K ≠ 0) (hm : ∀ v, cc v ≠ 0 → K ≤ v) (hl : left < cc K) : MidOk nv nn K := by
  obtain ⟨h1, h2, h3⟩ := h
  have e : nct (fun k => decide (nv k < K)) nn = zc cc nv nn := nct_cong fun j hj => by
    by_cases c : cc (nv j) = 0
    · rw [decide_eq_true c, decide_eq_true (h2 j K hj c hK)]
    · rw [decide_eq_false c, decide_eq_false (Int32.not_lt.mpr (hm _ c))]
  unfold MidOk
  rw [e, ← (h1 K).resolve_left hK]
  omega
end MD
section MDX
variable {p : Program} {l : Launch} {e : Env} {R : Room} {s : State} {m : MethodId} {args : Array Value} {below : List Frame} {meth : Method} {c : Code} {H : Heap} {locs : List Loc} {cells slots : Nat} {Q : State → Prop}
variable {G : mg} {A : Nat → Prop} {M M00 M1 : mh} {cc : ByteArray} {nL pc a ta : Nat} {ls : Array Slot} {rest : List Value} {own : String} {cnt : Int32 → Nat} {b : Bool}
theorem md_gen {M2 : mh} {g : JFrame} (w : mW G A s M2 H locs) (h : MapP G M00 M2 ta cnt b) (kk : ∀ M : mh, mW G A s M H locs → MapP G M00 M ta cnt b → W p l e R s m args below meth c H locs cells slots Q g) : W p l e R s m args below meth c H locs cells slots Q g := kk M2 w h
theorem mx_boxcastQ (X : CallFix p m c cc nL s args lw_all own) (w : mW G A s M H locs) {index : Nat} {r : Option Nat} (hlink : Cond.classLink own index "java/lang/Integer" ∈ lw_all) (hy : r = none ∨ ∃ a, r = some a ∧ ∃ v, boxAt G M a v) (hdg : decode cc pc = .ok (.checkcast index, 3))
    (kk : W p l e R s m args below meth c H locs cells slots Q (F0 m (pc + 3) ls (va_rf r :: rest))) : W p l e R s m args below meth c H locs cells slots Q (F0 m pc ls (va_rf r :: rest)) := by
  rcases hy with rfl | ⟨a, rfl, v, hv⟩
  · exact lv_castN X.1 X.2.1 hdg kk
  · exact mx_boxcast X w hlink hv hdg kk
theorem MapP.old (h : MapP G M00 M ta cnt b) : ∀ q, M00 q ≠ none → M q = M00 q := by
  obtain ⟨ad, np, mm, f, lo, hi, ps, S, ky, e0, hM, hX, hf, hk, hv, hs, hc, h1, h2, h3⟩ := h
  exact h1
theorem MapP.cell (h : MapP G M00 M ta cnt b) : ∃ fs, M ta = some (.inr (15, fs)) := by
  obtain ⟨ad, np, mm, f, lo, hi, ps, S, ky, rfl, hM, hX, hf, hk, hv, hs, hc, h1, h2, h3⟩ := h
  obtain ⟨sz, md, h0⟩ := hM.2.1
  exact ⟨_, h0⟩
theorem MapP.weak (h : MapP G M00 M ta cnt b) : MapP G M00 M ta cnt false := by
  obtain ⟨ad, np, mm, f, lo, hi, ps, S, ky, rfl, hM, hX, hf, r⟩ := h
  exact ⟨ad, np, mm, f, lo, hi, ps, S, ky, rfl, hM, hX, fun e => (by cases e), r⟩
theorem MapP.at (h : MapP G M00 M ta cnt b) {q : Nat} {e : va_E} (hq : M00 q = some e) : M q = some e := (h.old q (by rw [hq]; exact fun e => by cases e)).trans hq
theorem va_up_up {f : mh} {k : Nat} {x y : Option va_E} : va_up (va_up f k x) k y = va_up f k y := by
  funext j
  unfold va_up
  by_cases e : j = k
  · rw [if_pos e, if_pos e]
  · rw [if_neg e, if_neg e, if_neg e]
theorem up4 {M : mh} {it : Nat} (h : M it = none) (w x y z : Option va_E) : ∀ q, M q ≠ none → va_up (va_up (va_up (va_up M it w) it x) it y) it z q = M q := fun q hq => by
  have ne : q ≠ it := fun e => by rw [e] at hq; exact hq h
  rw [va_up_k ne, va_up_k ne, va_up_k ne, va_up_k ne]
end MDX

