set_option maxRecDepth 100000
/-! BS: a world of cells in a list: for methods that make many cells -/
def Bs (z : Nat) (L : List (Nat × va_E)) (M0 M : mh) : Prop :=
  (∀ (i : Nat) (x : Nat × va_E), L[i]? = some x → M x.1 = some x.2) ∧ (∀ (i j : Nat) (x y : Nat × va_E), L[i]? = some x → L[j]? = some y → x.1 = y.1 → i = j) ∧ (∀ q, M0 q ≠ none → (∀ (i : Nat) (x : Nat × va_E), L[i]? = some x → x.1 ≠ q) → M q = M0 q) ∧ (∀ (i : Nat) (x : Nat × va_E), L[i]? = some x → z ≤ i → M0 x.1 = none)
section BS
variable {z : Nat} {L : List (Nat × va_E)} {M0 M : mh} {q : Nat} {e e' : va_E}
theorem Bs.at (h : Bs z L M0 M) (i : Nat) (hi : L[i]? = some (q, e)) : M q = some e := h.1 i _ hi
theorem Bs.set (h : Bs z L M0 M) (i : Nat) (hi : L[i]? = some (q, e)) (e' : va_E) : Bs z (L.set i (q, e')) M0 (va_up M q (some e')) := by
  obtain ⟨h1, h2, h3, h4⟩ := h
  have hlt : i < L.length := (List.getElem?_eq_some_iff.mp hi).1
  have key : ∀ (j : Nat) (x : Nat × va_E), (L.set i (q, e'))[j]? = some x → (j = i ∧ x = (q, e')) ∨ (j ≠ i ∧ L[j]? = some x) := fun j x hj => by
    by_cases c : i = j
    · subst c
      rw [List.getElem?_set_self hlt] at hj
      exact Or.inl ⟨rfl, (Option.some.inj hj).symm⟩
    · rw [List.getElem?_set_ne c] at hj
      exact Or.inr ⟨fun z => c z.symm, hj⟩
  have adr : ∀ (j : Nat) (x : Nat × va_E), (L.set i (q, e'))[j]? = some x → ∃ y, L[j]? = some y ∧ y.1 = x.1 := fun j x hj => by
    rcases key j x hj with ⟨rfl, rfl⟩ | ⟨-, h⟩
    · exact ⟨_, hi, rfl⟩
    · exact ⟨_, h, rfl⟩
  refine ⟨fun j x hj => ?_, fun j k x y hj hk hxy => ?_, fun p hp hn => ?_, fun j x hj hz => ?_⟩
  · rcases key j x hj with ⟨rfl, rfl⟩ | ⟨hne, h⟩
    · exact va_up_s
    · rw [va_up_k (fun z => hne (h2 j i _ _ h hi z))]
      exact h1 j x h
  · obtain ⟨x', hx', ex⟩ := adr j x hj
    obtain ⟨y', hy', ey⟩ := adr k y hk
    exact h2 j k _ _ hx' hy' (by rw [ex, ey]; exact hxy)
  · have hpq : p ≠ q := fun z => hn i _ (List.getElem?_set_self hlt) z.symm
    rw [va_up_k hpq]
    refine h3 p hp fun j x hj z => ?_
    by_cases c : i = j
    · subst c
      rw [hi] at hj
      cases hj
      exact hpq z.symm
    · exact hn j x (by rw [List.getElem?_set_ne c]; exact hj) z
  · obtain ⟨y, hy, ey⟩ := adr j x hj
    rw [← ey]
    exact h4 j y hy hz
theorem Bs.old (h : Bs z L M0 M) (hq : M q = none) : M0 q = none := by
  by_cases c : M0 q = none
  · exact c
  · by_cases d : ∃ (i : Nat) (x : Nat × va_E), L[i]? = some x ∧ x.1 = q
    · obtain ⟨i, x, hx, rfl⟩ := d
      rw [h.1 i x hx] at hq
      cases hq
    · rw [h.2.2.1 q c (fun i x hx z => d ⟨i, x, hx, z⟩)] at hq
      exact absurd hq c
theorem Bs.push (h : Bs z L M0 M) (hq : M q = none) (e : va_E) : Bs z (L ++ [(q, e)]) M0 (va_up M q (some e)) := by
  have h0 := h.old hq
  obtain ⟨h1, h2, h3, h4⟩ := h
  have key : ∀ (j : Nat) (x : Nat × va_E), (L ++ [(q, e)])[j]? = some x → (j = L.length ∧ x = (q, e)) ∨ (j < L.length ∧ L[j]? = some x) := fun j x hj => by
    by_cases c : j < L.length
    · rw [List.getElem?_append_left c] at hj
      exact Or.inr ⟨c, hj⟩
    · rw [List.getElem?_append_right (by omega)] at hj
      have hz : j - L.length < 1 := (List.getElem?_eq_some_iff.mp hj).1
      have : j = L.length := by omega
      subst this
      simp at hj
      exact Or.inl ⟨rfl, hj.symm⟩
  have ne : ∀ (j : Nat) (x : Nat × va_E), L[j]? = some x → x.1 ≠ q := fun j x hj z => by
    rw [← z, h1 j x hj] at hq
    cases hq
  refine ⟨fun j x hj => ?_, fun j k x y hj hk hxy => ?_, fun p hp hn => ?_, fun j x hj hz => ?_⟩
  · rcases key j x hj with ⟨rfl, rfl⟩ | ⟨-, h⟩
    · exact va_up_s
    · rw [va_up_k (ne j x h)]
      exact h1 j x h
  · rcases key j x hj with ⟨rfl, rfl⟩ | ⟨-, hj'⟩
    · rcases key k y hk with ⟨rfl, rfl⟩ | ⟨-, hk'⟩
      · rfl
      · exact absurd hxy.symm (ne k y hk')
    · rcases key k y hk with ⟨rfl, rfl⟩ | ⟨-, hk'⟩
      · exact absurd hxy (ne j x hj')
      · exact h2 j k _ _ hj' hk' hxy
  · have hpq : p ≠ q := fun z => hp (z ▸ h0)
    rw [va_up_k hpq]
    exact h3 p hp fun j x hj => hn j x (by rw [List.getElem?_append_left (List.getElem?_eq_some_iff.mp hj).1]; exact hj)
  · rcases key j x hj with ⟨rfl, rfl⟩ | ⟨-, h⟩
    · exact h0
    · exact h4 j x h hz
theorem Bs.one (h : M q = some e) : Bs 1 [(q, e)] M M := by
  refine ⟨fun i x hi => ?_, fun i j x y hi hj _ => ?_, fun _ _ _ => rfl, fun i x hi hz => ?_⟩
  · have hz : i < 1 := (List.getElem?_eq_some_iff.mp hi).1
    rw [show i = 0 by omega] at hi
    cases hi
    exact h
  · have hz : i < 1 := (List.getElem?_eq_some_iff.mp hi).1
    have hw : j < 1 := (List.getElem?_eq_some_iff.mp hj).1
    omega
  · have hw : i < 1 := (List.getElem?_eq_some_iff.mp hi).1
    omega
theorem Bs.two {q' : Nat} (h : M q = some e) (h' : M q' = some e') (hn : q ≠ q') : Bs 2 [(q, e), (q', e')] M M := by
  refine ⟨fun i x hi => ?_, fun i j x y hi hj z => ?_, fun _ _ _ => rfl, fun i x hi hz => ?_⟩
  · rcases i with _ | _ | i
    · cases hi; exact h
    · cases hi; exact h'
    · simp at hi
  · rcases i with _ | _ | i
    · rcases j with _ | _ | j
      · rfl
      · cases hi; cases hj; exact absurd z hn
      · simp at hj
    · rcases j with _ | _ | j
      · cases hi; cases hj; exact absurd z.symm hn
      · rfl
      · simp at hj
    · simp at hi
  · have hw : i < 2 := (List.getElem?_eq_some_iff.mp hi).1
    omega
end BS
section BSG
variable {p : Program} {l : Launch} {e : Env} {R : Room} {s : State} {m : MethodId} {args : Array Value} {below : List Frame} {meth : Method} {c : Code} {H : Heap} {locs : List Loc} {cells slots : Nat} {Q : State → Prop} {G : mg} {A : Nat → Prop} {M0 M1 : mh} {z : Nat} {L : List (Nat × va_E)} {g : JFrame}
theorem bs_gen (w : mW G A s M1 H locs) (hB : Bs z L M0 M1) (kk : ∀ M : mh, mW G A s M H locs → Bs z L M0 M → W p l e R s m args below meth c H locs cells slots Q g) : W p l e R s m args below meth c H locs cells slots Q g := kk M1 w hB
end BSG

