set_option maxRecDepth 100000
/-! TA: an entry added -/
def clr (f : tT) (n : Nat) : tT := fun k j => if k = n ∧ j < 6 then none else f k j
def swp (ad : Nat → Nat) (n q : Nat) : Nat → Nat := fun r => if r < 20 then ad r else if ad r = ad (20 + n) then q else if ad r = q then ad (20 + n) else ad r
def WFt (np : Nat) (f : tT) : Prop := (∀ k j i, k < np → j < 3 → f k j = some i → i < np) ∧ ∀ i, f 0 6 = some i → i < np
theorem clr_o {f : tT} {n k j : Nat} (h : k ≠ n) : clr f n k j = f k j := by unfold clr; rw [if_neg (fun q => h q.1)]
theorem clr_n {f : tT} {n j : Nat} (h : j < 6) : clr f n n j = none := by unfold clr; rw [if_pos ⟨rfl, h⟩]
theorem clr_6 {f : tT} {n : Nat} : clr f n 0 6 = f 0 6 := by unfold clr; rw [if_neg (fun q => absurd q.2 (by decide))]
theorem map_cong {ad ad2 : Nat → Nat} {np : Nat} {o : Option Nat} (h : ∀ k, k < np → ad2 (20 + k) = ad (20 + k)) (ho : ∀ i, o = some i → i < np) : o.map (fun k => ad2 (20 + k)) = o.map (fun k => ad (20 + k)) := by
  cases o with
  | none => rfl
  | some i => exact congrArg some (h i (ho i rfl))
theorem Tm.grow {G : mg} {ad : Nat → Nat} {np q : Nat} {M1 M : mh} {f : tT} (hM : Tm G ad np M1 M f) (hw : WFt np f) (hq : M q = none) : ∃ ad2 f0, ad2 0 = ad 0 ∧ (∀ k, k < np → ad2 (20 + k) = ad (20 + k)) ∧ ad2 (20 + np) = q ∧ f0 = clr f np ∧ Tm G ad2 (np + 1) M1 (va_up M q (some (.inr (16, [.null, .null, .null, .null, .null, .int 0])))) f0 := by
  obtain ⟨h1, ⟨sz, md, h2⟩, h3, h4⟩ := hM
  have n0 : ad 0 ≠ q := fun e => by rw [e, hq] at h2; cases h2
  have nk : ∀ k, k < np → ad (20 + k) ≠ q := fun k hk e => by
    have := h3 k hk
    rw [e, hq] at this
    cases this
  have e0 : swp ad np q 0 = ad 0 := if_pos (by decide)
  have ek : ∀ k, k < np → swp ad np q (20 + k) = ad (20 + k) := fun k hk => by
    unfold swp
    rw [if_neg (by omega), if_neg (fun e => by have := h1 _ _ e; omega), if_neg (nk k hk)]
  have en : swp ad np q (20 + np) = q := by
    unfold swp
    rw [if_neg (by omega), if_pos rfl]
  have inj : ∀ i j, swp ad np q (20 + i) = swp ad np q (20 + j) → i = j := fun i j e => by
    unfold swp at e
    rw [if_neg (show ¬ 20 + i < 20 by omega), if_neg (show ¬ 20 + j < 20 by omega)] at e
    by_cases i1 : ad (20 + i) = ad (20 + np)
    · rw [if_pos i1] at e
      by_cases j1 : ad (20 + j) = ad (20 + np)
      · exact h1 _ _ (i1.trans j1.symm)
      · rw [if_neg j1] at e
        by_cases j2 : ad (20 + j) = q
        · rw [if_pos j2] at e
          exact absurd (j2.trans e) j1
        · rw [if_neg j2] at e
          exact absurd e.symm j2
    · rw [if_neg i1] at e
      by_cases i2 : ad (20 + i) = q
      · rw [if_pos i2] at e
        by_cases j1 : ad (20 + j) = ad (20 + np)
        · rw [if_pos j1] at e
          exact absurd (i2.trans e.symm) i1
        · rw [if_neg j1] at e
          by_cases j2 : ad (20 + j) = q
          · exact h1 _ _ (i2.trans j2.symm)
          · rw [if_neg j2] at e
            exact absurd e.symm j1
      · rw [if_neg i2] at e
        by_cases j1 : ad (20 + j) = ad (20 + np)
        · rw [if_pos j1] at e
          exact absurd e i2
        · rw [if_neg j1] at e
          by_cases j2 : ad (20 + j) = q
          · rw [if_pos j2] at e
            exact absurd e i1
          · rw [if_neg j2] at e
            exact h1 _ _ e
  refine ⟨swp ad np q, clr f np, e0, ek, en, rfl, inj, ⟨sz, md, ?_⟩, fun k hk => ?_, fun y y0 y1 => ?_⟩
  · rw [e0, va_up_k n0, h2]
    unfold tmF
    rw [clr_6, map_cong ek hw.2]
  · by_cases e : k = np
    · subst e
      rw [en, va_up_s]
      unfold tnF
      rw [clr_n (by decide), clr_n (by decide), clr_n (by decide), clr_n (by decide), clr_n (by decide), clr_n (by decide)]
      rfl
    · have hk2 : k < np := by omega
      rw [ek k hk2, va_up_k (nk k hk2), h3 k hk2]
      unfold tnF
      rw [clr_o e, clr_o e, clr_o e, clr_o e, clr_o e, clr_o e, map_cong ek (hw.1 k 0 · hk2 (by decide)), map_cong ek (hw.1 k 1 · hk2 (by decide)), map_cong ek (hw.1 k 2 · hk2 (by decide))]
  · rw [va_up_k (fun e => y1 np (by omega) (e.trans en.symm))]
    exact h4 y (fun e => y0 (e.trans e0.symm)) (fun k hk e => y1 k (by omega) (e.trans (ek k hk).symm))
section TA
variable {np m : Nat} {f g F : tT} {lo hi ps : Nat → Nat} {S : Nat → Prop}
theorem TX.wf (h : TX np m f lo hi ps S) (ha : ∀ k, k < np → S k) : WFt np f := by
  refine ⟨fun k j i hk hj e => ?_, fun i e => (h.1.b (h.1.rt e).1).1⟩
  have hs := h.s (ha k hk)
  obtain rfl | rfl | rfl : j = 0 ∨ j = 1 ∨ j = 2 := by omega
  · exact (h.1.b (h.1.left hs e).1).1
  · exact (h.1.b (h.1.right hs e).1).1
  · exact (h.1.b (h.1.par hs e).1).1
/-- where the new entry stands, and what is below it -/
def gapOf (a : Bool) (lo ps : Nat → Nat) (P : Nat) : Nat := if a = true then lo P else ps P
theorem TX.add (h : TX np m f lo hi ps S) {P : Nat} {a : Bool} (hP : S P) (hc : (a = true ∧ f P 0 = none) ∨ (a = false ∧ f P 1 = none)) {q0 v0 : Nat}
    (hF : F = t2 (cf_einit (clr f np) np q0 v0 (some P)) P (if a = true then 0 else 1) (some np)) : TY (np + 1) (m + 1) F (fun k => if k = np then gapOf a lo ps P + 1 else shq (gapOf a lo ps P) (ps k)) (fun k => S k ∨ k = np) := by
  have hP' := h.s hP
  have hPn : P ≠ np := by have := h.1.b hP'; omega
  have hno : ¬ S np := fun z => by have := (h.1.b (h.s z)).1; omega
  have e4 : ∀ k j, k ≠ np → cf_einit (clr f np) np q0 v0 (some P) k j = f k j := fun k j hk => by
    rw [cf_einit, t2_k hk, t2_k hk, t2_k hk, t2_k hk, clr_o hk]
  have key := h.1.ins (g := F) (P := P) (q := gapOf a lo ps P) (a := a) hP' (by
      unfold gapOf
      rcases hc with ⟨c1, c2⟩ | ⟨c1, c2⟩
      · exact Or.inl ⟨c1, c2, if_pos c1⟩
      · exact Or.inr ⟨c1, c2, if_neg (by rw [c1]; decide)⟩)
    (fun k hk => by
      rw [hF]
      by_cases e : k = P
      · subst e
        by_cases ea : a = true
        · rw [if_pos ea, t2_s, if_pos ⟨rfl, ea⟩]
        · rw [if_neg ea, t2_j (by decide), if_neg (fun z => ea z.2), e4 _ _ hk]
      · rw [t2_k e, e4 _ _ hk, if_neg (fun z => e z.1)])
    (fun k hk => by
      rw [hF]
      by_cases e : k = P
      · subst e
        by_cases ea : a = true
        · rw [if_pos ea, t2_j (by decide), if_neg (fun z => by rw [ea] at z; exact absurd z.2 (by decide)), e4 _ _ hk]
        · rw [if_neg ea, t2_s, if_pos ⟨rfl, by cases a; rfl; exact absurd rfl ea⟩]
      · rw [t2_k e, e4 _ _ hk, if_neg (fun z => e z.1)])
    (fun k hk => by
      rw [hF]
      by_cases ea : a = true
      · rw [if_pos ea, t2_j (by decide), e4 _ _ hk]
      · rw [if_neg ea, t2_j (by decide), e4 _ _ hk])
    (by
      have z6 : cf_einit (clr f np) np q0 v0 (some P) 0 6 = f 0 6 := by
        rw [cf_einit, t2_j (by decide), t2_j (by decide), t2_j (by decide), t2_j (by decide), clr_6]
      rw [hF]
      by_cases ea : a = true
      · rw [if_pos ea, t2_j (by decide), z6]
      · rw [if_neg ea, t2_j (by decide), z6])
    (by
      rw [hF, t2_k (Ne.symm hPn), cf_einit, t2_j (by decide), t2_j (by decide), t2_j (by decide), t2_j (by decide), clr_n (by decide)])
    (by
      rw [hF, t2_k (Ne.symm hPn), cf_einit, t2_j (by decide), t2_j (by decide), t2_j (by decide), t2_j (by decide), clr_n (by decide)])
    (by
      rw [hF, t2_k (Ne.symm hPn), cf_einit, t2_s])
  refine ⟨_, _, key, fun k => ?_⟩
  show (S k ∨ k = np) ↔ (if k = np then gapOf a lo ps P else shq (gapOf a lo ps P) (lo k)) < (if k = np then gapOf a lo ps P + 2 else shq (gapOf a lo ps P) (hi k))
  by_cases e : k = np
  · rw [if_pos e, if_pos e]
    exact ⟨fun _ => by omega, fun _ => Or.inr e⟩
  · rw [if_neg e, if_neg e, h.2 k]
    have := shq_c (gapOf a lo ps P) (lo k)
    have := shq_c (gapOf a lo ps P) (hi k)
    constructor
    · rintro (z | z)
      · omega
      · exact absurd z e
    · intro z
      exact Or.inl (by omega)
theorem TX.one (hn : np = 0) (hS : ∀ k, ¬ S k) {q0 v0 : Nat} (hF : F = t2 (cf_einit (clr f np) np q0 v0 none) 0 6 (some np)) : TX (np + 1) 1 F (fun _ => 0) (fun k => if k = np then 2 else 0) (fun _ => 1) (fun k => S k ∨ k = np) := by
  have inn : ∀ k, 0 < (if k = np then 2 else 0) ↔ k = np := fun k => by
    by_cases e : k = np
    · rw [if_pos e]; exact ⟨fun _ => e, fun _ => by decide⟩
    · rw [if_neg e]; exact ⟨fun z => absurd z (by decide), fun z => absurd z e⟩
  have hv : ∀ j, j < 3 → F np j = none := fun j hj => by
    rw [hF, t2_j (by omega), cf_einit]
    by_cases e : j = 2
    · subst e; rw [t2_s]
    · rw [t2_j e, t2_j (by omega), t2_j (by omega), t2_j (by omega), clr_n (by omega)]
  have h6 : F 0 6 = some np := by rw [hF, t2_s]
  have T2 : (if np = np then 2 else 0) = 2 := if_pos rfl
  refine ⟨⟨fun k hk => ?_, fun k hk => ?_, fun k hk => ?_, fun k hk => ?_, Or.inr ⟨np, h6, (inn np).mpr rfl, rfl, T2, hv 2 (by decide)⟩, fun i j hi' hj hij => ?_⟩, fun k => ?_⟩
  · have e := (inn k).mp hk
    subst e
    show k < k + 1 ∧ 0 < 1 ∧ 1 < (if k = k then 2 else 0) ∧ (if k = k then 2 else 0) ≤ 1 + 1
    rw [T2]
    omega
  · have e := (inn k).mp hk
    subst e
    exact Or.inl ⟨hv 0 (by decide), rfl⟩
  · have e := (inn k).mp hk
    subst e
    exact Or.inl ⟨hv 1 (by decide), T2⟩
  · have e := (inn k).mp hk
    subst e
    exact Or.inl ⟨hv 2 (by decide), h6⟩
  · exact absurd (((inn i).mp hi').trans ((inn j).mp hj).symm) hij
  · rw [inn k]
    constructor
    · rintro (z | z)
      · exact absurd z (hS k)
      · exact z
    · exact fun z => Or.inr z
def AddP (G : mg) (ad : Nat → Nat) (np m : Nat) (M1 M : mh) (f : tT) (ps' : Nat → Nat) (S : Nat → Prop) (q0 v0 : Nat) : Prop := ∃ ad2 g, ad2 0 = ad 0 ∧ (∀ k, k < np → ad2 (20 + k) = ad (20 + k)) ∧ M1 (ad2 (20 + np)) = none ∧ Tm G ad2 (np + 1) M1 M g ∧ TY (np + 1) (m + 1) g ps' (fun k => S k ∨ k = np) ∧ g np 4 = some q0 ∧ g np 5 = some v0 ∧ ∀ k j, k ≠ np → j = 4 ∨ j = 5 → g k j = f k j
theorem einit_4 {q0 v0 n : Nat} {o : Option Nat} : cf_einit f n q0 v0 o n 4 = some q0 := by rw [cf_einit, t2_j (by decide), t2_j (by decide), t2_s]
theorem einit_5 {q0 v0 n : Nat} {o : Option Nat} : cf_einit f n q0 v0 o n 5 = some v0 := by rw [cf_einit, t2_j (by decide), t2_s]
theorem einit_k {k j q0 v0 n : Nat} {o : Option Nat} (hk : k ≠ n) : cf_einit f n q0 v0 o k j = f k j := by rw [cf_einit, t2_k hk, t2_k hk, t2_k hk, t2_k hk]
end TA

