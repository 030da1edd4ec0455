set_option maxRecDepth 100000
/-! NL: a contract in a wider room; the nights' list -/
theorem Met_room {l : Launch} {y : MethodName} {ws : List Cond} {rm rm' : Room} {Pc : Array Value → State → Prop} {Qc : Array Value → State → Outcome → State → Prop} {mc ms mc' ms' : Nat} {free : Addr → Prop} (h : Met l y ws rm Pc Qc mc ms free) (h1 : rm.frames ≤ rm'.frames) (h2 : rm.cells ≤ rm'.cells) (h3 : rm.slots ≤ rm'.slots) (h4 : rm.locals ≤ rm'.locals) (hc : mc ≤ mc') (hs : ms ≤ ms') : Met l y ws rm' Pc Qc mc' ms' free := by
  intro p e ha hf hc0 s m args below hs0 hap hP hk
  have hap' : (headSpec ws rm).appliesLoose y e.platform s = true := by
    rw [Spec.appliesLoose_iff hs0] at hap ⊢
    obtain ⟨a1, a2, a3, a4, a5, a6, a7, a8⟩ := hap
    refine ⟨a1, a2, a3, a4, a5, a6, ?_, a8⟩
    have e1 : (headSpec ws rm').room = rm' := rfl
    have e2 : (headSpec ws rm).room = rm := rfl
    rw [e1] at a7
    rw [e2]
    unfold State.hasRoom at a7 ⊢
    simp only [Bool.and_eq_true, decide_eq_true_eq] at a7 ⊢
    obtain ⟨⟨⟨⟨b1, b2, b3, b4, b5, b6⟩, b7⟩, b8⟩, b9⟩ := a7
    exact ⟨⟨⟨⟨by omega, by omega, by omega, by omega, by omega, b6⟩, by omega⟩, by omega⟩, b9⟩
  obtain ⟨n, o, a, b, c, d, L, ⟨f1, f2, f3⟩, hL⟩ := h p e ha hf hc0 s m args below hs0 hap' hP hk
  exact ⟨n, o, a, b, c, d, L, ⟨f1, f2, f3.mono hc hs⟩, hL⟩
theorem Met_i {l : Launch} {y : MethodName} {ws : List Cond} {rm : Room} {as : List Value} {G : mg} {A : Nat → Prop} {A' : Addr → Prop} {C : mh → Prop} {mc ms : Nat} {P P' : Int32 → mh → Prop} (h : Met l y ws rm (va_Pc as (mU G A C)) (mQi G A P) mc ms A') (hq : ∀ r M, P r M → P' r M) : Met l y ws rm (va_Pc as (mU G A C)) (mQi G A P') mc ms A' := by
  intro p e ha hf hc s m args below hs hap hP hk
  obtain ⟨n, o, a, b, c, d, L⟩ := h p e ha hf hc s m args below hs hap hP hk
  exact ⟨n, o, a, b, c, mQi_imp hq d, L⟩
theorem Met_v {l : Launch} {y : MethodName} {ws : List Cond} {rm : Room} {as : List Value} {G : mg} {A : Nat → Prop} {A' : Addr → Prop} {C : mh → Prop} {mc ms : Nat} {P P' : mh → Prop} (h : Met l y ws rm (va_Pc as (mU G A C)) (mQv G A P) mc ms A') (hq : ∀ M, P M → P' M) : Met l y ws rm (va_Pc as (mU G A C)) (mQv G A P') mc ms A' := by
  intro p e ha hf hc s m args below hs hap hP hk
  obtain ⟨n, o, a, b, c, d, L⟩ := h p e ha hf hc s m args below hs hap hP hk
  exact ⟨n, o, a, b, c, mQv_imp hq d, L⟩
/-- the precondition, of any world of a kind -/
theorem Met_of {l : Launch} {y : MethodName} {ws : List Cond} {rm : Room} {as : List Value} {G : mg} {A : Nat → Prop} {A' : Addr → Prop} {C : mh → Prop} {mc ms : Nat} {Q : Array Value → State → Outcome → State → Prop} (h : ∀ M1, C M1 → Met l y ws rm (va_Pc as (mU G A (fun M => M = M1))) Q mc ms A') : Met l y ws rm (va_Pc as (mU G A C)) Q mc ms A' :=
  Met_ex (Q := fun _ => Q) h (fun _ _ _ _ _ _ hq => hq)
/-- a night more, a night less -/
def nAdd (f : Nat → Int32) (n : Nat) (x : Int32) : Nat → Int32 := upd (upd (upd f (200 + n) x) 18 (nI (n + 1))) 174 (f 174 + 1)
def nRem (f : Nat → Int32) (n : Nat) : Nat → Int32 := fun p => if p = 18 then nI (n - 1) else if p = 174 then f 174 + 1 else if 200 ≤ p then f (p + 1) else f p
theorem nAdd_o {f : Nat → Int32} {n p : Nat} {x : Int32} (h : p < 200) (h1 : p ≠ 18) (h2 : p ≠ 174) : nAdd f n x p = f p := by
  unfold nAdd
  rw [pk_un h2, pk_un h1, pk_un (by omega)]
theorem nRem_o {f : Nat → Int32} {n p : Nat} (h : p < 200) (h1 : p ≠ 18) (h2 : p ≠ 174) : nRem f n p = f p := by
  unfold nRem
  rw [if_neg h1, if_neg h2, if_neg (by omega)]
theorem stO_hi {p : Nat} (h : 200 ≤ p) : stO p = 41 := by
  unfold stO
  rw [if_neg (by omega), if_neg (by omega), if_neg (by omega), if_neg (by omega), if_neg (by omega), if_neg (by omega), if_neg (by omega), if_neg (by omega), if_neg (by omega), if_neg (by omega), if_neg (by omega), if_neg (by omega), if_neg (by omega), if_neg (by omega), if_neg (by omega), if_neg (by omega)]
section NL
variable {G : mg} {ad : Nat → Nat} {b9 : Nat} {bx : Nat → Nat} {np ng nn : Nat} {M0 M M' : mh} {f g : Nat → Int32}
/-- the nights' list and array are written anew -/
theorem StaB.nights (h : StaB G ad b9 bx np ng nn M0 M f) {nn' b9' : Nat} {bx' : Nat → Nat} (hn : nn' ≤ 8) (hg : ∀ p, p < 200 → p ≠ 18 → p ≠ 174 → g p = f p) (h18 : g 18 = nI nn')
    (h8 : M' (ad 8) = some (.inr (9, [.int (g 174), .ref (if nn' = 0 then G.2 0 else b9'), .int (nI nn')]))) (h9 : nn' ≠ 0 → M' b9' = some (mRc (G.1.1 103) 10 (fun k => if k < nn' then some (bx' k) else none)))
    (hb : ∀ k, k < nn' → boxAt G M' (bx' k) (g (200 + k))) (hk : ∀ q, M q ≠ none → q ≠ ad 8 → (nn ≠ 0 → q ≠ b9) → M' q = M q) (hn9 : nn' ≠ 0 → (nn ≠ 0 ∧ b9' = b9) ∨ (M b9' = none)) : StaB G ad b9' bx' np ng nn' M0 M' g := by
  obtain ⟨h1, h2, h3, h4, h5, h6, h7, h8', hq8⟩ := h
  have no := fun r (hr : stU np ng nn r) fs => stC_no (G := G) (ad := ad) (b9 := b9) (bx := bx) (f := f) hr h2 fs
  have sU : ∀ r, r ≠ 9 → (stU np ng nn' r ↔ stU np ng nn r) := fun r hr => by
    unfold stU
    constructor
    · rintro ⟨a, b, c, d, e, i⟩; exact ⟨a, b, c, fun z => absurd z hr, e, i⟩
    · rintro ⟨a, b, c, d, e, i⟩; exact ⟨a, b, c, fun z => absurd z hr, e, i⟩
  have aN : ∀ {c r : Nat}, r ≠ 9 → adr ad c r = ad r := fun hr => adr_n hr
  -- a role's cell but the two
  have kp : ∀ r, stU np ng nn r → r ≠ 8 → r ≠ 9 → M' (ad r) = M (ad r) := fun r hr r8 r9 => by
    refine hk _ ?_ (fun e => ?_) (fun n0 e => ?_)
    · have := h3 r hr
      rw [aN r9] at this
      rw [this]
      exact fun e => by cases e
    · have := h4 r 8 hr (stU_p (by decide) (by decide) (by decide) (by decide)) (by rw [aN r9, aN (by decide)]; exact e)
      exact r8 this
    · have s9 : stU np ng nn 9 := ⟨by decide, fun z => by omega, fun z => by omega, fun _ => n0, fun z => by omega, fun z => by omega⟩
      have := h4 r 9 hr s9 (by rw [aN r9]; exact e)
      exact r9 this
  have nb9 : nn' ≠ 0 → ∀ r, stU np ng nn r → r ≠ 9 → ad r ≠ b9' := fun n0 r hr r9 e => by
    have hc := h3 r hr
    rw [aN r9] at hc
    rcases hn9 n0 with ⟨q1, q2⟩ | q
    · have s9 : stU np ng nn 9 := ⟨by decide, fun z => by omega, fun z => by omega, fun _ => q1, fun z => by omega, fun z => by omega⟩
      exact r9 (h4 r 9 hr s9 (by rw [aN r9, e, q2]; rfl))
    · rw [e, q] at hc; cases hc
  refine ⟨⟨(hg 14 (by decide) (by decide) (by decide)).trans h1.1, h1.2.1, (hg 16 (by decide) (by decide) (by decide)).trans h1.2.2.1, h1.2.2.2.1, h18, hn⟩, fun k hk' => ?_, fun r hr => ?_, fun r r' hr hr' e => ?_, fun k hk' => ?_, hb, fun q hq hn' => ?_, fun n0 => ?_, fun k hk => by rw [hg _ (by omega) (by omega) (by omega)]; exact hq8 k hk⟩
  · have := h1.2.1
    rw [hg _ (by omega) (by omega) (by omega)]
    exact h2 k hk'
  · by_cases r9 : r = 9
    · subst r9
      exact h9 (hr.2.2.2.1 rfl)
    · rw [aN r9]
      by_cases r8 : r = 8
      · subst r8
        exact h8
      · have hr2 := (sU r r9).mp hr
        have hc := h3 r hr2
        rw [aN r9] at hc
        rw [kp r hr2 r8 r9, hc]
        refine congrArg some ?_
        -- the cell's text doesn't speak of nights
        by_cases r20 : r < 20
        · have e1 : stT G ad b9' bx' np ng nn' g r = stT G ad b9 bx np ng nn g r := by
            have : ∀ r, r < 20 → r ≠ 8 → r ≠ 9 → stT G ad b9' bx' np ng nn' g r = stT G ad b9 bx np ng nn g r := fun r a b c => by
              unfold stT
              split <;> first | rfl | omega
            exact this r r20 r8 r9
          rw [stC_t r20, stC_t r20, e1]
          by_cases r0 : r = 0
          · subst r0
            have q := stC_c0 (ad := ad) (f := f) (f' := fun p => if p = 18 then f 18 else g p) (fun p hp => by
              show (if p = 18 then f 18 else g p) = f p
              by_cases c : p = 18
              · rw [if_pos c, c]
              · rw [if_neg c]
                exact hg p (Nat.lt_of_not_le fun z => by rw [stO_hi z] at hp; cases hp) c (fun z => by rw [z] at hp; exact absurd hp (by decide)))
            exact congrArg (fun z => (Sum.inr (1, z) : va_E)) (q.symm.trans (show stF ad (fun p => if p = 18 then f 18 else g p) = stF ad g from rfl))
          · exact (stC_cT r r20 (fun p hp => hg p (Nat.lt_of_not_le fun z => by rw [stO_hi z] at hp; omega) (fun z => by rw [z] at hp; exact r0 (hp.symm.trans (by decide))) (fun z => by rw [z] at hp; exact r8 (hp.symm.trans (by decide))))).symm
        · by_cases r26 : r < 26
          · obtain ⟨k, rfl⟩ : ∃ k, r = 20 + k := ⟨r - 20, by omega⟩
            have hg' : ∀ w, w < 8 → g (39 + (8 * k) + w) = f (39 + (8 * k) + w) := fun w hw => hg _ (by omega) (by omega) (by omega)
            rw [stC_pm (by omega), stC_pm (by omega), show g (39 + (8 * k)) = f (39 + (8 * k)) from hg' 0 (by decide)]
            have : pmF g k = pmF f k := by
              unfold pmF
              rw [hg' 1 (by decide), hg' 2 (by decide), hg' 3 (by decide), hg' 4 (by decide), hg' 5 (by decide), hg' 6 (by decide), hg' 7 (by decide)]
            rw [this]
          · obtain ⟨k, rfl⟩ : ∃ k, r = 26 + k := ⟨r - 26, by omega⟩
            have r32 := hr.1
            have a1 : g (39 + (8 * k) + 1) = f (39 + (8 * k) + 1) := hg _ (by omega) (by omega) (by omega)
            have a2 : g (39 + (8 * k) + 2) = f (39 + (8 * k) + 2) := hg _ (by omega) (by omega) (by omega)
            have e0 := stC_cC (G := G) (ad := ad) (b9 := b9) (bx := bx) (np := np) (ng := ng) (nn := nn) a1 a2
            rw [stC_cv, stC_cv] at e0
            rw [stC_cv, stC_cv]
            exact e0.symm
  · by_cases r9 : r = 9
    · subst r9
      by_cases r9' : r' = 9
      · exact r9'.symm
      · have e' : b9' = ad r' := by rw [aN r9'] at e; exact e
        exact absurd e'.symm (nb9 (hr.2.2.2.1 rfl) r' ((sU r' r9').mp hr') r9')
    · by_cases r9' : r' = 9
      · subst r9'
        have e' : ad r = b9' := by rw [aN r9] at e; exact e
        exact absurd e' (nb9 (hr'.2.2.2.1 rfl) r ((sU r r9).mp hr) r9)
      · exact h4 r r' ((sU r r9).mp hr) ((sU r' r9').mp hr') (by rw [aN r9, aN r9'] at e ⊢; exact e)
  · have g8 := h1.2.2.2.1
    have hc := h5 k hk'
    rw [hg _ (by omega) (by omega) (by omega), hg _ (by omega) (by omega) (by omega), hg _ (by omega) (by omega) (by omega), hk _ (by rw [hc]; exact fun e => by cases e) (fun e => ?_) (fun n0 e => ?_)]
    · exact hc
    · have s8 : stU np ng nn 8 := stU_p (by decide) (by decide) (by decide) (by decide)
      have := h3 8 s8
      rw [aN (by decide), ← e, hc] at this
      exact (no 8 s8 _).1 (Option.some.inj this).symm
    · have s9 : stU np ng nn 9 := ⟨by decide, fun z => by omega, fun z => by omega, fun _ => n0, fun z => by omega, fun z => by omega⟩
      have := h3 9 s9
      rw [show adr ad b9 9 = b9 from rfl, ← e, hc] at this
      exact (no 9 s9 _).1 (Option.some.inj this).symm
  · by_cases z : M q = none
    · rw [h7 q hq hn'] at z
      exact absurd z hq
    · rw [hk q z (fun e => hn' 8 (by decide) e.symm) (fun n0 e => ?_)]
      · exact h7 q hq hn'
      · rcases h8' n0 with ⟨r, hr, y⟩ | y
        · exact hn' r hr (y.symm.trans e.symm)
        · rw [e] at hq; exact hq y
  · rcases hn9 n0 with ⟨q1, q2⟩ | q
    · rw [q2]; exact h8' q1
    · by_cases z : M0 b9' = none
      · exact Or.inr z
      · refine Or.inl (Classical.byContradiction fun y => ?_)
        have e := h7 b9' z (fun r hr e => y ⟨r, hr, e.symm⟩)
        rw [q] at e
        exact z e.symm
end NL

