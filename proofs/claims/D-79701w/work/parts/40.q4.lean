set_option maxRecDepth 100000
set_option maxRecDepth 100000
/-! Q4: start, stop, longest, fresh, trip: as the reference's -/
section Q4
variable {w : Nat → Nat → Int32} {s : Int32} {f : Nat → Int32} {T np nz ng : Nat}
theorem E_put {k j : Nat} {x : Int32} (hk : k < 6) (hj : j < 8) : Vf w s (upd f (39 + (8 * k) + j) x) = mf_put (Vf w s f) k j x := Vf_up (by omega) (by omega) (by omega)
theorem E_of {k j : Nat} (hk : k < 6) (hj : j < 8) : mf_of (Vf w s f) k j = f (39 + (8 * k) + j) := Vf_at (by omega)
theorem E_set {j : Nat} (hj : j < 19) : mf_setting (Vf w s f) j = f (20 + j) := Vf_at (by omega)
theorem u2_same {v : Nat → Nat → Int32} {r k : Nat} : u2 v r k (v r k) = v := by
  funext i j
  by_cases h : i = r
  · subst h
    by_cases h2 : j = k
    · subst h2; exact u2_s
    · exact u2_k h2
  · rw [u2_r h]
theorem E_pstart {k : Nat} (hk : k < 6) {x : Int32} : Vf w s (cf_pstart f k x) = mf_put (mf_put (mf_put (Vf w s f) k 4 x) k 6 0) k 7 (mf_of (mf_put (mf_put (Vf w s f) k 4 x) k 6 0) k 7 + 1) := by
  unfold cf_pstart
  rw [E_put hk (by decide), E_put hk (by decide), E_put hk (by decide), ← E_of (w := w) (s := s) (f := upd (upd f (39 + (8 * k) + 4) x) (39 + (8 * k) + 6) 0) hk (by decide), E_put hk (by decide), E_put hk (by decide)]
theorem E_pstop {k : Nat} (hk : k < 6) : Vf w s (cf_pstop f k) = mf_put (mf_put (Vf w s f) k 4 0) k 6 0 := by
  unfold cf_pstop
  rw [E_put hk (by decide), E_put hk (by decide)]
theorem upd_comm {g : Nat → Int32} {a b : Nat} {x y : Int32} (h : a ≠ b) : upd (upd g a x) b y = upd (upd g b y) a x := by
  funext i
  by_cases h1 : i = a
  · subst h1
    rw [pk_un h, pk_us, pk_us]
  · rw [pk_un (j := i) (k := a) h1]
    by_cases h2 : i = b
    · subst h2; rw [pk_us, pk_us]
    · rw [pk_un h2, pk_un h2, pk_un h1]
theorem pstart_up {k : Nat} (hk : k < 6) {x y : Int32} : cf_pstart (upd f 4 y) k x = upd (cf_pstart f k x) 4 y := by
  unfold cf_pstart
  rw [pk_un (show 39 + (8 * k) + 7 ≠ 39 + (8 * k) + 6 by omega), pk_un (show 39 + (8 * k) + 7 ≠ 39 + (8 * k) + 4 by omega), pk_un (show 39 + (8 * k) + 7 ≠ 4 by omega), pk_un (show 39 + (8 * k) + 7 ≠ 39 + (8 * k) + 6 by omega), pk_un (show 39 + (8 * k) + 7 ≠ 39 + (8 * k) + 4 by omega),
    upd_comm (g := f) (a := 4) (b := 39 + (8 * k) + 4) (by omega), upd_comm (a := 4) (b := 39 + (8 * k) + 6) (by omega), upd_comm (a := 4) (b := 39 + (8 * k) + 7) (by omega)]
def bg28 (v : Nat → Nat → Int32) (k : Nat) (x : Int32) : Nat → Nat → Int32 := mf_put (mf_put (mf_put v k 4 x) k 6 0) k 7 (mf_of (mf_put (mf_put v k 4 x) k 6 0) k 7 + 1)
theorem begins_t (v : Nat → Nat → Int32) (k : Nat) (x : Int32) : mf_begins v k x true = mf_event (u2 (bg28 v k x) 1 4 (nI k)) 0 (nI k) := by
  unfold mf_begins mf_begins_c4 mf_begins_c12 mf_begins_c28 mf_begins_50 mf_begins_c54
  rw [if_pos rfl]
  unfold bg28
  rfl
theorem begins_f (v : Nat → Nat → Int32) (k : Nat) (x : Int32) : mf_begins v k x false = mf_event (bg28 v k x) 0 (nI k) := by
  unfold mf_begins mf_begins_c4 mf_begins_c12 mf_begins_c28 mf_begins_50 mf_begins_c54
  rw [if_neg Bool.false_ne_true, u2_same]
  unfold bg28
  rfl
theorem E_begins0 {k : Nat} (hk : k < 6) (he : rg (f 19) 12) {x : Int32} : Vf w s (cf_tell (cf_pstart f k x) 0 (nI k)) = mf_begins (Vf w s f) k x false := by
  rw [E_tell (pstart_19 he), E_pstart hk, begins_f]
  unfold bg28
  rfl
theorem E_begins1 {k : Nat} (hk : k < 6) (he : rg (f 19) 12) {x : Int32} : Vf w s (cf_tell (cf_pstart (upd f 4 (nI k)) k x) 0 (nI k)) = mf_begins (Vf w s f) k x true := by
  rw [pstart_up hk, E_tell (by rw [pk_un (by decide)]; exact pstart_19 he), Vf_up (by decide) (by decide) (by decide), E_pstart hk, begins_t]
  unfold bg28
  rfl
theorem isVar_iff {k : Nat} : isVar f k = true ↔ ¬ f (39 + (8 * k)) = 0 := by
  unfold isVar
  by_cases h : f (39 + (8 * k)) = 0
  · simp [h]
  · simp [h]
theorem cstart_0 {k : Nat} (c : f (39 + (8 * k)) = 0) : cf_cstart f k = cf_tell (cf_pstart f k 1000) 0 (nI k) := by
  unfold cf_cstart
  rw [if_neg (fun h => isVar_iff.mp h c)]
  unfold cf_cstart_c60 cf_cstart_63 cf_cstart_c69
  rfl
theorem cstart_1 {k : Nat} (c : ¬ f (39 + (8 * k)) = 0) (d : f 4 = -1) : cf_cstart f k = cf_tell (cf_pstart (upd f 4 (nI k)) k (f 24)) 0 (nI k) := by
  unfold cf_cstart
  rw [if_pos (isVar_iff.mpr c), if_pos d]
  unfold cf_cstart_35 cf_cstart_c50 cf_cstart_63 cf_cstart_c69
  rw [pk_un (by decide)]
theorem cstart_2 {k : Nat} (c : ¬ f (39 + (8 * k)) = 0) (d : ¬ f 4 = -1) (h5 : tN (f 4) < 6) : cf_cstart f k = cf_tell (cf_pstart (upd (upd f (39 + (8 * tN (f 4)) + 4) 1000) 4 (nI k)) k (f 24)) 0 (nI k) := by
  unfold cf_cstart
  rw [if_pos (isVar_iff.mpr c), if_neg d]
  unfold cf_cstart_35 cf_cstart_c50 cf_cstart_63 cf_cstart_c69
  rw [pk_un (by decide), pk_un (by omega)]
theorem start_c15 (a : Nat → Nat → Int32) (k : Nat) (d : Nat → Nat → Int32) : mf_start_c15 a k d = d := rfl
theorem start_c51 (a : Nat → Nat → Int32) (k : Nat) (b d : Nat → Nat → Int32) : mf_start_c51 a k b d = d := rfl
theorem start_c40 (a : Nat → Nat → Int32) (k : Nat) (b : Nat → Nat → Int32) : mf_start_c40 a k b = mf_start_43 a k b := by rw [mf_start_c40]
theorem start_43 (a : Nat → Nat → Int32) (k : Nat) (b : Nat → Nat → Int32) : mf_start_43 a k b = mf_begins b k (mf_setting b 4) true := by rw [mf_start_43, start_c51]
theorem start_0 {v : Nat → Nat → Int32} {k : Nat} (c : mf_of v k 0 = 0) : mf_start v k = mf_begins v k 1000 false := by
  rw [mf_start, if_pos c, start_c15]
theorem start_1 {v : Nat → Nat → Int32} {k : Nat} (c : ¬ mf_of v k 0 = 0) (d : v 1 4 = -1) : mf_start v k = mf_begins v k (mf_setting v 4) true := by
  rw [mf_start, if_neg c, if_pos d, start_43]
theorem start_2 {v : Nat → Nat → Int32} {k : Nat} (c : ¬ mf_of v k 0 = 0) (d : ¬ v 1 4 = -1) : mf_start v k = mf_begins (mf_put v (tN (v 1 4)) 4 1000) k (mf_setting (mf_put v (tN (v 1 4)) 4 1000) 4) true := by
  rw [mf_start, if_neg c, if_neg d, start_c40, start_43]
theorem E_cstart {k : Nat} (hk : k < np) (hI : IP T np nz ng (Rf f)) : Vf w s (cf_cstart f k) = mf_start (Vf w s f) k := by
  have hn := hI.n6
  have hv : isP np (f 4) := hI.var
  have he : rg (f 19) 12 := hI.ne
  have e0 : mf_of (Vf w s f) k 0 = f (39 + (8 * k)) := E_of (by omega) (by decide)
  have e4 : Vf w s f 1 4 = f 4 := Vf_at (by decide)
  have e24 : mf_setting (Vf w s f) 4 = f 24 := E_set (by decide)
  by_cases c : f (39 + (8 * k)) = 0
  · rw [cstart_0 c, start_0 (by rw [e0]; exact c), E_begins0 (by omega) he]
  · by_cases d : f 4 = -1
    · rw [cstart_1 c d, start_1 (by rw [e0]; exact c) (by rw [e4]; exact d), E_begins1 (by omega) he, e24]
    · obtain ⟨e5, h5⟩ := isP_n hv d hn
      have e24b : mf_setting (Vf w s (upd f (39 + (8 * tN (f 4)) + 4) 1000)) 4 = f 24 := (E_set (by decide)).trans (pk_un (by omega))
      rw [cstart_2 c d (by omega), start_2 (by rw [e0]; exact c) (by rw [e4]; exact d), e4, ← E_put (by omega) (by decide), E_begins1 (by omega) (by rw [pk_un (by omega)]; exact he), e24b]
def oI (o : Option Nat) : Int32 := match o with
  | none => -1
  | some j => nI j
def okP (np : Nat) (o : Option Nat) : Prop := ∀ j, o = some j → j < np
theorem oI_m1 {o : Option Nat} (h : okP np o) (hn : np ≤ 6) : oI o = -1 ↔ o = none := by
  cases o with
  | none => exact ⟨fun _ => rfl, fun _ => rfl⟩
  | some j =>
    have := h j rfl
    exact ⟨fun e => absurd (show nI j = -1 from e) (fun e => nI_pos (n := j) (by omega) (by rw [e]; decide)), fun e => by cases e⟩
theorem oI_tN {o : Option Nat} (h : okP np o) (hn : np ≤ 6) (c : ¬ o = none) : tN (oI o) = o.getD 0 := by
  cases o with
  | none => exact absurd rfl c
  | some j =>
    have := h j rfl
    exact tN_nI (by omega)
theorem okP_some {k : Nat} (h : k < np) : okP np (some k) := fun j e => by cases e; exact h
theorem okP_none : okP np none := fun j e => by cases e
theorem okP_getD {o : Option Nat} (h : okP np o) (c : ¬ o = none) : o.getD 0 < np := by
  cases o with
  | none => exact absurd rfl c
  | some j => exact h j rfl
theorem E_longest_4 (hn : np ≤ 6) (hc : nC f 14 = np) : ∀ (n : Nat) (o : Option Nat) (k : Nat), okP np o → mf_longest_4 (Vf w s f) n (oI o) k = oI (cf_mostRun_4 f n o k) ∧ okP np (cf_mostRun_4 f n o k) := by
  intro n
  induction n with
  | zero => intro o k _; exact ⟨rfl, okP_none⟩
  | succ n ih =>
    intro o k ho
    rw [mf_longest_4, cf_mostRun_4, Vf_n (by decide), hc]
    by_cases c : np ≤ k
    · rw [if_pos c, if_pos c]
      exact ⟨rfl, ho⟩
    · rw [if_neg c, if_neg c, ← E_runs (by omega), Vf_at (by decide)]
      have keep : mf_longest_4 (Vf w s f) n (oI o) (k + 1) = oI (cf_mostRun_4 f n o (k + 1)) ∧ okP np (cf_mostRun_4 f n o (k + 1)) := ih o (k + 1) ho
      have new : mf_longest_4 (Vf w s f) n (nI k) (k + 1) = oI (cf_mostRun_4 f n (some k) (k + 1)) ∧ okP np (cf_mostRun_4 f n (some k) (k + 1)) := ih (some k) (k + 1) (okP_some (by omega))
      by_cases c1 : cf_runs f k = true
      · rw [if_pos c1, if_pos c1]
        by_cases c2 : nI k = f 4
        · rw [if_pos c2, if_pos c2]
          exact keep
        · rw [if_neg c2, if_neg c2, mf_longest_38, cf_mostRun_47, if_pos rfl, if_pos rfl]
          by_cases c3 : o = none
          · rw [if_pos c3, if_pos ((oI_m1 ho hn).mpr c3)]
            exact new
          · have h9 := okP_getD ho c3
            rw [if_neg c3, if_neg (fun h => c3 ((oI_m1 ho hn).mp h)), oI_tN ho hn c3, E_of (by omega) (by decide), E_of (by omega) (by decide)]
            by_cases c4 : f (39 + (8 * k) + 5) ≤ f (39 + (8 * o.getD 0) + 5)
            · rw [if_pos c4, if_pos c4]
              exact keep
            · rw [if_neg c4, if_neg c4]
              exact new
      · rw [if_neg c1, if_neg c1]
        exact keep
theorem E_longest (hn : np ≤ 6) (hc : nC f 14 = np) : mf_longest (Vf w s f) = oI (cf_mostRun f) ∧ okP np (cf_mostRun f) := E_longest_4 hn hc 7 none 0 okP_none
/-- v stands for f where the pumps' laws look -/
def sees (v : Nat → Nat → Int32) (f : Nat → Int32) : Prop := ∀ p, p < 127 → p ≠ 19 → v 1 p = f p
theorem sees_Vf : sees (Vf w s f) f := fun p hp _ => Vf_at hp
theorem sees.of {v : Nat → Nat → Int32} (h : sees v f) {k j : Nat} (hk : k < 6) (hj : j < 8) : mf_of v k j = f (39 + (8 * k) + j) := h _ (by omega) (by omega)
theorem sees.runs {v : Nat → Nat → Int32} (h : sees v f) {k : Nat} (hk : k < 6) : mf_runs v k = cf_runs f k := by
  rw [mf_runs, cf_runs, h.of hk (by decide)]
  rfl
theorem sees.n {v : Nat → Nat → Int32} (h : sees v f) : nC (v 1) 14 = nC f 14 := by
  unfold nC
  rw [h 14 (by decide) (by decide)]
def runP (f : Nat → Int32) (o : Option Nat) : Prop := ∀ j, o = some j → cf_runs f j = true ∧ isVar f j = true
theorem E_next_28 {v : Nat → Nat → Int32} (hv : sees v f) {f0 f1 : Nat → Int32} {k0 : Nat} (hn : np ≤ 6) (hc : nC f 14 = np) : ∀ (n : Nat) (o : Option Nat) (k : Nat), okP np o → runP f o → k ≤ np → np < k + n → ∃ o', okP np o' ∧ runP f o' ∧ cf_cstop_28 f0 k0 f1 f n o k = upd f 4 (oI o') ∧ mf_nextVariable_4 v n (oI o) k = oI o' := by
  intro n
  induction n with
  | zero => intro o k _ _ h1 h2; omega
  | succ n ih =>
    intro o k ho hr hk hkn
    rw [mf_nextVariable_4, cf_cstop_28, hv.n, hc]
    by_cases c : np ≤ k
    · rw [if_pos c, if_pos c]
      refine ⟨o, ho, hr, ?_, rfl⟩
      by_cases d : o = none
      · rw [if_pos d]; subst d; rfl
      · rw [if_neg d]
        cases o with
        | none => exact absurd rfl d
        | some j => rfl
    · rw [if_neg c, if_neg c, hv.runs (by omega)]
      have keep : ∃ o', okP np o' ∧ runP f o' ∧ cf_cstop_28 f0 k0 f1 f n o (k + 1) = upd f 4 (oI o') ∧ mf_nextVariable_4 v n (oI o) (k + 1) = oI o' := ih o (k + 1) ho hr (by omega) (by omega)
      have e0 : mf_of v k 0 = f (39 + (8 * k)) := hv.of (by omega) (by decide)
      by_cases c1 : cf_runs f k = true
      · rw [if_pos c1, if_pos c1, e0]
        by_cases c2 : f (39 + (8 * k)) = 0
        · rw [if_pos c2, if_neg (fun h => isVar_iff.mp h c2)]
          exact keep
        · have new : ∃ o', okP np o' ∧ runP f o' ∧ cf_cstop_28 f0 k0 f1 f n (some k) (k + 1) = upd f 4 (oI o') ∧ mf_nextVariable_4 v n (nI k) (k + 1) = oI o' := ih (some k) (k + 1) (okP_some (by omega)) (fun j e => by cases e; exact ⟨c1, isVar_iff.mpr c2⟩) (by omega) (by omega)
          rw [if_neg c2, if_pos (isVar_iff.mpr c2), mf_nextVariable_37, cf_cstop_73, if_pos rfl, if_pos rfl]
          by_cases c3 : o = none
          · rw [if_pos c3, if_pos ((oI_m1 ho hn).mpr c3)]
            exact new
          · have h9 := okP_getD ho c3
            rw [if_neg c3, if_neg (fun h => c3 ((oI_m1 ho hn).mp h)), oI_tN ho hn c3, hv.of (by omega) (by decide), hv.of (by omega) (by decide)]
            by_cases c4 : f (39 + (8 * o.getD 0) + 5) ≤ f (39 + (8 * k) + 5)
            · rw [if_pos c4, if_pos c4]
              exact keep
            · rw [if_neg c4, if_neg c4]
              exact new
      · rw [if_neg c1, if_neg c1]
        exact keep
theorem event_up {v : Nat → Nat → Int32} {kind k : Int32} {q : Nat} {x : Int32} (h1 : q < 134) (h2 : q ≠ 0) (h3 : q ≠ 19) : mf_event (u2 v 1 q x) kind k = u2 (mf_event v kind k) 1 q x := by
  funext r p
  by_cases hr : r = 1
  · subst hr
    by_cases hp : p = q
    · subst hp
      rw [u2_s, event_fr h1 h3, u2_s]
    · rw [u2_k hp, event_at, event_at, u2_k (show (0 : Nat) ≠ q by omega), u2_k (show (19 : Nat) ≠ q by omega), u2_k (show (170 : Nat) ≠ q by omega), u2_k hp]
      by_cases d : 137 ≤ p ∧ p ≤ 169
      · rw [u2_k (show p - 3 ≠ q by omega)]
      · rw [if_neg d, if_neg d]
  · rw [u2_r hr, event_row hr, event_row hr, u2_r hr]
theorem stop_eq (v : Nat → Nat → Int32) (k : Nat) : mf_stop v k = mf_event (u2 (mf_put (mf_put v k 4 0) k 6 0) 1 4 (if mf_put (mf_put v k 4 0) k 6 0 1 4 = nI k then mf_nextVariable (mf_put (mf_put v k 4 0) k 6 0) else mf_put (mf_put v k 4 0) k 6 0 1 4)) 1 (nI k) := by
  rw [mf_stop, mf_stop_c4, mf_stop_c12]
  split
  · rw [mf_stop_43, mf_stop_c47]
  · rw [mf_stop_43, mf_stop_c47]
theorem cstop_eq (f : Nat → Int32) (k : Nat) : cf_cstop f k = if cf_tell (cf_pstop f k) 1 (nI k) 4 = nI k then cf_cstop_28 f k (cf_pstop f k) (cf_tell (cf_pstop f k) 1 (nI k)) 7 none 0 else cf_tell (cf_pstop f k) 1 (nI k) := by
  rw [cf_cstop, cf_cstop_c1, cf_cstop_c10]
  rfl
theorem pstop_fr {k p : Nat} (h4 : p ≠ 39 + (8 * k) + 4) (h6 : p ≠ 39 + (8 * k) + 6) : cf_pstop f k p = f p := by rw [cf_pstop, pk_un h6, pk_un h4]
theorem sees_tell {kind k : Int32} (he : rg (f 19) 12) : sees (Vf w s f) (cf_tell f kind k) := fun p hp hne => by rw [tell_fr he kind k (by omega) hne]; exact Vf_at hp
/-- stop: what it leaves, and that it is as the reference's -/
theorem E_cstop {k : Nat} (hk : k < np) (hn : np ≤ 6) (hp : nC f 14 = np) (he : rg (f 19) 12) : Vf w s (cf_cstop f k) = mf_stop (Vf w s f) k ∧
    ∃ x, cf_cstop f k = upd (cf_tell (cf_pstop f k) 1 (nI k)) 4 x ∧ (if f 4 = nI k then ∃ o, okP np o ∧ runP (cf_pstop f k) o ∧ x = oI o else x = f 4) := by
  have he1 : rg (cf_pstop f k 19) 12 := pstop_19 he
  have e4 : cf_tell (cf_pstop f k) 1 (nI k) 4 = f 4 := by rw [tell_fr he1 _ _ (by decide) (by decide), pstop_fr (by omega) (by omega)]
  have ev : Vf w s (cf_pstop f k) = mf_put (mf_put (Vf w s f) k 4 0) k 6 0 := E_pstop (by omega)
  have ev4 : mf_put (mf_put (Vf w s f) k 4 0) k 6 0 1 4 = f 4 := by rw [← ev, Vf_at (by decide), pstop_fr (by omega) (by omega)]
  rw [cstop_eq, e4, stop_eq, ev4, ← ev]
  by_cases c : f 4 = nI k
  · rw [if_pos c, if_pos c]
    have hc : nC (cf_tell (cf_pstop f k) 1 (nI k)) 14 = np := by
      unfold nC
      rw [tell_fr he1 _ _ (by decide) (by decide), pstop_fr (by omega) (by omega)]
      exact hp
    obtain ⟨o', h1, h2, h3, h4⟩ := E_next_28 (f := cf_tell (cf_pstop f k) 1 (nI k)) (v := Vf w s (cf_pstop f k)) (sees_tell he1) (f0 := f) (f1 := cf_pstop f k) (k0 := k) hn hc 7 none 0 okP_none (fun j e => by cases e) (by omega) (by omega)
    rw [h3]
    refine ⟨?_, oI o', rfl, (iff_of_eq (if_pos c)).mpr ⟨o', h1, fun j e => ?_, rfl⟩⟩
    · rw [Vf_up (by decide) (by decide) (by decide), E_tell he1]
      have e5 : mf_nextVariable (Vf w s (cf_pstop f k)) = oI o' := by rw [mf_nextVariable]; exact h4
      rw [e5, event_up (by decide) (by decide) (by decide)]
    · have h5 := h2 j e
      have hj := h1 j e
      rw [runs_cong (f := cf_pstop f k) (tell_fr he1 _ _ (by omega) (by omega))] at h5
      refine ⟨h5.1, ?_⟩
      have h6 := isVar_iff.mp h5.2
      rw [tell_fr he1 _ _ (by omega) (by omega)] at h6
      exact isVar_iff.mpr h6
  · rw [if_neg c, if_neg c]
    have e9 : cf_tell (cf_pstop f k) 1 (nI k) = upd (cf_tell (cf_pstop f k) 1 (nI k)) 4 (f 4) := by
      funext p
      by_cases hp : p = 4
      · subst hp; rw [pk_us]; exact e4
      · rw [pk_un hp]
    refine ⟨?_, f 4, e9, (iff_of_eq (if_neg c)).mpr rfl⟩
    rw [E_tell he1]
    have : u2 (Vf w s (cf_pstop f k)) 1 4 (f 4) = Vf w s (cf_pstop f k) := by
      have h : Vf w s (cf_pstop f k) 1 4 = f 4 := by rw [Vf_at (by decide), pstop_fr (by omega) (by omega)]
      rw [← h, u2_same]
    rw [this]
theorem rot_158 (a : Nat → Nat → Int32) (b : Int32 → Nat → Nat → Nat → Int32) (i : Int32) (n : Nat) (d : Nat → Nat → Int32) : mf_rotate_158 a b i n d = d := rfl
theorem rot_c155 (a : Nat → Nat → Int32) (b : Int32 → Nat → Nat → Nat → Int32) (i : Int32) (n : Nat) (d e g : Nat → Nat → Int32) : mf_rotate_c155 a b i n d e g = g := by rw [mf_rotate_c155, rot_158]
theorem rot_c143 (a : Nat → Nat → Int32) (b : Int32 → Nat → Nat → Nat → Int32) (i : Int32) (n : Nat) (d : Nat → Nat → Int32) : mf_rotate_c143 a b i n d = mf_stop (mf_event d 7 i) (tN (a 1 4)) := by rw [mf_rotate_c143, mf_rotate_c150, rot_c155]
theorem E_fresh_4 {k0 : Nat} (hn : np ≤ 6) (hc : nC f 14 = np) (hk0 : tN (f 4) = k0) (h06 : k0 < 6) : ∀ (n : Nat) (o : Option Nat) (k : Nat), okP np o → k ≤ np → np < k + n → okP np (cf_fresh_4 f k0 n o k) ∧
    mf_rotate_42 (Vf w s f) n (oI o) k = if cf_fresh_4 f k0 n o k = none then Vf w s f else mf_stop (mf_event (mf_begins (Vf w s f) ((cf_fresh_4 f k0 n o k).getD 0) (f (39 + (8 * k0) + 4)) true) 7 (oI (cf_fresh_4 f k0 n o k))) k0 := by
  intro n
  induction n with
  | zero => intro o k _ h1 h2; omega
  | succ n ih =>
    intro o k ho hk hkn
    have e4 : Vf w s f 1 4 = f 4 := Vf_at (by decide)
    rw [mf_rotate_42, cf_fresh_4, Vf_n (by decide), hc]
    by_cases c : np ≤ k
    · rw [if_pos c, if_pos c]
      refine ⟨ho, ?_⟩
      by_cases d : o = none
      · rw [if_pos d, if_pos ((oI_m1 ho hn).mpr d), rot_158]
      · rw [if_neg d, if_neg (fun h => d ((oI_m1 ho hn).mp h)), rot_c143, e4, hk0, oI_tN ho hn d, E_of h06 (by decide)]
    · rw [if_neg c, if_neg c, ← E_isReady (by omega), e4, hk0]
      have keep := ih o (k + 1) ho (by omega) (by omega)
      have new := ih (some k) (k + 1) (okP_some (by omega)) (by omega) (by omega)
      have e0 : mf_of (Vf w s f) k 0 = f (39 + (8 * k)) := E_of (by omega) (by decide)
      by_cases c1 : cf_isReady f k = true
      · rw [if_pos c1, if_pos c1, e0]
        by_cases c2 : f (39 + (8 * k)) = 0
        · rw [if_pos c2, if_neg (fun h => isVar_iff.mp h c2)]
          exact keep
        · rw [if_neg c2, if_pos (isVar_iff.mpr c2), E_of h06 (by decide), E_of (by omega) (by decide)]
          by_cases c5 : f (39 + (8 * k0) + 5) ≤ f (39 + (8 * k) + 5)
          · rw [if_pos c5, if_pos c5]
            exact keep
          · rw [if_neg c5, if_neg c5, mf_rotate_90, cf_fresh_61, if_pos rfl, if_pos rfl]
            by_cases c3 : o = none
            · rw [if_pos c3, if_pos ((oI_m1 ho hn).mpr c3)]
              exact new
            · have h9 := okP_getD ho c3
              rw [if_neg c3, if_neg (fun h => c3 ((oI_m1 ho hn).mp h)), oI_tN ho hn c3, E_of (by omega) (by decide), E_of (by omega) (by decide)]
              by_cases c4 : f (39 + (8 * o.getD 0) + 5) ≤ f (39 + (8 * k) + 5)
              · rw [if_pos c4, if_pos c4]
                exact keep
              · rw [if_neg c4, if_neg c4]
                exact new
      · rw [if_neg c1, if_neg c1]
        exact keep
end Q4

