set_option maxRecDepth 100000
/-! QROW: rows of the queue -/
theorem qrf_some {ad : Nat → Nat} {x : Int32} {np : Nat} (h : ∃ j, j < np ∧ x = nI j) (hn : np ≤ 6) : qrf ad x = some (ad (20 + tN x)) := by
  obtain ⟨j, hj, rfl⟩ := h
  have : ¬ nI j = -1 := fun e => nI_pos (n := j) (by omega) (by rw [e]; decide)
  unfold qrf
  rw [if_neg this]
theorem q_lt {x : Int32} {np : Nat} (h : ∃ j, j < np ∧ x = nI j) (hn : np ≤ 6) : tN x < np := by
  obtain ⟨j, hj, rfl⟩ := h
  rw [tN_nI (by omega)]
  exact hj
theorem q_up {f : Nat → Int32} {np nq k j : Nat} (hq : ∀ i, i < nq → ∃ j, j < np ∧ f (180 + i) = nI j) (hj : j < np) : ∀ i, i < nq → ∃ j', j' < np ∧ upd f (180 + k) (nI j) (180 + i) = nI j' := fun i hi => by
  by_cases e : i = k
  · subst e
    exact ⟨j, hj, pk_us⟩
  · rw [pk_un (by omega)]
    exact hq i hi
theorem q_oth {f : Nat → Int32} {np nq p : Nat} {x : Int32} (hq : ∀ i, i < nq → ∃ j, j < np ∧ f (180 + i) = nI j) (hp : p < 180) : ∀ i, i < nq → ∃ j', j' < np ∧ upd f p x (180 + i) = nI j' := fun i hi => by
  rw [pk_un (by omega)]
  exact hq i hi
theorem q_null {f : Nat → Int32} {np nq k n : Nat} {x : Int32} (hq : ∀ i, i < nq → ∃ j, j < np ∧ f (180 + i) = nI j) (h1 : n ≤ k) (h2 : n ≤ nq) : ∀ i, i < n → ∃ j', j' < np ∧ upd f (180 + k) x (180 + i) = nI j' := fun i hi => by
  rw [pk_un (by omega)]
  exact hq i (by omega)
section QROW
variable {p : Program} {l : Launch} {e : Env} {R : Room} {s : State} {m : MethodId} {args : Array Value} {below : List Frame} {meth : Method} {c : Code} {H : Heap} {locs : List Loc} {cells slots : Nat} {Q : State → Prop}
variable {G : mg} {A : Nat → Prop} {M M0 : mh} {cc : ByteArray} {nL pc a : Nat} {ls : Array Slot} {rest : List Value} {own : String} {ad : Nat → Nat} {np ng : Nat} {f : Nat → Int32}
theorem st_qald (X : CallFix p m c cc nL s args lw_all own) (w : mW G A s M H locs) (hM : Sta G ad np ng M0 M f) {n : Nat} (hn : n < 6) (hq : ∃ j, j < np ∧ f (180 + n) = nI j) (hdg : decode cc pc = .ok (.aaload, 1))
    (kk : W p l e R s m args below meth c H locs cells slots Q (F0 m (pc + 1) ls (.ref (ad (20 + tN (f (180 + n)))) :: rest))) : W p l e R s m args below meth c H locs cells slots Q (F0 m pc ls (.int (nI n) :: .ref (ad 18) :: rest)) :=
  mx_aald X w 3 (r := some (ad (20 + tN (f (180 + n))))) hM.a18 rfl n hn (by decide) ((if_pos hn).trans (qrf_some hq hM.n6)) hdg kk
theorem Sta.pany (hM : Sta G ad np ng M0 M f) (w : mW G A s M H locs) {k : Nat} (hk : k < np) : va_Any "java/lang/Object" s H (ad (20 + k)) := by
  rcases hM.pmK hk with h | h | h
  · exact w.any (ci := 4) h.1 rfl q2435
  · exact w.any (ci := 5) h.1 rfl q2434
  · exact w.any (ci := 6) h.1 rfl q2433
theorem Sta.panyAt (hM : Sta G ad np ng M0 M f) {k : Nat} (hk : k < np) : anyAt G M (ad (20 + k)) := by
  rcases hM.pmK hk with h | h | h
  · exact anyAt.of (ci := 4) h.1 rfl q2435
  · exact anyAt.of (ci := 5) h.1 rfl q2434
  · exact anyAt.of (ci := 6) h.1 rfl q2433
theorem Sta.set18 (h : Sta G ad np ng M0 M f) {j : Nat} (hj : j < 6) {x : Int32} {o : Option Nat} (ho : qrf ad x = o) (hx : x = -1 ∨ ∃ i, i < np ∧ x = nI i) : Sta G ad np ng M0 (va_up M (ad 18) (some (mRc (G.1.1 103) 6 (va_up (fun k => if k < 6 then qrf ad (f (180 + k)) else none) j o)))) (upd f (180 + j) x) :=
  h.put0 (by decide) (by decide) (by decide) (by decide) (stO_qu (by omega) (by omega)) ⟨by omega, by omega, by omega, fun k hk => by omega, by omega, by omega⟩ (fun k hk => by
    by_cases e : k = j
    · subst e
      rw [pk_us]
      exact hx
    · rw [pk_un (by omega)]
      exact h.qk k hk) fun nn b9 bx => by
    rw [stC_t (by decide)]
    show mRc _ 6 _ = mRc _ 6 _
    congr 1
    funext k
    by_cases e : k = j
    · subst e
      rw [va_up_self, if_pos hj, pk_us, ho]
    · rw [va_up_ne _ _ e]
      by_cases hk : k < 6
      · rw [if_pos hk, if_pos hk, pk_un (by omega)]
      · rw [if_neg hk, if_neg hk]
theorem st_qast (X : CallFix p m c cc nL s args lw_all own) (w : mW G A s M H locs) (hM : Sta G ad np ng M0 M f) {n k : Nat} (hn : n < 6) (hk : k < np) (hdg : decode cc pc = .ok (.aastore, 1))
    (kk : ∀ (M1 : mh) (H1 : Heap) (locs1 : List Loc), mW G A s M1 H1 locs1 → Sta G ad np ng M0 M1 (upd f (180 + n) (nI k)) → W p l e R s m args below meth c H1 locs1 cells slots Q (F0 m (pc + 1) ls rest)) : W p l e R s m args below meth c H locs cells slots Q (F0 m pc ls (.ref (ad (20 + k)) :: .int (nI n) :: .ref (ad 18) :: rest)) := by
  have hn6 := hM.n6
  refine mx_aastM X w 3 hM.a18 rfl (hM.pany w hk) n hn (by decide) hdg fun H1 locs1 w1 => kk _ H1 locs1 w1 (hM.set18 hn ?_ (Or.inr ⟨k, hk, rfl⟩))
  rw [qrf_some ⟨k, hk, rfl⟩ hn6, tN_nI (by omega)]
theorem st_qastN (X : CallFix p m c cc nL s args lw_all own) (w : mW G A s M H locs) (hM : Sta G ad np ng M0 M f) {n : Nat} (hn : n < 6) (hdg : decode cc pc = .ok (.aastore, 1))
    (kk : ∀ (M1 : mh) (H1 : Heap) (locs1 : List Loc), mW G A s M1 H1 locs1 → Sta G ad np ng M0 M1 (upd f (180 + n) (-1)) → W p l e R s m args below meth c H1 locs1 cells slots Q (F0 m (pc + 1) ls rest)) : W p l e R s m args below meth c H locs cells slots Q (F0 m pc ls (.null :: .int (nI n) :: .ref (ad 18) :: rest)) :=
  mx_aastN X w 3 hM.a18 rfl n hn (by decide) hdg fun H1 locs1 w1 => kk _ H1 locs1 w1 (hM.set18 hn rfl (Or.inl rfl))
end QROW

