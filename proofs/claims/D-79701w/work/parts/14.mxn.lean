set_option maxRecDepth 100000
/-! MX: new arrays of numbers; Object's constructor -/
section MXNEW
variable {p : Program} {l : Launch} {e : Env} {R : Room} {s : State} {m : MethodId} {args : Array Value} {below : List Frame} {meth : Method} {c : Code} {H : Heap} {locs : List Loc} {cells slots : Nat} {Q : State → Prop}
variable {G : mg} {A : Nat → Prop} {M : mh} {cc : ByteArray} {nL pc : Nat} {ls : Array Slot} {rest : List Value} {own : String}
theorem mx_newI (X : CallFix p m c cc nL s args lw_all own) (w : mW G A s M H locs) (harr : Cond.arrayClass .int ∈ lw_all) {n : Int32} (N : Nat) (hn : n = nI N) (hN : N < 100000000) (hcells : cells + 1 ≤ R.cells) (hslots : slots + N ≤ R.slots) (hdg : decode cc pc = .ok (.newarray .int, 2)) (kk : ∀ (q : Nat) (H1 : Heap), M q = none → mW G A s (va_up M q (some (.inl (G.1.1 100, N, .inl (fun _ => 0))))) H1 locs → W p l e R s m args below meth c H1 locs (cells + 1) (slots + N) Q (F0 m (pc + 2) ls (.ref q :: rest))) : W p l e R s m args below meth c H locs cells slots Q (F0 m pc ls (.int n :: rest)) := by
  subst hn
  refine va_newa (atype := .int) (ty := .int) (N' := N) (a0 := (N, .inl (fun _ => 0))) X.1 X.2.1 (X.2.2.2.2 _ harr) rfl w.2.2.2.2.1 w.P w.D w.2.2.2.1 w.2.2.1 (fun cA => rfl) (nI_pos (by omega)) (nI_clamp (by omega)) (Nat.le_trans (Nat.mul_le_mul_left N (show componentBytes .int ≤ 4 by decide)) (by omega)) hcells hslots hdg fun q cA H1 hK hP hD hS => ?_
  have e : cA = G.1.1 100 := by
    have h1 := (hK.2 (mTy G).length (cA, .int) (by simp)).2
    have h2 := (w.2.2.2.2.1.2 0 _ rfl).2
    exact Option.some.inj (h1.symm.trans h2)
  rw [e] at hP hD
  obtain ⟨h1, h2⟩ := w.push hP hD hS
  exact kk q H1 h2 h1
theorem mx_newZ (X : CallFix p m c cc nL s args lw_all own) (w : mW G A s M H locs) (harr : Cond.arrayClass .boolean ∈ lw_all) {n : Int32} (N : Nat) (hn : n = nI N) (hN : N < 100000000) (hcells : cells + 1 ≤ R.cells) (hslots : slots + N ≤ R.slots) (hdg : decode cc pc = .ok (.newarray .boolean, 2)) (kk : ∀ (q : Nat) (H1 : Heap), M q = none → mW G A s (va_up M q (some (.inl (G.1.1 101, N, .inl (fun _ => 0))))) H1 locs → W p l e R s m args below meth c H1 locs (cells + 1) (slots + N) Q (F0 m (pc + 2) ls (.ref q :: rest))) : W p l e R s m args below meth c H locs cells slots Q (F0 m pc ls (.int n :: rest)) := by
  subst hn
  refine va_newa (atype := .boolean) (ty := .boolean) (N' := N) (a0 := (N, .inl (fun _ => 0))) X.1 X.2.1 (X.2.2.2.2 _ harr) rfl w.2.2.2.2.1 w.P w.D w.2.2.2.1 w.2.2.1 (fun cA => rfl) (nI_pos (by omega)) (nI_clamp (by omega)) (Nat.le_trans (Nat.mul_le_mul_left N (show componentBytes .boolean ≤ 4 by decide)) (by omega)) hcells hslots hdg fun q cA H1 hK hP hD hS => ?_
  have e : cA = G.1.1 101 := by
    have h1 := (hK.2 (mTy G).length (cA, .boolean) (by simp)).2
    have h2 := (w.2.2.2.2.1.2 1 _ rfl).2
    exact Option.some.inj (h1.symm.trans h2)
  rw [e] at hP hD
  obtain ⟨h1, h2⟩ := w.push hP hD hS
  exact kk q H1 h2 h1
theorem mx_newB (X : CallFix p m c cc nL s args lw_all own) (w : mW G A s M H locs) (harr : Cond.arrayClass .byte ∈ lw_all) {n : Int32} (N : Nat) (hn : n = nI N) (hN : N < 100000000) (hcells : cells + 1 ≤ R.cells) (hslots : slots + N ≤ R.slots) (hdg : decode cc pc = .ok (.newarray .byte, 2)) (kk : ∀ (q : Nat) (H1 : Heap), M q = none → mW G A s (va_up M q (some (.inl (G.1.1 102, N, .inl (fun _ => 0))))) H1 locs → W p l e R s m args below meth c H1 locs (cells + 1) (slots + N) Q (F0 m (pc + 2) ls (.ref q :: rest))) : W p l e R s m args below meth c H locs cells slots Q (F0 m pc ls (.int n :: rest)) := by
  subst hn
  refine va_newa (atype := .byte) (ty := .byte) (N' := N) (a0 := (N, .inl (fun _ => 0))) X.1 X.2.1 (X.2.2.2.2 _ harr) rfl w.2.2.2.2.1 w.P w.D w.2.2.2.1 w.2.2.1 (fun cA => rfl) (nI_pos (by omega)) (nI_clamp (by omega)) (Nat.le_trans (Nat.mul_le_mul_left N (show componentBytes .byte ≤ 4 by decide)) (by omega)) hcells hslots hdg fun q cA H1 hK hP hD hS => ?_
  have e : cA = G.1.1 102 := by
    have h1 := (hK.2 (mTy G).length (cA, .byte) (by simp)).2
    have h2 := (w.2.2.2.2.1.2 2 _ rfl).2
    exact Option.some.inj (h1.symm.trans h2)
  rw [e] at hP hD
  obtain ⟨h1, h2⟩ := w.push hP hD hS
  exact kk q H1 h2 h1
end MXNEW
def mdZ : List Value := [.null, .null, .int 0, .null, .int 0, .null, .int 0, .int 0, .int 0, .int 0, .int 0, .int 0, .int 0]
theorem va_up_s {M : mh} {a : Nat} {e : Option va_E} : va_up M a e a = e := by simp [va_up]
theorem va_up_k {M : mh} {a b : Nat} {e : Option va_E} (h : b ≠ a) : va_up M a e b = M b := by simp [va_up, h]
