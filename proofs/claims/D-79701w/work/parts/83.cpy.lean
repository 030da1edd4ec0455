set_option maxRecDepth 100000
/-! CPY: arrays copied and cloned -/
section CPY
variable {p : Program} {l : Launch} {e : Env} {R : Room} {s : State} {m : MethodId} {args : Array Value} {below : List Frame} {meth : Method} {c : Code} {H : Heap} {locs : List Loc} {cells slots : Nat} {Q : State → Prop}
variable {G : mg} {A : Nat → Prop} {M : mh} {cc : ByteArray} {nL pc a a0 : Nat} {ls : Array Slot} {rest : List Value} {own : String}
theorem mx_cpyq (X : CallFix p m c cc nL s args lw_all own) (w : mW G A s M H locs) {index : Nat} (hlink : Cond.methodLink own index ⟨"java/lang/System", "arraycopy", "(Ljava/lang/Object;ILjava/lang/Object;II)V"⟩ ∈ lw_all) {n : Nat} {f : Nat → Option Nat} (hM : M a = some (mRc (G.1.1 103) n f)) {sp dp k : Nat} (h4 : sp + k ≤ n) (h5 : dp + k ≤ n) (hn : n < 2 ^ 31) (hel : ∀ i, i < k → ∀ y, f (sp + i) = some y → ∃ v, boxAt G M y v)
    (hfr : 1 ≤ R.frames) (hlo : (rest.map fun v => v.category).sum + (nativeFrameWords "java/lang/System" "arraycopy" 5 + 11) ≤ R.locals) (hls : ls.size = nL) (hdg : decode cc pc = .ok (.invokestatic index, 3))
    (kk : ∀ (H1 : Heap) (locs1 : List Loc), mW G A s (va_up M a (some (mRc (G.1.1 103) n (va_cpy f f sp dp k)))) H1 locs1 → W p l e R s m args below meth c H1 locs1 cells slots Q (F0 m (pc + 3) ls rest)) :
    W p l e R s m args below meth c H locs cells slots Q (F0 m pc ls (.int (nI k) :: .int (nI dp) :: .ref a :: .int (nI sp) :: .ref a :: rest)) := by
  obtain ⟨q0, hq⟩ := w.at hM
  have e1 : (nI sp).toNatClampNeg = sp := nI_clamp (by omega)
  have e2 : (nI dp).toNatClampNeg = dp := nI_clamp (by omega)
  have e3 : (nI k).toNatClampNeg = k := nI_clamp (by omega)
  refine va_copyq (C := "java/lang/Integer") X.1 X.2.1 (X.2.2.1.trans hls.symm) X.2.2.2.1 (X.2.2.2.2 _ hlink) (X.2.2.2.2 _ q733) (X.2.2.2.2 _ q732) (X.2.2.2.2 _ q122) w.2.2.2.2.1 w.P w.D w.2.2.2.1 q0 q0 3 3 hq hq rfl rfl (nI_pos (by omega)) (nI_pos (by omega)) (nI_pos (by omega)) (by rw [e1, e3]; exact h4) (by rw [e2, e3]; exact h5) (fun i hi y hy => ?_) (fun comp c0 g1 g2 => vb_asgC (w.tbl q2436 rfl) comp c0 g1 g2) hfr hlo hdg (fun H1 locs1 hP _ hS => ?_)
  · rw [e3] at hi
    rw [e1] at hy
    obtain ⟨v, hv⟩ := hel i hi y hy
    exact w.box hv
  · rw [e1, e2, e3] at hP
    exact kk H1 locs1 (w.set hq hP hS)
theorem mx_cpyi (X : CallFix p m c cc nL s args lw_all own) (w : mW G A s M H locs) {index : Nat} (hlink : Cond.methodLink own index ⟨"java/lang/System", "arraycopy", "(Ljava/lang/Object;ILjava/lang/Object;II)V"⟩ ∈ lw_all) (t0 : Nat) {cA : ClassId} {ty : FieldType} (ht : (mTy G)[t0]? = some (cA, ty)) (hty : refKind ty = false) {n n0 : Nat} {f g : Nat → Int32} (hM0 : M a0 = some (mIc cA n0 f)) (hM : M a = some (mIc cA n g)) {sp dp k : Nat} (h4 : sp + k ≤ n0) (h5 : dp + k ≤ n) (hn : n < 2 ^ 31) (hn0 : n0 < 2 ^ 31) (hfit : ∀ i, i < k → fits ty (.int (f (sp + i))) = true)
    (hfr : 1 ≤ R.frames) (hlo : (rest.map fun v => v.category).sum + (nativeFrameWords "java/lang/System" "arraycopy" 5 + 11) ≤ R.locals) (hls : ls.size = nL) (hdg : decode cc pc = .ok (.invokestatic index, 3))
    (kk : ∀ (H1 : Heap) (locs1 : List Loc), mW G A s (va_up M a (some (mIc cA n (va_cpy f g sp dp k)))) H1 locs1 → W p l e R s m args below meth c H1 locs1 cells slots Q (F0 m (pc + 3) ls rest)) :
    W p l e R s m args below meth c H locs cells slots Q (F0 m pc ls (.int (nI k) :: .int (nI dp) :: .ref a :: .int (nI sp) :: .ref a0 :: rest)) := by
  obtain ⟨q0, hq⟩ := w.at hM
  obtain ⟨q1, hq1⟩ := w.at hM0
  have e1 : (nI sp).toNatClampNeg = sp := nI_clamp (by omega)
  have e2 : (nI dp).toNatClampNeg = dp := nI_clamp (by omega)
  have e3 : (nI k).toNatClampNeg = k := nI_clamp (by omega)
  refine va_copyi X.1 X.2.1 (X.2.2.1.trans hls.symm) X.2.2.2.1 (X.2.2.2.2 _ hlink) (X.2.2.2.2 _ q733) (X.2.2.2.2 _ q732) (X.2.2.2.2 _ q122) w.2.2.2.2.1 w.P w.D w.2.2.2.1 q1 q0 t0 t0 hq1 hq ht ht hty (nI_pos (by omega)) (nI_pos (by omega)) (nI_pos (by omega)) (by rw [e1, e3]; exact h4) (by rw [e2, e3]; exact h5) (fun i hi => ?_) hfr hlo hdg (fun H1 locs1 hP _ hS => ?_)
  · rw [e3] at hi
    rw [e1]
    exact hfit i hi
  · rw [e1, e2, e3] at hP
    exact kk H1 locs1 (w.set hq hP hS)
theorem mx_clonei (X : CallFix p m c cc nL s args lw_all own) (w : mW G A s M H locs) {index : Nat} (hlink : Cond.methodLink own index ⟨"[I", "clone", "()Ljava/lang/Object;"⟩ ∈ lw_all) (hnat : Cond.native ⟨"java/lang/Object", "clone", "()Ljava/lang/Object;"⟩ ∈ lw_all) (hins : Cond.instanceMethod ⟨"java/lang/Object", "clone", "()Ljava/lang/Object;"⟩ ∈ lw_all) {n : Nat} {f : Nat → Int32} (hM : M a = some (mIc (G.1.1 100) n f))
    (hfr : 1 ≤ R.frames) (hlo : (rest.map fun v => v.category).sum + 14 ≤ R.locals) (hc : cells + 1 ≤ R.cells) (hs : slots + n ≤ R.slots) (hls : ls.size = nL) (hdg : decode cc pc = .ok (.invokevirtual index, 3))
    (kk : ∀ (q : Nat) (H1 : Heap), M q = none → mW G A s (va_up M q (some (mIc (G.1.1 100) n f))) H1 locs → W p l e R s m args below meth c H1 locs (cells + 1) (slots + n) Q (F0 m (pc + 3) ls (.ref q :: rest))) :
    W p l e R s m args below meth c H locs cells slots Q (F0 m pc ls (.ref a :: rest)) := by
  obtain ⟨q0, hq⟩ := w.at hM
  exact va_clone (ad := "[I") X.1 X.2.1 (X.2.2.1.trans hls.symm) X.2.2.2.1 (X.2.2.2.2 _ hlink) (X.2.2.2.2 _ q514) (X.2.2.2.2 _ hnat) (X.2.2.2.2 _ hins) (X.2.2.2.2 _ q515) (w.tbl q516 rfl) w.2.2.2.2.1 w.P w.D w.2.2.2.1 w.2.2.1 q0 0 hq rfl (w.2.2.2.2.1.2 0 _ rfl).2 (fun i v hv => by
      have hlt := (Array.getElem?_eq_some_iff.mp hv).1
      have := arrV_read (G.1.1 100) (fun j => .int (f j)) (N := n) (j := i) (by simpa [vp_cell, arrV] using hlt)
      have e : some v = some (Value.int (f i)) := hv.symm.trans this
      cases e
      rfl) hfr hlo hc hs hdg fun q H1 _ hP hD hS => by
    obtain ⟨h1, h2⟩ := w.push hP hD hS
    exact kk q H1 h2 h1
end CPY

