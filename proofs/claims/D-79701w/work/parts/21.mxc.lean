set_option maxRecDepth 100000
/-! MXC: more rows over one abstract heap: references, truths, bytes, statics, casts, boxes; a contract over a kind of worlds -/
abbrev mRc (cA : ClassId) (n : Nat) (f : Nat → Option Nat) : va_E := .inl (cA, n, .inr (.inr (.inr (.inr f))))
abbrev mIc (cA : ClassId) (n : Nat) (f : Nat → Int32) : va_E := .inl (cA, n, .inl f)
section MXC
variable {p : Program} {l : Launch} {e : Env} {R : Room} {s : State} {m : MethodId} {args : Array Value} {below : List Frame} {meth : Method} {c : Code} {H : Heap} {locs : List Loc} {cells slots : Nat} {Q : State → Prop}
variable {G : mg} {A : Nat → Prop} {M : mh} {cc : ByteArray} {nL pc a : Nat} {ls : Array Slot} {rest : List Value} {own : String}
theorem mW.tbl (w : mW G A s M H locs) {x : Cond} (h : x ∈ lw_tbl) (hk : kwOk x = true) : va_Nw x s := w.2.2.2.2.2.1 x h hk
theorem mW.tblB (w : mW G A s M H locs) {x : Cond} (h : x ∈ lw_tbl) (hk : kwOk x = true) (ho : x.onTables = true) : x.before args s = true := va_Nw.use ho (w.tbl h hk)
theorem mW.at_cls (w : mW G A s M H locs) {t0 : Nat} {cA cB : ClassId} {ty : FieldType} (ht : (mTy G)[t0]? = some (cA, ty)) (hR : va_RA s cB ty) : cB = cA := by
  have h2 := (w.2.2.2.2.1.2 t0 _ ht).2
  unfold va_RA at hR h2
  cases ty <;> first
    | exact Option.some.inj (hR.symm.trans h2)
    | (obtain ⟨_, _, _, _, _, h1⟩ := hR; obtain ⟨_, _, _, _, _, h3⟩ := h2; exact Option.some.inj (h1.symm.trans h3))
theorem mx_aald (X : CallFix p m c cc nL s args lw_all own) (w : mW G A s M H locs) (t0 : Nat) {cA : ClassId} {C : String} {n : Nat} {f : Nat → Option Nat} (hM : M a = some (mRc cA n f)) (ht : (mTy G)[t0]? = some (cA, .object C)) (j : Nat) (hj : j < n) (hn : n < 2 ^ 31) {r : Option Nat} (hr : f j = r) (hdg : decode cc pc = .ok (.aaload, 1))
    (kk : W p l e R s m args below meth c H locs cells slots Q (F0 m (pc + 1) ls (va_rf r :: rest))) : W p l e R s m args below meth c H locs cells slots Q (F0 m pc ls (.int (nI j) :: .ref a :: rest)) := by
  obtain ⟨q0, hq⟩ := w.at hM
  refine va_aldq X.1 X.2.1 w.2.2.2.2.1 w.P q0 t0 hq ht (vp_in_nI hj hn) hdg ?_
  rw [nI_clamp (by omega), hr]
  exact kk
theorem mW.recv0 (w : mW G A s M H locs) {b ci : Nat} {C : String} {T : u_T} {N : Nat} {fs : List Value} (hM : M b = some (.inr (ci, fs))) (hc : vwCl[ci]? = some (C, T, N)) : ∃ cell : Cell, H[b]? = some cell ∧ cell.vm.isStatics = false ∧ s.vm.findClass C = some cell.cls := by
  obtain ⟨q0, hq⟩ := w.at hM
  exact va_recv w.2.2.2.2.1 w.P hc hq
theorem va_Any.of {E C : String} {b : Nat} (hr : ∃ cell : Cell, H[b]? = some cell ∧ cell.vm.isStatics = false ∧ s.vm.findClass C = some cell.cls) (hk : ∃ cC : ClassId, ClassAt s C cC) (hca : va_Nw (.castable C E) s) : va_Any E s H b := by
  obtain ⟨cell, h1, h2, h3⟩ := hr
  obtain ⟨cC, hk1, kC, hk2, -⟩ := hk
  obtain ⟨c0, t0, f1, f2, f3⟩ := Cond.castable_spec (va_Nw.use (A := #[]) rfl hca)
  cases h3.symm.trans f1
  cases h3.symm.trans hk1
  exact ⟨cell, h1, h2, ⟨kC, hk2⟩, fun comp hc => by cases hc.symm.trans f2; exact f3⟩
theorem mW.any (w : mW G A s M H locs) {E C : String} {b ci : Nat} {T : u_T} {N : Nat} {fs : List Value} (hM : M b = some (.inr (ci, fs))) (hc : vwCl[ci]? = some (C, T, N)) (hca : Cond.castable C E ∈ lw_tbl) : va_Any E s H b := by
  obtain ⟨q0, hq⟩ := w.at hM
  refine va_rAny w.2.2.2.2.1 w.P hq hc fun comp c0 h1 h2 => ?_
  obtain ⟨c1, t1, f1, f2, f3⟩ := Cond.castable_spec (va_Nw.use (A := #[]) rfl (w.tbl hca rfl))
  cases h1.symm.trans f2
  cases h2.symm.trans f1
  exact f3
theorem mx_aastM (X : CallFix p m c cc nL s args lw_all own) (w : mW G A s M H locs) (t0 : Nat) {cA : ClassId} {E : String} {n v : Nat} {f : Nat → Option Nat} (hM : M a = some (mRc cA n f)) (ht : (mTy G)[t0]? = some (cA, .object E)) (hv : va_Any E s H v) (j : Nat) (hj : j < n) (hn : n < 2 ^ 31) (hdg : decode cc pc = .ok (.aastore, 1))
    (kk : ∀ (H1 : Heap) (locs1 : List Loc), mW G A s (va_up M a (some (mRc cA n (va_up f j (some v))))) H1 locs1 → W p l e R s m args below meth c H1 locs1 cells slots Q (F0 m (pc + 1) ls rest)) : W p l e R s m args below meth c H locs cells slots Q (F0 m pc ls (.ref v :: .int (nI j) :: .ref a :: rest)) := by
  obtain ⟨q0, hq⟩ := w.at hM
  refine va_astqM X.1 X.2.1 w.2.2.2.2.1 w.P w.D w.2.2.2.1 q0 t0 hq ht hv (vp_in_nI hj hn) hdg fun H1 locs1 hP _ hS => ?_
  rw [nI_clamp (by omega)] at hP
  exact kk H1 locs1 (w.set hq hP hS)
theorem mx_aastN (X : CallFix p m c cc nL s args lw_all own) (w : mW G A s M H locs) (t0 : Nat) {cA : ClassId} {E : String} {n : Nat} {f : Nat → Option Nat} (hM : M a = some (mRc cA n f)) (ht : (mTy G)[t0]? = some (cA, .object E)) (j : Nat) (hj : j < n) (hn : n < 2 ^ 31) (hdg : decode cc pc = .ok (.aastore, 1))
    (kk : ∀ (H1 : Heap) (locs1 : List Loc), mW G A s (va_up M a (some (mRc cA n (va_up f j none)))) H1 locs1 → W p l e R s m args below meth c H1 locs1 cells slots Q (F0 m (pc + 1) ls rest)) : W p l e R s m args below meth c H locs cells slots Q (F0 m pc ls (.null :: .int (nI j) :: .ref a :: rest)) := by
  obtain ⟨q0, hq⟩ := w.at hM
  refine va_astqN X.1 X.2.1 w.2.2.2.2.1 w.P w.D w.2.2.2.1 q0 t0 hq ht (vp_in_nI hj hn) hdg fun H1 locs1 hP _ hS => ?_
  rw [nI_clamp (by omega)] at hP
  exact kk H1 locs1 (w.set hq hP hS)
theorem mx_zald (X : CallFix p m c cc nL s args lw_all own) (w : mW G A s M H locs) {n : Nat} {f : Nat → Int32} (hM : M a = some (mIc (G.1.1 101) n f)) (j : Nat) (hj : j < n) (hn : n < 2 ^ 31) (hdg : decode cc pc = .ok (.baload, 1))
    (kk : W p l e R s m args below meth c H locs cells slots Q (F0 m (pc + 1) ls (.int (f j) :: rest))) : W p l e R s m args below meth c H locs cells slots Q (F0 m pc ls (.int (nI j) :: .ref a :: rest)) := by
  obtain ⟨q0, hq⟩ := w.at hM
  refine va_zald X.1 X.2.1 w.2.2.2.2.1 w.P q0 1 hq rfl (vp_in_nI hj hn) hdg ?_
  rw [nI_clamp (by omega)]
  exact kk
theorem mx_zast (X : CallFix p m c cc nL s args lw_all own) (w : mW G A s M H locs) {n : Nat} {f : Nat → Int32} (hM : M a = some (mIc (G.1.1 101) n f)) (j : Nat) (hj : j < n) (hn : n < 2 ^ 31) {x : Int32} (hx : vp_nar .boolean x = x) (hdg : decode cc pc = .ok (.bastore, 1))
    (kk : ∀ (H1 : Heap) (locs1 : List Loc), mW G A s (va_up M a (some (mIc (G.1.1 101) n (upd f j x)))) H1 locs1 → W p l e R s m args below meth c H1 locs1 cells slots Q (F0 m (pc + 1) ls rest)) : W p l e R s m args below meth c H locs cells slots Q (F0 m pc ls (.int x :: .int (nI j) :: .ref a :: rest)) := by
  obtain ⟨q0, hq⟩ := w.at hM
  refine va_zast X.1 X.2.1 w.2.2.2.2.1 w.P w.D w.2.2.2.1 q0 1 hq rfl (vp_in_nI hj hn) hdg fun H1 locs1 hP _ hS => ?_
  rw [nI_clamp (by omega), hx] at hP
  exact kk H1 locs1 (w.set hq hP hS)
theorem mx_bald (X : CallFix p m c cc nL s args lw_all own) (w : mW G A s M H locs) {n : Nat} {f : Nat → Int32} (hM : M a = some (mIc (G.1.1 102) n f)) (j : Nat) (hj : j < n) (hn : n < 2 ^ 31) (hdg : decode cc pc = .ok (.baload, 1))
    (kk : W p l e R s m args below meth c H locs cells slots Q (F0 m (pc + 1) ls (.int (f j) :: rest))) : W p l e R s m args below meth c H locs cells slots Q (F0 m pc ls (.int (nI j) :: .ref a :: rest)) := by
  obtain ⟨q0, hq⟩ := w.at hM
  refine va_bald X.1 X.2.1 w.2.2.2.2.1 w.P q0 2 hq rfl (vp_in_nI hj hn) hdg ?_
  rw [nI_clamp (by omega)]
  exact kk
theorem mx_bast (X : CallFix p m c cc nL s args lw_all own) (w : mW G A s M H locs) {n : Nat} {f : Nat → Int32} (hM : M a = some (mIc (G.1.1 102) n f)) (j : Nat) (hj : j < n) (hn : n < 2 ^ 31) {x : Int32} (hx : vp_nar .byte x = x) (hdg : decode cc pc = .ok (.bastore, 1))
    (kk : ∀ (H1 : Heap) (locs1 : List Loc), mW G A s (va_up M a (some (mIc (G.1.1 102) n (upd f j x)))) H1 locs1 → W p l e R s m args below meth c H1 locs1 cells slots Q (F0 m (pc + 1) ls rest)) : W p l e R s m args below meth c H locs cells slots Q (F0 m pc ls (.int x :: .int (nI j) :: .ref a :: rest)) := by
  obtain ⟨q0, hq⟩ := w.at hM
  refine va_bast X.1 X.2.1 w.2.2.2.2.1 w.P w.D w.2.2.2.1 q0 2 hq rfl (vp_in_nI hj hn) hdg fun H1 locs1 hP _ hS => ?_
  rw [nI_clamp (by omega), hx] at hP
  exact kk H1 locs1 (w.set hq hP hS)
theorem mx_newQ (X : CallFix p m c cc nL s args lw_all own) (w : mW G A s M H locs) (t0 : Nat) {cA : ClassId} {C : String} {index : Nat} (hclink : Cond.classLink own index C ∈ lw_all) (hC : C ∈ kcArr) (ht : (mTy G)[t0]? = some (cA, .object C)) {n : Int32} (N : Nat) (hn : n = nI N) (hN : N < 100000000) (hcells : cells + 1 ≤ R.cells) (hslots : slots + N ≤ R.slots) (hdg : decode cc pc = .ok (.anewarray index, 3))
    (kk : ∀ (q : Nat) (H1 : Heap), M q = none → mW G A s (va_up M q (some (mRc cA N (fun _ => none)))) H1 locs → W p l e R s m args below meth c H1 locs (cells + 1) (slots + N) Q (F0 m (pc + 3) ls (.ref q :: rest))) : W p l e R s m args below meth c H locs cells slots Q (F0 m pc ls (.int n :: rest)) := by
  subst hn
  refine va_newq X.1 X.2.1 X.2.2.2.1 (X.2.2.2.2 _ hclink) (w.2.2.2.2.2.2.1 C hC) w.2.2.2.2.1 w.P w.D w.2.2.2.1 w.2.2.1 (N' := N) (nI_pos (by omega)) (nI_clamp (by omega)) (by omega) hcells hslots hdg fun q cB H1 hK hP hD hS => ?_
  have e : cB = cA := w.at_cls ht (hK.2 (mTy G).length (cB, .object C) (by simp)).2
  rw [e] at hP hD
  obtain ⟨h1, h2⟩ := w.push hP hD hS
  exact kk q H1 h2 h1
theorem mx_gets (X : CallFix p m c cc nL s args lw_all own) (w : mW G A s M H locs) {C n d ref : String} {v : Value} {index : Nat} (hz : (C, n, d, v) ∈ kcZ G) (hlink : Cond.fieldLink own index ref n d ∈ lw_all) (hsame : ∀ x, s.fieldFound? C n d = some x → s.fieldFound? ref n d = some x) (hdg : decode cc pc = .ok (.getstatic index, 3))
    (kk : W p l e R s m args below meth c H locs cells slots Q (F0 m (pc + 3) ls (v :: rest))) : W p l e R s m args below meth c H locs cells slots Q (F0 m pc ls rest) := by
  obtain ⟨cf, kf, fi, f, a, cell, h1, h2, h3, h4, h5, h6, h7, h8⟩ := w.2.2.2.2.2.2.2.2.1 _ hz
  exact W.gets X.1 X.2.1 X.2.2.2.1 (X.2.2.2.2 _ hlink) (hsame _ h1) h2 h3 h4 h5 (fun e => by rw [e] at h6; cases h6) h7 rfl hdg kk
/-- casts -/
theorem mx_castS (X : CallFix p m c cc nL s args lw_all own) {nm : String} {index : Nat} (hlink : Cond.classLink own index nm ∈ lw_all) (hk : ∃ cC, ClassAt s nm cC) (hr : ∃ cell : Cell, H[a]? = some cell ∧ cell.vm.isStatics = false ∧ s.vm.findClass nm = some cell.cls) (hdg : decode cc pc = .ok (.checkcast index, 3))
    (kk : W p l e R s m args below meth c H locs cells slots Q (F0 m (pc + 3) ls (.ref a :: rest))) : W p l e R s m args below meth c H locs cells slots Q (F0 m pc ls (.ref a :: rest)) := by
  obtain ⟨cC, hc⟩ := hk
  exact va_castS X.1 X.2.1 X.2.2.2.1 (X.2.2.2.2 _ hlink) hc hr hdg kk
theorem mW.cls0 (w : mW G A s M H locs) {ci : Nat} {C : String} {T : u_T} {N : Nat} (hc : vwCl[ci]? = some (C, T, N)) : ∃ cC, ClassAt s C cC := ⟨_, (w.2.2.2.2.1.1 ci _ hc).2⟩
theorem mx_castM (X : CallFix p m c cc nL s args lw_all own) (w : mW G A s M H locs) {nm : String} {index ci : Nat} {T : u_T} {N : Nat} {fs : List Value} (hlink : Cond.classLink own index nm ∈ lw_all) (hc : vwCl[ci]? = some (nm, T, N)) (hM : M a = some (.inr (ci, fs))) (hdg : decode cc pc = .ok (.checkcast index, 3))
    (kk : W p l e R s m args below meth c H locs cells slots Q (F0 m (pc + 3) ls (.ref a :: rest))) : W p l e R s m args below meth c H locs cells slots Q (F0 m pc ls (.ref a :: rest)) :=
  mx_castS X hlink (w.cls0 hc) (w.recv0 hM hc) hdg kk
theorem mx_castU (X : CallFix p m c cc nL s args lw_all own) (w : mW G A s M H locs) {nm C : String} {index ci : Nat} {T : u_T} {N : Nat} {fs : List Value} (hlink : Cond.classLink own index nm ∈ lw_all) (hc : vwCl[ci]? = some (C, T, N)) (hca : Cond.castable C nm ∈ lw_tbl) (hM : M a = some (.inr (ci, fs))) (hdg : decode cc pc = .ok (.checkcast index, 3))
    (kk : W p l e R s m args below meth c H locs cells slots Q (F0 m (pc + 3) ls (.ref a :: rest))) : W p l e R s m args below meth c H locs cells slots Q (F0 m pc ls (.ref a :: rest)) :=
  va_castY X.1 X.2.1 X.2.2.2.1 (X.2.2.2.2 _ hlink) (w.tbl hca rfl) (w.recv0 hM hc) hdg kk
theorem mx_instS (X : CallFix p m c cc nL s args lw_all own) (w : mW G A s M H locs) {nm : String} {index ci : Nat} {T : u_T} {N : Nat} {fs : List Value} (hlink : Cond.classLink own index nm ∈ lw_all) (hc : vwCl[ci]? = some (nm, T, N)) (hM : M a = some (.inr (ci, fs))) (hdg : decode cc pc = .ok (.instanceof index, 3))
    (kk : W p l e R s m args below meth c H locs cells slots Q (F0 m (pc + 3) ls (.int 1 :: rest))) : W p l e R s m args below meth c H locs cells slots Q (F0 m pc ls (.ref a :: rest)) := by
  obtain ⟨cC, hk⟩ := w.cls0 hc
  exact va_instS X.1 X.2.1 X.2.2.2.1 (X.2.2.2.2 _ hlink) hk (w.recv0 hM hc) hdg kk
theorem mx_instU (X : CallFix p m c cc nL s args lw_all own) (w : mW G A s M H locs) {nm C : String} {index ci : Nat} {T : u_T} {N : Nat} {fs : List Value} (hlink : Cond.classLink own index nm ∈ lw_all) (hc : vwCl[ci]? = some (C, T, N)) (hca : Cond.castable C nm ∈ lw_tbl) (hM : M a = some (.inr (ci, fs))) (hdg : decode cc pc = .ok (.instanceof index, 3))
    (kk : W p l e R s m args below meth c H locs cells slots Q (F0 m (pc + 3) ls (.int 1 :: rest))) : W p l e R s m args below meth c H locs cells slots Q (F0 m pc ls (.ref a :: rest)) :=
  va_instY X.1 X.2.1 X.2.2.2.1 (X.2.2.2.2 _ hlink) (w.tbl hca rfl) (w.recv0 hM hc) hdg kk
theorem mx_instN (X : CallFix p m c cc nL s args lw_all own) (w : mW G A s M H locs) {nm C : String} {index ci : Nat} {T : u_T} {N : Nat} {fs : List Value} (hlink : Cond.classLink own index nm ∈ lw_all) (hc : vwCl[ci]? = some (C, T, N)) (hno : (C, nm) ∈ kcNo) (hM : M a = some (.inr (ci, fs))) (hdg : decode cc pc = .ok (.instanceof index, 3))
    (kk : W p l e R s m args below meth c H locs cells slots Q (F0 m (pc + 3) ls (.int 0 :: rest))) : W p l e R s m args below meth c H locs cells slots Q (F0 m pc ls (.ref a :: rest)) :=
  va_instNo X.1 X.2.1 X.2.2.2.1 (X.2.2.2.2 _ hlink) (w.2.2.2.2.2.2.2.1 _ hno) (w.recv0 hM hc) hdg kk
/-- an Integer that holds v: a cell of the world, or one of the cache -/
def boxAt (G : mg) (M : mh) (y : Nat) (v : Int32) : Prop := M y = some (.inr (14, [.int v])) ∨ ∃ k : Nat, k < 256 ∧ y = G.2 (300 + k) ∧ v = vb_c k
theorem mW.box (w : mW G A s M H locs) {y : Nat} {v : Int32} (hy : boxAt G M y v) : ∃ cell : Cell, H[y]? = some cell ∧ cell.vm.isStatics = false ∧ s.vm.findClass "java/lang/Integer" = some cell.cls := by
  rcases hy with hy | ⟨k, hk, rfl, -⟩
  · exact w.recv0 hy rfl
  · obtain ⟨cell, h1, h2, h3, -⟩ := w.2.2.2.2.2.2.2.2.2.1.1 k hk
    exact ⟨cell, h1, h2, h3⟩
theorem mx_boxcast (X : CallFix p m c cc nL s args lw_all own) (w : mW G A s M H locs) {index : Nat} {v : Int32} (hlink : Cond.classLink own index "java/lang/Integer" ∈ lw_all) (hy : boxAt G M a v) (hdg : decode cc pc = .ok (.checkcast index, 3))
    (kk : W p l e R s m args below meth c H locs cells slots Q (F0 m (pc + 3) ls (.ref a :: rest))) : W p l e R s m args below meth c H locs cells slots Q (F0 m pc ls (.ref a :: rest)) :=
  mx_castS X hlink (w.cls0 (ci := 14) rfl) (w.box hy) hdg kk
theorem mx_boxget (X : CallFix p m c cc nL s args lw_all own) (w : mW G A s M H locs) {index : Nat} {v : Int32} (hlink : Cond.fieldLink own index "java/lang/Integer" "value" "I" ∈ lw_all) (hin : ∀ w ∈ u_ws RJ18 TJ18 1, w ∈ lw_all) (hy : boxAt G M a v) (hdg : decode cc pc = .ok (.getfield index, 3))
    (kk : W p l e R s m args below meth c H locs cells slots Q (F0 m (pc + 3) ls (.int v :: rest))) : W p l e R s m args below meth c H locs cells slots Q (F0 m pc ls (.ref a :: rest)) := by
  rcases hy with hy | ⟨k, hk, rfl, rfl⟩
  · exact mx_get (T := TJ18) X w hin (ci := 14) rfl 0 (by decide) hlink (fun _ h => h) hy rfl hdg kk
  · obtain ⟨cf, kc, i, f, cell, h1, h2, h3, h4, h5, h6⟩ := w.2.2.2.2.2.2.2.2.2.1.2 k hk
    exact W.getf X.1 X.2.1 X.2.2.2.1 (X.2.2.2.2 _ hlink) h1 h2 h3 h4 (v := .int (vb_c k)) h5 rfl rfl hdg kk
theorem mW.boxAny (w : mW G A s M H locs) {y : Nat} {v : Int32} (hy : boxAt G M y v) : va_Any "java/lang/Object" s H y :=
  va_Any.of (w.box hy) (w.cls0 (ci := 14) rfl) (w.tbl q2436 rfl)
end MXC
/-! MXD: rows for the JDK's methods: constants, returns, new objects' values -/
def anyAt (G : mg) (M : mh) (x : Nat) : Prop := (∃ (ci : Nat) (fs : List Value) (C : String) (T : u_T) (N : Nat), M x = some (.inr (ci, fs)) ∧ vwCl[ci]? = some (C, T, N) ∧ Cond.castable C "java/lang/Object" ∈ lw_tbl) ∨ ∃ k : Nat, k < 256 ∧ x = G.2 (300 + k)
section MXD
variable {p : Program} {l : Launch} {e : Env} {R : Room} {s : State} {m : MethodId} {args : Array Value} {below : List Frame} {meth : Method} {c : Code} {H : Heap} {locs : List Loc} {cells slots : Nat} {Q : State → Prop}
variable {G : mg} {A : Nat → Prop} {M : mh} {cc : ByteArray} {nL pc a : Nat} {ls : Array Slot} {rest : List Value} {own : String}
theorem anyAt.of {x ci : Nat} {fs : List Value} {C : String} {T : u_T} {N : Nat} (h : M x = some (.inr (ci, fs))) (hc : vwCl[ci]? = some (C, T, N)) (hq : Cond.castable C "java/lang/Object" ∈ lw_tbl) : anyAt G M x := Or.inl ⟨ci, fs, C, T, N, h, hc, hq⟩
theorem boxAt.any {x : Nat} {v : Int32} (h : boxAt G M x v) : anyAt G M x := by
  rcases h with h | ⟨k, hk, rfl, -⟩
  · exact anyAt.of h rfl q2436
  · exact Or.inr ⟨k, hk, rfl⟩
theorem anyAt.up_o {x a ci : Nat} {fs fs' : List Value} (h : anyAt G M x) (ha : M a = some (.inr (ci, fs))) : anyAt G (va_up M a (some (.inr (ci, fs')))) x := by
  rcases h with ⟨ci', fs0, C, T, N, h1, h2, h3⟩ | h
  · by_cases e : x = a
    · subst e
      cases ha.symm.trans h1
      exact Or.inl ⟨ci, fs', C, T, N, va_up_s, h2, h3⟩
    · exact Or.inl ⟨ci', fs0, C, T, N, (va_up_k e).trans h1, h2, h3⟩
  · exact Or.inr h
theorem anyAt.up_a {x a : Nat} {y : ClassId × vp_A} {e' : Option va_E} (h : anyAt G M x) (ha : M a = some (.inl y)) : anyAt G (va_up M a e') x := by
  rcases h with ⟨ci', fs0, C, T, N, h1, h2, h3⟩ | h
  · by_cases e : x = a
    · subst e
      cases ha.symm.trans h1
    · exact Or.inl ⟨ci', fs0, C, T, N, (va_up_k e).trans h1, h2, h3⟩
  · exact Or.inr h
theorem anyAt.up_n {x a : Nat} {e' : Option va_E} (h : anyAt G M x) (ha : M a = none) : anyAt G (va_up M a e') x := by
  rcases h with ⟨ci', fs0, C, T, N, h1, h2, h3⟩ | h
  · by_cases e : x = a
    · subst e
      cases ha.symm.trans h1
    · exact Or.inl ⟨ci', fs0, C, T, N, (va_up_k e).trans h1, h2, h3⟩
  · exact Or.inr h
theorem mW.anyAt {x : Nat} (w : mW G A s M H locs) (h : anyAt G M x) : va_Any "java/lang/Object" s H x := by
  rcases h with ⟨ci', fs0, C, T, N, h1, h2, h3⟩ | ⟨k, hk, rfl⟩
  · exact w.any h1 h2 h3
  · exact w.boxAny (Or.inr ⟨k, hk, rfl, rfl⟩)
theorem mx_alen0 (X : CallFix p m c cc nL s args lw_all own) (w : mW G A s M H locs) (hdg : decode cc pc = .ok (.arraylength, 1))
    (kk : W p l e R s m args below meth c H locs cells slots Q (F0 m (pc + 1) ls (.int 0 :: rest))) : W p l e R s m args below meth c H locs cells slots Q (F0 m pc ls (.ref (G.2 0) :: rest)) := by
  obtain ⟨cell, h1, h2, h3, h4, h5, h6, h7⟩ := w.2.2.2.2.2.2.2.2.2.2.2.1
  exact W.alen (n := Int32.ofNat 0) X.1 X.2.1 h1 h2 h5 rfl rfl hdg kk
theorem lw_SU {own : String} {idx : Nat} {y : MethodName} {b : ByteArray} {L : Nat} {r : Option FieldType} (h1 : Cond.methodLink own idx y ∈ lw_all) (h2 : Cond.sameMethod y.cls y.cls y.name y.desc ∈ lw_all) (h3 : Cond.superclass own y.cls ∈ lw_all) (h4 : Cond.instanceMethod y ∈ lw_all) (h5 : Cond.initialized y.cls ∈ lw_all) (h6 : Cond.code y b L r ∈ lw_all) : GoodIn lw_all (va_wsSU own idx y (ws_ y b L r)) :=
  lw_app (fun w h => by
    simp only [List.mem_cons, List.not_mem_nil, or_false] at h
    rcases h with rfl | rfl | rfl | rfl | rfl <;> assumption) (lw_meth h6)
end MXD
section MXE
variable {l : Launch} {y : MethodName} {cc : ByteArray} {maxL mc ms : Nat} {rm : Room} {P : mh → Prop} {As : List Value} {G : mg} {A : Nat → Prop}
theorem mx_ofx {post : Int32 → mh → Prop} {ty : FieldType} (hz : ∀ v M, post v M → narrow ty (.int v) = .int v) (hy : plainName y.cls = true) (hn : (lg_sl As).length ≤ maxL)
    (body : mxB l y cc maxL rm P As G A (fun p e R s m av below meth c Q => ∀ (r : Int32) (M : mh) (H : Heap) (locs : List Loc) (ls : Array Slot) (pc : Nat), decode cc pc = .ok (.ireturn, 1) → post r M → mW G A s M H locs → W p l e R s m av below meth c H locs mc ms Q (F0 m pc ls [.int r]))) :
    Met l y (ws_ y cc maxL (some ty)) rm (va_Pc As (mU G A P)) (mQi G A post) mc ms A := by
  refine Met.ofW (cc := cc) (maxL := maxL) (ret := some ty) hy rfl ?_
  intro p e s m args below meth c s₁ B hml hv
  obtain ⟨rfl, hv⟩ := hv
  obtain ⟨M, hM, w⟩ := mW.start hv
  have hl := lv_entry As (n := maxL) hn
  rw [lg_entry_eq]
  exact body p e _ s m _ below meth c M s.heap _ _ ⟨B.exec, B.bytes, hml, findClass_of_methodNamed B.named, fun w h => atoms_spec (ws := ws_ y cc maxL (some ty)) B.pre w (List.mem_cons_of_mem _ h)⟩ rfl rfl rfl rfl (name_of_methodNamed B.named B.method).1 hM w (fun r M H locs ls pc hd hp w => mx_zret w B.exec B.bytes B.returns (hz _ _ hp) hp hd B.notSynchronized) hl
end MXE
theorem vz_X0 : ∀ j, j < 3 → defaultValue (tyX0 j) = vp_V [.null, .null, .null] j
  | 0, _ => rfl
  | 1, _ => rfl
  | 2, _ => rfl
  | _ + 3, h => absurd h (by omega)
theorem vz_X1 : ∀ j, j < 30 → defaultValue (tyX1 j) = vp_V [.null, .null, .null, .null, .null, .int 0, .null, .null, .null, .null, .null, .null, .null, .null, .int 0, .null, .int 0, .int 0, .int 0, .int 0, .int 0, .int 0, .int 0, .int 0, .int 0, .int 0, .int 0, .int 0, .int 0, .int 0] j
  | 0, _ => rfl
  | 1, _ => rfl
  | 2, _ => rfl
  | 3, _ => rfl
  | 4, _ => rfl
  | 5, _ => rfl
  | 6, _ => rfl
  | 7, _ => rfl
  | 8, _ => rfl
  | 9, _ => rfl
  | 10, _ => rfl
  | 11, _ => rfl
  | 12, _ => rfl
  | 13, _ => rfl
  | 14, _ => rfl
  | 15, _ => rfl
  | 16, _ => rfl
  | 17, _ => rfl
  | 18, _ => rfl
  | 19, _ => rfl
  | 20, _ => rfl
  | 21, _ => rfl
  | 22, _ => rfl
  | 23, _ => rfl
  | 24, _ => rfl
  | 25, _ => rfl
  | 26, _ => rfl
  | 27, _ => rfl
  | 28, _ => rfl
  | 29, _ => rfl
  | _ + 30, h => absurd h (by omega)
theorem vz_X3 : ∀ j, j < 1 → defaultValue (tyX3 j) = vp_V [.null] j
  | 0, _ => rfl
  | _ + 1, h => absurd h (by omega)
theorem vz_X8 : ∀ j, j < 8 → defaultValue (tyX8 j) = vp_V [.int 0, .int 0, .int 0, .int 0, .int 0, .int 0, .int 0, .int 0] j
  | 0, _ => rfl
  | 1, _ => rfl
  | 2, _ => rfl
  | 3, _ => rfl
  | 4, _ => rfl
  | 5, _ => rfl
  | 6, _ => rfl
  | 7, _ => rfl
  | _ + 8, h => absurd h (by omega)
theorem vz_X6 : ∀ j, j < 8 → defaultValue (tyX6 j) = vp_V [.int 0, .int 0, .int 0, .int 0, .int 0, .int 0, .int 0, .int 0] j
  | 0, _ => rfl
  | 1, _ => rfl
  | 2, _ => rfl
  | 3, _ => rfl
  | 4, _ => rfl
  | 5, _ => rfl
  | 6, _ => rfl
  | 7, _ => rfl
  | _ + 8, h => absurd h (by omega)
theorem vz_X7 : ∀ j, j < 8 → defaultValue (tyX7 j) = vp_V [.int 0, .int 0, .int 0, .int 0, .int 0, .int 0, .int 0, .int 0] j
  | 0, _ => rfl
  | 1, _ => rfl
  | 2, _ => rfl
  | 3, _ => rfl
  | 4, _ => rfl
  | 5, _ => rfl
  | 6, _ => rfl
  | 7, _ => rfl
  | _ + 8, h => absurd h (by omega)
theorem vz_X9 : ∀ j, j < 3 → defaultValue (tyX9 j) = vp_V [.int 0, .int 0, .int 0] j
  | 0, _ => rfl
  | 1, _ => rfl
  | 2, _ => rfl
  | _ + 3, h => absurd h (by omega)
theorem vz_X10 : ∀ j, j < 7 → defaultValue (tyX10 j) = vp_V [.null, .int 0, .int 0, .int 0, .int 0, .int 0, .null] j
  | 0, _ => rfl
  | 1, _ => rfl
  | 2, _ => rfl
  | 3, _ => rfl
  | 4, _ => rfl
  | 5, _ => rfl
  | 6, _ => rfl
  | _ + 7, h => absurd h (by omega)
theorem vz_J2 : ∀ j, j < 3 → defaultValue (tyJ2 j) = vp_V [.int 0, .null, .int 0] j
  | 0, _ => rfl
  | 1, _ => rfl
  | 2, _ => rfl
  | _ + 3, h => absurd h (by omega)
theorem vz_J5 : ∀ j, j < 4 → defaultValue (tyJ5 j) = vp_V [.null, .int 0, .null, .int 0] j
  | 0, _ => rfl
  | 1, _ => rfl
  | 2, _ => rfl
  | 3, _ => rfl
  | _ + 4, h => absurd h (by omega)
theorem vz_J8 : ∀ j, j < 3 → defaultValue (tyJ8 j) = vp_V [.null, .int 0, .int 0] j
  | 0, _ => rfl
  | 1, _ => rfl
  | 2, _ => rfl
  | _ + 3, h => absurd h (by omega)
theorem vz_J10 : ∀ j, j < 4 → defaultValue (tyJ10 j) = vp_V [.null, .int 0, .int 0, .int 0] j
  | 0, _ => rfl
  | 1, _ => rfl
  | 2, _ => rfl
  | 3, _ => rfl
  | _ + 4, h => absurd h (by omega)
theorem vz_J13 : ∀ j, j < 4 → defaultValue (tyJ13 j) = vp_V [.int 0, .int 0, .int 0, .null] j
  | 0, _ => rfl
  | 1, _ => rfl
  | 2, _ => rfl
  | 3, _ => rfl
  | _ + 4, h => absurd h (by omega)
theorem vz_J18 : ∀ j, j < 1 → defaultValue (tyJ18 j) = vp_V [.int 0] j
  | 0, _ => rfl
  | _ + 1, h => absurd h (by omega)
theorem vz_J20 : ∀ j, j < 9 → defaultValue (tyJ20 j) = vp_V [.null, .null, .null, .null, .int 0, .int 0, .null, .null, .null] j
  | 0, _ => rfl
  | 1, _ => rfl
  | 2, _ => rfl
  | 3, _ => rfl
  | 4, _ => rfl
  | 5, _ => rfl
  | 6, _ => rfl
  | 7, _ => rfl
  | 8, _ => rfl
  | _ + 9, h => absurd h (by omega)
theorem vz_J24 : ∀ j, j < 6 → defaultValue (tyJ24 j) = vp_V [.null, .null, .null, .null, .null, .int 0] j
  | 0, _ => rfl
  | 1, _ => rfl
  | 2, _ => rfl
  | 3, _ => rfl
  | 4, _ => rfl
  | 5, _ => rfl
  | _ + 6, h => absurd h (by omega)
theorem vz_J25 : ∀ j, j < 2 → defaultValue (tyJ25 j) = vp_V [.null, .null] j
  | 0, _ => rfl
  | 1, _ => rfl
  | _ + 2, h => absurd h (by omega)
theorem vz_J26 : ∀ j, j < 1 → defaultValue (tyJ26 j) = vp_V [.null] j
  | 0, _ => rfl
  | _ + 1, h => absurd h (by omega)
