set_option maxRecDepth 100000
/-! SG: the call of a stage's method: its class is nowhere said to be initialized, so we step into the frame itself -/
def sgD : String := "(LFieldPumps$Station;)V"
theorem sg_par : (parseMethodDescriptor sgD).map (fun d => d.parameters.length) = some 1 := by decide +kernel
section SG
variable {p : Program} {l : Launch} {e : Env} {R : Room} {s : State} {m : MethodId} {args : Array Value} {below : List Frame} {meth : Method} {c : Code}
/-- a walk's claim makes the return's promise, its class initialized or not -/
theorem back_body {y : MethodName} {bytes : ByteArray} {maxL mc ms : Nat} {rm : Room} {P post : mh → Prop} {As : List Value} {G : mg} {A : Nat → Prop}
    (hwords : ∀ w ∈ lw_all, w.before args s = true) (hcode : Cond.code y bytes maxL none ∈ lw_all) (hexec : p.tables.exec = Jvm.exec) (hy : plainName y.cls = true) (hn : (lg_sl As).length ≤ maxL)
    (hrc : rm.cells = mc) (hrs : rm.slots = ms) (hfr : rm.frames + 1 ≤ R.frames) (hlo : 8 + (maxL + 11) + rm.locals ≤ R.locals)
    (body : mxB l y bytes maxL rm P As G A (fun p e R s m av below meth c Q => ∀ (M : mh) (H : Heap) (locs : List Loc) (ls : Array Slot) (pc : Nat), decode bytes pc = .ok (.return_, 1) → post M → mW G A s M H locs → W p l e R s m av below meth c H locs mc ms Q (F0 m pc ls []))) :
    Back l R p e below s args y 3 8 (PreOf R mc ms (va_Pc As (mU G A P))) (PostOf (mQv G A post) mc ms A) := by
  intro m meth c A0 g ig mk a X hg hsize hdg hW hnm hp
  obtain ⟨hc, hs, hv, hU⟩ := hp
  subst hv
  have hword : ∀ (a' : Array Value) (U : State), s.WarmedH U.vm → ∀ w ∈ ws_ y bytes maxL none, w.before a' U = true := fun a' U hU w hw => pay_in hwords (lw_meth hcode) w hw a' U hU
  have hce := hword As.toArray A0.U X.warmed _ (List.mem_cons_self : Cond.code y bytes maxL none ∈ ws_ y bytes maxL none)
  obtain ⟨methk, ck, hmk, hck, hbytes, hml, hret, hlk, -, -⟩ := Cond.code_spec hnm hce
  obtain ⟨ky, hky, hname⟩ := className_of_methodNamed hnm
  have hpk : A0.U.plainMethod mk := State.plainMethod.of_name (fun k' hk' => by cases hky.symm.trans hk'; rw [hname]; exact hy)
  obtain ⟨Y, hin⟩ := X.into hg hsize hdg As.toArray (R' := rm) hmk hck hlk hpk hfr (by rw [hml]; omega) (by omega) (by omega)
  have hU2 : mU G A P (A0.U.calling g mk As.toArray) := (mU.blind As.toArray A0.U g mk ⟨rfl, hU⟩).2
  obtain ⟨M, hM, w⟩ := mW.start hU2
  have hl := lv_entry As (n := maxL) hn
  have hb : W p l e rm (A0.U.calling g mk As.toArray) mk As.toArray (.java g :: below) methk ck (A0.U.calling g mk As.toArray).heap [] 0 0 (MQ (.java g :: below) (mQv G A post) As.toArray (A0.U.calling g mk As.toArray) mc ms A) (entryFrame mk As.toArray ck.maxLocals) := by
    rw [hml, lg_entry_eq]
    exact body p e _ _ mk _ _ methk ck M _ _ _ ⟨hexec, hbytes, hml, findClass_of_methodNamed hnm, fun w hw => hword _ (A0.U.calling g mk As.toArray) X.warmed w (List.mem_cons_of_mem _ hw)⟩ rfl rfl rfl rfl (name_of_methodNamed hnm hmk).1 hM w (fun M H locs ls pc hd hp w => mx_vret w hexec hbytes hret hp hd hlk) hl
  obtain ⟨t, hst, o, hrun, hend, hq, L, ⟨⟨v, rfl⟩, hWe, hsame⟩, hfree⟩ := hb ((A0.U.setTop g).pushFrame (.java (entryFrame mk As.toArray ck.maxLocals))) rfl Y
  obtain ⟨T', X', hW', -, ht⟩ := X.outOf hg hdg hend hWe hsame
  refine ⟨v, ⟨T', A0.locs ++ L, A0.cells + mc, A0.slots + ms⟩, X', ⟨g, mk, t, L, (congrArg State.heap ht).symm, (congrArg State.vm ht).symm, hq, rfl, hfree, rfl, rfl⟩, ?_⟩
  rw [hin]
  have hs2 := Steps.weaken (mid := [Frame.java g]) hst
  rw [ht] at hs2
  exact hs2
variable {H : Heap} {locs : List Loc} {cells slots : Nat} {Q : State → Prop} {G : mg} {A : Nat → Prop} {M : mh} {cc : ByteArray} {nL pc : Nat} {ls : Array Slot} {rest : List Value} {own : String}
theorem mx_stage (X : CallFix p m c cc nL s args lw_all own) (w : mW G A s M H locs) (k z : Nat) (hk : k < 6) {index : Nat} (hlink : Cond.methodLink own index ⟨"FieldPumps$Stage", "go", sgD⟩ ∈ lw_all) {bytes : ByteArray} {maxL mc ms : Nat} {rm : Room} {P post : mh → Prop}
    (hcode : Cond.code ⟨kcStage k, "go", sgD⟩ bytes maxL none ∈ lw_all) (hsel : Cond.selects (kcStage k) ⟨"FieldPumps$Stage", "go", sgD⟩ ⟨kcStage k, "go", sgD⟩ ∈ lw_all) (hinst : Cond.instanceMethod ⟨kcStage k, "go", sgD⟩ ∈ lw_all)
    (hsame : Cond.sameMethod "FieldPumps$Stage" "FieldPumps$Stage" "go" sgD ∈ lw_all) (hdec : Cond.declares ⟨"FieldPumps$Stage", "go", sgD⟩ ∈ lw_tbl)
    (body : mxB l ⟨kcStage k, "go", sgD⟩ bytes maxL rm P [.ref (G.2 (10 + k)), .ref z] G A (fun p e R s m av below meth c Q => ∀ (M : mh) (H : Heap) (locs : List Loc) (ls : Array Slot) (pc : Nat), decode bytes pc = .ok (.return_, 1) → post M → mW G A s M H locs → W p l e R s m av below meth c H locs mc ms Q (F0 m pc ls [])))
    (hP : P M) (hy : plainName (kcStage k) = true) (hn : (lg_sl [.ref (G.2 (10 + k)), .ref z]).length ≤ maxL) (hrc : rm.cells = mc) (hrs : rm.slots = ms) (hfr : rm.frames + 1 ≤ R.frames) (hlo : 8 + (maxL + 11) + rm.locals ≤ R.locals)
    (hls : ls.size = nL) (hW : (rest.map fun v => v.category).sum ≤ 8) (hc : cells + mc ≤ R.cells) (hs : slots + ms ≤ R.slots) (hdg : decode cc pc = .ok (.invokevirtual index, 3))
    (kk : ∀ (M1 : mh) (H1 : Heap) (locs1 : List Loc), post M1 → mW G A s M1 H1 locs1 → W p l e R s m args below meth c H1 locs1 (cells + mc) (slots + ms) Q (F0 m (pc + 3) ls rest)) :
    W p l e R s m args below meth c H locs cells slots Q (F0 m pc ls (.ref z :: .ref (G.2 (10 + k)) :: rest)) := by
  have hK := back_body (below := below) (e := e) X.2.2.2.2 hcode X.1 hy hn hrc hrs hfr hlo body
  obtain ⟨cellB, hcB, hoB, hclB, -⟩ := w.2.2.2.2.2.2.2.2.2.2.2.2.2.1 k hk
  have hdecl : va_Decl s ⟨"FieldPumps$Stage", "go", sgD⟩ := va_Decl.abs (w.tbl hdec rfl)
  refine mx_bv (av := (Value.ref (G.2 (10 + k)) :: [Value.ref z]).toArray) w ?_ kk
  obtain ⟨hx, hb, hml, ho, hwd⟩ := X
  intro T hT X0
  obtain ⟨v, vm₁, ⟨U', l2, c2, s2⟩, hW₁, X', ⟨g', mk, t, L, e1, e2, hq, h1, hL, h2, h3⟩, st⟩ := va_callVU X0 hx (C := kcStage k) (owner := "FieldPumps$Stage") (x := ⟨"FieldPumps$Stage", "go", sgD⟩) (bytes := bytes) (maxL := maxL) (ret := none) ho (hwd _ hlink) (hwd _ hsame) hdecl (by decide) (hwd _ hsel) (hwd _ hinst) (hwd _ hcode) hK (by rw [hT]; exact hcB) hoB hclB (g := F0 m pc ls (.ref z :: .ref (G.2 (10 + k)) :: rest)) rfl (hls.trans hml.symm) (argsL := [.ref z]) (rest := rest)
    (fun sig h => by have h2 := sg_par; rw [show parseMethodDescriptor sgD = some sig from h] at h2; exact (Option.some.inj h2).symm) rfl (by show 2 * 0 + _ ≤ 8; omega) (by rw [hb]; exact hdg)
    (fun vm₁ hW₁ => ⟨hc, hs, rfl, w.call hP hT hW₁⟩)
  dsimp only [Pt.U, Pt.locs, Pt.cells, Pt.slots] at X' e1 e2 h1 h2 h3 st
  subst h1; subst h2; subst h3
  exact ⟨v, (T.setVm vm₁).calling g' mk (Value.ref (G.2 (10 + k)) :: [Value.ref z]).toArray, t, U', L, hT, X', hL, e1, e2, hq, st⟩
end SG

