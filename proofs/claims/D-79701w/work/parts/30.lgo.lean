set_option maxRecDepth 100000
/-! LGO: a call through an interface on a made object -/
section LGO
variable {p : Program} {l : Launch} {e : Env} {R : Room} {s : State} {m : MethodId} {args : Array Value} {below : List Frame} {meth : Method} {c : Code} {H : Heap} {locs : List Loc} {cells slots : Nat} {Q : State → Prop}
variable {G : mg} {A : Nat → Prop} {M : mh} {cc : ByteArray} {nL pc a : Nat} {ls : Array Slot} {rest : List Value} {own : String}
theorem lam_go (X : CallFix p m c cc nL s args lw_all own) (w : mW G A s M H locs) {xp : MethodName} {pcx ix : Nat} {sh : Lambda.Shape} {cL : ClassId} {one : Option Nat} (hxp : xp.cls = "FieldPumps$Station") (hL : kcLam xp pcx ix sh cL one s)
    {index count : Nat} {cell : Cell} (hcell : H[a]? = some cell) (hcls : cell.cls = cL) (hvm : cell.vm = .none)
    (hlink : Cond.methodLink own index ⟨sh.iface, sh.name, sh.sam.toString⟩ ∈ lw_all) (hdecl : (Cond.declares ⟨sh.iface, sh.name, sh.sam.toString⟩).before args s = true) (hface : (Cond.interfaceMethod sh.iface sh.iface sh.name sh.sam.toString).before args s = true) (hnMH : sh.iface ≠ "java/lang/invoke/MethodHandle" ∧ sh.iface ≠ "java/lang/invoke/VarHandle")
    {ds : String} {bytes : ByteArray} {maxL : Nat} {rt : FieldType} (hcode : Cond.code ⟨"FieldPumps$Station", sh.implName, ds⟩ bytes maxL (some rt) ∈ lw_all) (hst : Cond.static ⟨"FieldPumps$Station", sh.implName, ds⟩ ∈ lw_all) (hini : Cond.initialized "FieldPumps$Station" ∈ lw_all)
    {fb : ByteArray} {mL N cN sN nN : Nat}
    (ha : (sh.file "FieldPumps$Station").isSome = true) (hb : ((layoutMethods (lamD sh)).bind (·[1]?)).isSome = true) (fc : ((lamF sh).code.map fun c => (c.code.data, c.maxLocals)) = some (fb.data, mL)) (ff : ((lamF sh).accessFlags, (lamF sh).sig.returnType) = (0x0001, some rt))
    (hi : sh.implClass = "FieldPumps$Station") (hj : sh.implItf = false) (hds : sh.implDesc.toString = ds)
    (eM : (lamD sh).constantPool[N]? = some (.methodref cN nN) ∧ (lamD sh).constantPool.className? cN = some "FieldPumps$Station" ∧ (lamD sh).constantPool.nameAndType? nN = some (sh.implName, ds)) (eC : (lamD sh).constantPool[cN]? = some (.class_ sN) ∧ (lamD sh).constantPool.string? sN = some "FieldPumps$Station" ∧ cN ≠ (lamD sh).thisClass)
    {As argsL : List Value} (hpa : (parseMethodDescriptor sh.sam.toString).map (fun d => d.parameters.length) = some As.length) (hpb : (parseMethodDescriptor ds).map (fun d => d.parameters.length) = some argsL.length)
    {P : mh → Prop} {post : Int32 → mh → Prop} {rm : Room} (hMet : Met l ⟨"FieldPumps$Station", sh.implName, ds⟩ (ws_ ⟨"FieldPumps$Station", sh.implName, ds⟩ bytes maxL (some rt)) rm (va_Pc argsL (mU G A P)) (mQi G A post) 0 0 A) (hP : P M) (hz : ∀ r M, post r M → narrow rt (.int r) = .int r)
    (hrc : rm.cells = 0) (hrs : rm.slots = 0) (hfr : rm.frames + 2 ≤ R.frames) (hlo : 8 + (mL + 11) + (8 + (maxL + 11) + rm.locals) ≤ R.locals)
    {P0 : Nat} (d1 : decode fb P0 = .ok (.invokestatic N, 3)) (d2 : decode fb (P0 + 3) = .ok (.ireturn, 1)) {Ls : Array Slot} (hLs : Ls.size = mL)
    (hpre : ∀ (vm₁ : Vm) (methk : Method) (ck : Code) (R' : Room) (g : JFrame) (U U0 : State), s.WarmedH vm₁ → ck.code = fb → Stand p l e R' U0 ⟨cL, 1⟩ (.ref a :: As).toArray (.java g :: below) methk ck U [] 0 0 → U.vm = vm₁ → U.heap = H →
      ∀ Z, Steps p.tables e (.java g :: below) (U.setTop { method := ⟨cL, 1⟩, pc := P0, locals := Ls, stack := argsL.reverse, locked := none }) Z → Steps p.tables e (.java g :: below) (U.setTop (entryFrame ⟨cL, 1⟩ (.ref a :: As).toArray mL)) Z)
    (hls : ls.size = nL) (hW : (rest.map fun v => v.category).sum ≤ 8) (hc : cells ≤ R.cells) (hs : slots ≤ R.slots) (hdg : decode cc pc = .ok (.invokeinterface index count, 5)) {av : Array Value} :
    va_Run5 p l e R s m args below meth c H locs cells slots 0 0 (F0 m pc ls (As.reverse ++ .ref a :: rest)) rest (mQi G A post av) A := by
  intro T hT X0
  subst hcls
  obtain ⟨S, th, hS, hth, hat⟩ := hL
  obtain ⟨mD, kD, cfD, i0, p0, lk, hmD, hkD, -, -, -, -, hmade, hcan, -⟩ := State.lambdaAt?_spec hat
  obtain ⟨kD', hkD', hnameD⟩ := className_of_methodNamed hmD
  cases hkD.symm.trans hkD'
  rw [hxp] at hnameD
  rw [hS] at hkD hmade
  have hcan' : s.lambdaCallable sh cell.cls = true := by
    simp only [State.lambdaCallable, hS] at hcan ⊢
    exact hcan
  obtain ⟨hexec, hbc, hml, hown, hwords⟩ := X
  obtain ⟨k0, tk0, file0, methk0, ck0, st0, t0, hkK0, hkn0, hfile0, hpool0, hmk0, hck0, hbytes0, hml0, hlk0, hfl0, hretk0, hst0, htk0, hlook0, hready0, hclsR0⟩ := lam_made hkD hnameD hmade ha hb fc ff hi hj hds eM eC
  obtain ⟨r0, r, hn, hrm, hstR, hsigR⟩ := Cond.declares_spec hdecl
  obtain ⟨cI, kI, r1, hcI, hkI, hiI, hfoundI, hn1⟩ := Cond.interfaceMethod_spec hface
  cases hn.symm.trans hn1
  have hr0cls : r0.cls = cI := Option.some.inj ((findClass_of_methodNamed hn).symm.trans hcI)
  obtain ⟨hnameR, hdescR⟩ := name_of_methodNamed hn hrm
  obtain ⟨-, -, -, -, -, -, -, iface', -, -, -, -, found, -, -, -, -, -, hi', -, -, -, -, -, -, hfound', -, -, -, -, -, -, -, -, -, -, hsel⟩ := Lambda.isMade_spec hmade
  cases hcI.symm.trans hi'
  have hfr2 : found = r0 := by
    have h1 : s.methodFound? sh.iface sh.name sh.sam.toString = some r0 := hfoundI
    have hcI' : s.vm.findClass sh.iface = some cI := hcI
    simp only [State.methodFound?, hcI', hkI, hiI, Option.bind_eq_bind, Option.bind_some] at h1
    have h2 : ((methodIn cI sh.name sh.sam.toString true none).ask { classPath := fun _ => none } s.vm).1 = .ok found := hfound'
    rw [h2] at h1
    exact Option.some.inj h1
  subst hfr2
  obtain ⟨i2, hi2, hasg, hway⟩ := State.lambdaCallable_spec hcan'
  cases hcI.symm.trans hi2
  -- the static method
  obtain ⟨mT, hmT⟩ := Cond.code_named (hwords _ hcode)
  obtain ⟨methT, cT, hmethT, -, -, -, -, -, -, hsigT⟩ := Cond.code_spec hmT (hwords _ hcode)
  have hstaticT : methT.isStatic = true := Cond.static_spec hmT hmethT (hwords _ hst)
  obtain ⟨kT, hkT, hnameT⟩ := className_of_methodNamed hmT
  have hfT : s.vm.findClass "FieldPumps$Station" = some mT.cls := findClass_of_methodNamed hmT
  have hinitT : kT.init = .initialized := Cond.initialized_spec hfT hkT (hwords _ hini)
  have hlenA : As.length = r.sig.parameters.length := by
    rw [hsigR] at hpa
    exact (Option.some.inj hpa).symm
  have hlenL : argsL.length = methT.sig.parameters.length := by
    rw [hsigT] at hpb
    exact (Option.some.inj hpb).symm
  obtain ⟨vm₁, X₁, hstep₁⟩ := X0.invokeinterface hexec hown (hwords _ hlink) hn hrm hstR (by rw [hr0cls]; exact hkI) hiI hnMH (a := a) (cell := cell) (kcell := k0) (by rw [hT]; exact hcell) (fun z h => by rw [hvm] at h; cases h) hkK0 (by rw [hr0cls]; exact hasg)
    (m' := ⟨cell.cls, 1⟩) (meth' := methk0) (by rw [Launch.admits_selectMethod X0.admits]; exact hsel) hmk0 (by rw [hnameR, hdescR]; exact hway) (by rw [hfl0]; decide) (by simp [Method.isAbstract, hfl0, hasFlag, Acc.abstract])
    (g := F0 m pc ls (As.reverse ++ .ref a :: rest)) rfl (argsL := As) (rest := rest) hlenA rfl (by rw [hbc]; exact hdg)
  have hW₁ : s.WarmedH vm₁ := X₁.warmed
  obtain ⟨kD₁, hkD₁, heD₁⟩ := hW₁.alike.2.2 _ _ hkD
  have hnameD₁ : kD₁.name = "FieldPumps$Station" := by rw [heD₁]; exact hnameD
  obtain ⟨k1, tk1, file1, methk1, ck1, st1, t1, hkK1, hkn1, hfile1, hpool1, hmk1, hck1, hbytes1, hml1, hlk1, hfl1, hretk1, hst1, htk1, hlook1, hready1, hclsR1⟩ := lam_made hkD₁ hnameD₁ (Lambda.isMade_warmer hW₁ hmade) ha hb fc ff hi hj hds eM eC
  have hfT₁ : vm₁.findClass "FieldPumps$Station" = some mT.cls := by rw [hW₁.alike.findClass]; exact hfT
  cases hst1.symm.trans hfT₁
  have ht₁ : t1 = mT := by
    have h1 : (s.setVm vm₁).methodFound? "FieldPumps$Station" sh.implName ds = some mT := by
      rw [State.methodFound?_setVm hW₁.alike]
      exact State.methodFound?_of_named hmT ⟨show "FieldPumps$Station" ≠ "java/lang/invoke/MethodHandle" by decide, show "FieldPumps$Station" ≠ "java/lang/invoke/VarHandle" by decide⟩
    simp only [State.methodFound?, State.vm_setVm, hfT₁, htk1, Option.bind_eq_bind, Option.bind_some] at h1
    rw [hlook1] at h1
    exact Option.some.inj h1
  subst ht₁
  have hmethT₁ : vm₁.method? t1 = some methT := by rw [hW₁.alike.method?]; exact hmethT
  obtain ⟨kT₁, hkT₁, heT₁⟩ := hW₁.alike.2.2 _ _ hkT
  cases htk1.symm.trans hkT₁
  have hnm : tk1.name ≠ "java/lang/invoke/MethodHandle" ∧ tk1.name ≠ "java/lang/invoke/VarHandle" := by
    have : tk1.name = "FieldPumps$Station" := by rw [heT₁]; exact hnameT
    rw [this]
    exact ⟨by decide, by decide⟩
  have hsp : ∀ y : Method, signaturePolymorphic tk1 y = false := fun y => by simp [signaturePolymorphic, hnm.1, hnm.2]
  obtain ⟨bb, hmem⟩ := memberRef_ask' (e := e) (vm := vm₁) (d := cell.cls) (index := N) hkK1 hfile1 (Or.inl (by rw [hpool1]; exact eM.1)) (by rw [hpool1]; exact eM.2.2)
  have hpk : (T.setVm vm₁).plainMethod ⟨cell.cls, 1⟩ := State.plainMethod.of_name (fun k' hk' => by cases hkK1.symm.trans hk'; rw [hkn1]; decide)
  have hK : Back l { frames := rm.frames + 1, locals := 8 + (maxL + 11) + rm.locals, cells := 0, slots := 0 } p e (.java { F0 m pc ls (As.reverse ++ .ref a :: rest) with stack := rest } :: below) ((T.setVm vm₁).calling { F0 m pc ls (As.reverse ++ .ref a :: rest) with stack := rest } ⟨cell.cls, 1⟩ (.ref a :: As).toArray) (.ref a :: As).toArray ⟨"FieldPumps$Station", sh.implName, ds⟩ 3 8
      (PreOf { frames := rm.frames + 1, locals := 8 + (maxL + 11) + rm.locals, cells := 0, slots := 0 } 0 0 (va_Pc argsL (mU G A P))) (PostOf (mQi G A post) 0 0 A) :=
    back_of (bytes := bytes) (maxL := maxL) (ret := some rt) hMet mU.blind hrc hrs (Nat.le_refl _) (Nat.le_refl _)
      (fun x hx a' U hU => pay_in hwords (lw_meth hcode) x hx a' U (State.WarmedH.trans (t := (T.setVm vm₁).calling { F0 m pc ls (As.reverse ++ .ref a :: rest) with stack := rest } ⟨cell.cls, 1⟩ (.ref a :: As).toArray) hW₁ hU)) List.mem_cons_self
      (fun a' U hU => word_at (State.WarmedH.trans (t := (T.setVm vm₁).calling { F0 m pc ls (As.reverse ++ .ref a :: rest) with stack := rest } ⟨cell.cls, 1⟩ (.ref a :: As).toArray) hW₁ hU) (Or.inl (by first | rfl | simp [Cond.onTables, Cond.keeps, Cond.steady])) (hwords _ hini))
  have hnT : (T.setVm vm₁).methodNamed? ⟨"FieldPumps$Station", sh.implName, ds⟩ = some t1 := by
    have : (s.setVm vm₁).methodNamed? ⟨"FieldPumps$Station", sh.implName, ds⟩ = some t1 := by rw [State.methodNamed?_setVm hW₁.alike]; exact hmT
    exact this
  obtain ⟨x, U, B, T', e1, e2, ⟨g', mk', tq, L, q1, q2, hq, q3, hfree, q4, q5⟩, X', e3, e4, hgo⟩ := lam_tail X₁ hexec (g := { F0 m pc ls (As.reverse ++ .ref a :: rest) with stack := rest }) rfl (show ls.size = c.maxLocals by rw [hls, hml]) (by rw [hbc]; exact hdg) (mk := ⟨cell.cls, 1⟩) (a := (.ref a :: As).toArray)
    (R' := { frames := rm.frames + 1, locals := 8 + (maxL + 11) + rm.locals, cells := 0, slots := 0 }) hmk1 hck1 hlk1 hpk (by show rm.frames + 1 + 1 ≤ R.frames; omega) (by rw [hml1]; show 2 * 0 + (rest.map fun v => v.category).sum + (mL + 11) + (8 + (maxL + 11) + rm.locals) ≤ R.locals; omega) (by show cells + 0 ≤ R.cells; omega) (by show slots + 0 ≤ R.slots; omega) hbytes1 hretk1 d1 d2 (hLs.trans hml1.symm) (argsL := argsL)
    (fun U hY hv hh Z hZ => by rw [hml1]; exact hpre vm₁ methk1 ck1 _ _ U _ hW₁ hbytes1 hY hv (hh.trans hT) Z hZ)
    (t := t1) (kt := tk1) (metht := methT) ⟨cN, _, _, bb, t1.cls, tk1, hmem, hclsR1, htk1, by simp [hsp]⟩ hready1 htk1 hmethT₁ (hsp _) hstaticT (by rw [heT₁]; exact hinitT) hlenL hnT hK
    (fun U hv hh => ⟨Nat.zero_le _, Nat.zero_le _, rfl, w.call hP (hh.trans hT) (by rw [hv]; exact hW₁)⟩)
    (fun A v B hp => by
      obtain ⟨g', mk', tq, L, -, -, ⟨⟨r, u, hr, hpo, -⟩, -⟩, -⟩ := hp
      have hr' : v = some (.int r) := by injection hr
      exact ⟨r, hr', hz r u hpo⟩)
  dsimp only [Pt.U, Pt.locs, Pt.cells, Pt.slots] at *
  refine ⟨some (.int x), U.calling g' mk' argsL.toArray, tq, T', L, e2.trans hT, ?_, hfree, e3.trans q1, e4.trans q2, hq, fun target h => hstep₁ target fun acts => hgo acts target h⟩
  rw [show B.2.1 = L from q3, show B.2.2.1 = 0 from q4, show B.2.2.2 = 0 from q5] at X'
  exact X'
theorem mx_biF {mc ms : Nat} {st0 : List Value} {av : Array Value} (w : mW G A s M H locs) {post : Int32 → mh → Prop} (hr : va_Run5 p l e R s m args below meth c H locs cells slots mc ms (F0 m pc ls st0) rest (mQi G A post av) A)
    (kk : ∀ (r : Int32) (M1 : mh) (H1 : Heap) (locs1 : List Loc), post r M1 → mW G A s M1 H1 locs1 → W p l e R s m args below meth c H1 locs1 (cells + mc) (slots + ms) Q (F0 m (pc + 5) ls (.int r :: rest))) : W p l e R s m args below meth c H locs cells slots Q (F0 m pc ls st0) :=
  va_callFi hr w.2.2.2.1 (fun _ _ h => h) (fun _ h => h) fun r M1 t H1 locs1 ht _ hp hB _ _ hS => kk r M1 H1 locs1 hp (w.back ht hS hB)
theorem mx_bqF {mc ms : Nat} {st0 : List Value} {av : Array Value} (w : mW G A s M H locs) {post : Option Nat → mh → Prop} (hr : va_Run5 p l e R s m args below meth c H locs cells slots mc ms (F0 m pc ls st0) rest (mQq G A post av) A)
    (kk : ∀ (r : Option Nat) (M1 : mh) (H1 : Heap) (locs1 : List Loc), post r M1 → mW G A s M1 H1 locs1 → W p l e R s m args below meth c H1 locs1 (cells + mc) (slots + ms) Q (F0 m (pc + 5) ls (va_rf r :: rest))) : W p l e R s m args below meth c H locs cells slots Q (F0 m pc ls st0) :=
  va_callFq hr w.2.2.2.1 (fun _ _ h => h) (fun _ h => h) fun r M1 t H1 locs1 ht _ hp hB _ _ hS => kk r M1 H1 locs1 hp (w.back ht hS hB)
end LGO
