set_option maxRecDepth 100000
/-! LRN: a forwarder's run: it calls its static method and gives the answer on -/
section LRN
variable {p : Program} {l : Launch} {e : Env} {R : Room} {s : State} {m : MethodId} {args : Array Value} {below : List Frame} {meth : Method} {c : Code} {T : State} {locs : List Loc} {cells slots : Nat}
theorem lam_tail (X : Stand p l e R s m args below meth c T locs cells slots) (hexec : p.tables.exec = Jvm.exec) {g : JFrame} (hg : g.method = m) (hsize : g.locals.size = c.maxLocals) {ig : Instr} {len : Nat} (hdg : decode c.code g.pc = .ok (ig, len))
    {mk : MethodId} {methk : Method} {ck : Code} {a : Array Value} {R' : Room} (hmk : T.vm.method? mk = some methk) (hck : methk.code = some ck) (hlk : methk.locks = false) (hpk : T.plainMethod mk)
    (hframes : R'.frames + 1 ≤ R.frames) (hlocals : 2 * g.monitorRoom + (g.stack.map fun v => v.category).sum + (ck.maxLocals + 11) + R'.locals ≤ R.locals) (hcells : cells + R'.cells ≤ R.cells) (hslots : slots + R'.slots ≤ R.slots)
    {cc : ByteArray} (hbytes : ck.code = cc) {rt : FieldType} (hretk : methk.sig.returnType = some rt)
    {P idx : Nat} (d1 : decode cc P = .ok (.invokestatic idx, 3)) (d2 : decode cc (P + 3) = .ok (.ireturn, 1)) {Ls : Array Slot} (hLs : Ls.size = ck.maxLocals) {argsL : List Value}
    (hpre : ∀ U : State, Stand p l e R' (T.calling g mk a) mk a (.java g :: below) methk ck U [] 0 0 → U.vm = T.vm → U.heap = T.heap → ∀ Z, Steps p.tables e (.java g :: below) (U.setTop { method := mk, pc := P, locals := Ls, stack := argsL.reverse, locked := none }) Z → Steps p.tables e (.java g :: below) (U.setTop (entryFrame mk a ck.maxLocals)) Z)
    {t : MethodId} {kt : Class} {metht : Method} {y : MethodName} (href : plainRef T e mk.cls idx) (hready : T.vm.methodReady mk.cls idx t) (hkt : T.vm.classes[t.cls]? = some kt) (hmt : T.vm.method? t = some metht)
    (hpoly : signaturePolymorphic kt metht = false) (hstatic : metht.isStatic = true) (hinit : kt.init = .initialized) (hpar : argsL.length = metht.sig.parameters.length) (hnamed : T.methodNamed? y = some t)
    {W0 : Nat} {Pre : Pt → Array Value → Prop} {Post : Pt → Array Value → Option Value → Pt → Prop} (hK : Back l R' p e (.java g :: below) (T.calling g mk a) a y 3 W0 Pre Post)
    (hA : ∀ U : State, U.vm = T.vm → U.heap = T.heap → Pre ⟨U, [], 0, 0⟩ argsL.toArray)
    (hv : ∀ A v B, Post A argsL.toArray v B → ∃ x : Int32, v = some (.int x) ∧ narrow rt (.int x) = .int x) :
    ∃ (x : Int32) (U : State) (B : Pt) (T' : State), U.vm = T.vm ∧ U.heap = T.heap ∧ Post ⟨U, [], 0, 0⟩ argsL.toArray (some (.int x)) B ∧ Stand p l e R s m args below meth c T' (locs ++ B.locs) (cells + B.cells) (slots + B.slots) ∧ T'.heap = B.U.heap ∧ T'.vm = B.U.vm ∧
      ∀ acts Z, Steps p.tables e below (T'.setTop { g with pc := g.pc + len, stack := .int x :: g.stack }) Z → Steps p.tables e below (doInvoke e (T.setTop g) acts mk a).1 Z := by
  obtain ⟨Y₀, hin⟩ := X.into hg hsize hdg a (R' := R') hmk hck hlk hpk hframes hlocals hcells hslots
  generalize hU : (T.setTop g).pushFrame (.java (entryFrame mk a ck.maxLocals)) = U at Y₀ hin
  have hvm : U.vm = T.vm := by rw [← hU]; rfl
  have hheap : U.heap = T.heap := by rw [← hU]; rfl
  have hnU : U.methodNamed? y = some t := by rw [← hU]; exact hnamed
  obtain ⟨v, B, Y₁, hpost, hsteps⟩ := hK mk methk ck ⟨U, [], 0, 0⟩ { method := mk, pc := P, locals := Ls, stack := [], locked := none } (.invokestatic idx) t argsL.toArray Y₀ rfl hLs (by rw [hbytes]; exact d1) (by show 2 * 0 + 0 ≤ W0; omega) hnU (hA U hvm hheap)
  obtain ⟨x, rfl, hx⟩ := hv _ _ _ hpost
  obtain ⟨fs, hleave, -, hended, hWe, hsame⟩ := Y₁.leave (v := some (.int x)) (fun h => by rw [hretk] at h; cases h) hlk
  obtain ⟨T', X', hW', -, ht⟩ := X.outOf hg hdg hended hWe hsame
  refine ⟨x, U, B, T', hvm, hheap, hpost, X', ?_, ?_, fun acts Z hZ => ?_⟩
  · exact (congrArg State.heap ht).symm
  · exact (congrArg State.vm ht).symm
  · rw [hin acts]
    refine Steps.trans (Steps.weaken (mid := [.java g]) (?_ : Steps p.tables e (.java g :: below) _ (B.U.setFrames fs))) (by rw [ht]; exact hZ)
    refine hpre U Y₀ hvm hheap _ ?_
    have hs : U.topJava?.isSome := Y₀.here.top
    jvm_step Y₀.here [hexec, hbytes, d1, invokestatic.wp_ready (e := e) (s := U) (m := t) (k := kt) (meth := metht) (args := argsL) (rest := [])
      (f := { method := mk, pc := P, locals := Ls, stack := argsL.reverse, locked := none }) hs (by rw [← hU]; exact href) (by rw [hvm]; exact hready) (by rw [hvm]; exact hkt) (by rw [hvm]; exact hmt) hpoly hstatic hinit hpar (by simp)]
    intro acts'
    rw [doInvoke_state]
    refine hsteps.trans ?_
    show Steps p.tables e (.java g :: below) (B.U.setTop { method := mk, pc := P + 3, locals := Ls, stack := [.int x], locked := none }) _
    have hmB : B.U.vm.method? mk = some methk := Y₁.method'
    jvm_step Y₁.here [Y₁.here.top, hexec, hbytes, d2, hmB, hretk, hx]
    first | (intro acts''; rw [hleave { method := mk, pc := P + 3, locals := Ls, stack := [], locked := none } acts'' rfl rfl rfl]) | rw [hleave { method := mk, pc := P + 3, locals := Ls, stack := [], locked := none } _ rfl rfl rfl]
    exact Steps.refl _
end LRN
