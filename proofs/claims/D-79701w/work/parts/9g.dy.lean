set_option maxRecDepth 100000
/-! DY: a cell laid by hand; the stages' array cloned; lambdas made; methods that know their own place -/
theorem sv_dy {α : Type} {x : Option CpInfo} {f : Nat → Nat → Option α} {r : α} (h : Lambda.shapeOf?.match_19 (fun _ => Option α) x f (fun _ => none) = some r) : ∃ b nt, x = some (.invokeDynamic b nt) ∧ f b nt = some r := by
  split at h
  · exact ⟨_, _, rfl, h⟩
  · cases h
theorem sv_mh {α : Type} {x : Option CpInfo} {f : Nat → Option α} {r : α} (h : Lambda.shapeOf?.match_17 (fun _ => Option α) x f (fun _ => none) = some r) : ∃ y, f y = some r := by
  split at h
  · exact ⟨_, h⟩
  · cases h
theorem sv_ar {α : Type} {x : Array Nat} {f : Nat → Nat → Nat → Option α} {r : α} (h : Lambda.shapeOf?.match_15 (fun _ => Option α) x f (fun _ => none) = some r) : ∃ a b c, f a b c = some r := by
  rcases x with ⟨l⟩
  rcases l with _ | ⟨a, _ | ⟨b, _ | ⟨c, _ | ⟨d, l⟩⟩⟩⟩
  · exact absurd (show (none : Option α) = some r from h) (fun z => by cases z)
  · exact absurd (show (none : Option α) = some r from h) (fun z => by cases z)
  · exact absurd (show (none : Option α) = some r from h) (fun z => by cases z)
  · exact ⟨a, b, c, h⟩
  · exact absurd (show (none : Option α) = some r from h) (fun z => by cases z)
theorem sv_mt {α : Type} {x : Option CpInfo} {f : Nat → Option α} {r : α} (h : Lambda.shapeOf?.match_9 (fun _ => Option α) x f (fun _ => none) = some r) : ∃ y, f y = some r := by
  split at h
  · exact ⟨_, h⟩
  · cases h
theorem sv_mk {α : Type} {x : Option CpInfo} {f : Nat → Nat → Option α} {r : α} (h : Lambda.shapeOf?.match_12 (fun _ => Option α) x f (fun _ => none) = some r) : ∃ y z, f y z = some r := by
  split at h
  · exact ⟨_, _, h⟩
  · cases h
theorem sv_ob {α : Type} {x : Option FieldType} {f : String → Option α} {r : α} (h : Lambda.shapeOf?.match_6 (fun _ => Option α) x f (fun _ => none) = some r) : ∃ y, f y = some r := by
  split at h
  · exact ⟨_, h⟩
  · cases h
theorem shape_site {cf : ClassFile} {index : Nat} {σ : Lambda.Shape} (h : Lambda.shapeOf? cf index = some σ) :
    ∃ (b nt : Nat) (desc : String) (site : MethodDescriptor), cf.constantPool[index]? = some (.invokeDynamic b nt) ∧ cf.constantPool.nameAndType? nt = some (σ.name, desc) ∧ parseMethodDescriptor desc = some site ∧ site.parameters = σ.captured := by
  unfold Lambda.shapeOf? at h
  obtain ⟨b, nt, hc, h⟩ := sv_dy h
  obtain ⟨y1, -, h⟩ := Option.bind_eq_some_iff.mp h
  obtain ⟨y2, -, h⟩ := Option.bind_eq_some_iff.mp h
  obtain ⟨y3, h⟩ := sv_mh h
  obtain ⟨y4, -, h⟩ := Option.bind_eq_some_iff.mp h
  obtain ⟨y5, y6, y7, h⟩ := sv_ar h
  obtain ⟨y8, h⟩ := sv_mt h
  obtain ⟨y9, z0, h⟩ := sv_mk h
  obtain ⟨z1, h⟩ := sv_mt h
  obtain ⟨⟨z2, desc⟩, hnt, h⟩ := Option.bind_eq_some_iff.mp h
  obtain ⟨site, hsite, h⟩ := Option.bind_eq_some_iff.mp h
  obtain ⟨z3, h⟩ := sv_ob h
  obtain ⟨⟨z4, z5, z6, z7⟩, -, h⟩ := Option.bind_eq_some_iff.mp h
  obtain ⟨x1, -, h⟩ := Option.bind_eq_some_iff.mp h
  obtain ⟨x2, -, h⟩ := Option.bind_eq_some_iff.mp h
  obtain ⟨x3, -, h⟩ := Option.bind_eq_some_iff.mp h
  obtain ⟨x4, -, h⟩ := Option.bind_eq_some_iff.mp h
  obtain ⟨x5, -, h⟩ := Option.bind_eq_some_iff.mp h
  cases h
  exact ⟨b, nt, desc, site, hc, hnt, hsite, rfl⟩
section DY
variable {p : Program} {l : Launch} {e : Env} {R : Room} {s : State} {m : MethodId} {args : Array Value} {below : List Frame} {meth : Method} {c : Code} {H : Heap} {locs : List Loc} {cells slots : Nat} {Q : State → Prop}
variable {G : mg} {A : Nat → Prop} {M : mh} {cc : ByteArray} {nL pc a : Nat} {ls : Array Slot} {rest : List Value} {own : String}
theorem mW.new (w : mW G A s M H locs) {cell : Cell} {x : va_E} (he : ∀ H1 : Heap, H1[H.size]? = some cell → va_at G.1 vwCl (H.size, x) H1) : mW G A s (va_up M H.size (some x)) (H.push cell) locs ∧ M H.size = none := by
  have z1 : (H.push cell).size = H.size + 1 := Array.size_push ..
  have e1 : (H.push cell)[H.size]? = some cell := Array.getElem?_push_size
  have o1 : ∀ q : Nat, q < H.size → (H.push cell)[q]? = H[q]? := fun q hq => by rw [Array.getElem?_push, if_neg (Nat.ne_of_lt hq)]
  have hP := w.P
  have hS := w.2.2.2.1
  exact w.push ((hP.kept (fun k y hy => o1 y.1 ((hP k y hy).lt))).app (fun k y hy => by
      have hz : k < 1 := (List.getElem?_eq_some_iff.mp hy).1
      rw [show k = 0 by omega] at hy
      cases hy
      exact he _ e1)) (w.D.push hP rfl (w.2.2.1 _ hS.1)) ⟨Nat.le_trans hS.1 (by omega), fun y h1 h2 => (o1 y (Nat.lt_of_lt_of_le h1 hS.1)).trans (hS.2.1 y h1 h2), hS.2.2⟩
theorem mx_cloneV (X : CallFix p m c cc nL s args lw_all own) (w : mW G A s M H locs) {index : Nat} (hlink : Cond.methodLink own index ⟨"[LFieldPumps$Stage;", "clone", "()Ljava/lang/Object;"⟩ ∈ lw_all) (hsame : Cond.sameMethod "[LFieldPumps$Stage;" "java/lang/Object" "clone" "()Ljava/lang/Object;" ∈ lw_all) (hnat : Cond.native ⟨"java/lang/Object", "clone", "()Ljava/lang/Object;"⟩ ∈ lw_all) (hins : Cond.instanceMethod ⟨"java/lang/Object", "clone", "()Ljava/lang/Object;"⟩ ∈ lw_all) (hsel : Cond.selects "[LFieldPumps$Stage;" ⟨"[LFieldPumps$Stage;", "clone", "()Ljava/lang/Object;"⟩ ⟨"java/lang/Object", "clone", "()Ljava/lang/Object;"⟩ ∈ lw_all) (hcl : Cond.castable "[LFieldPumps$Stage;" "java/lang/Cloneable" ∈ lw_tbl)
    (hfr : 1 ≤ R.frames) (hlo : (rest.map fun v => v.category).sum + 14 ≤ R.locals) (hc : cells + 1 ≤ R.cells) (hs : slots + 6 ≤ R.slots) (hls : ls.size = nL) (hdg : decode cc pc = .ok (.invokevirtual index, 3))
    (kk : ∀ (q : Nat) (H1 : Heap), M q = none → mW G A s (va_up M q (some (mRc (G.1.1 106) 6 (fun k => if k < 6 then some (G.2 (10 + k)) else none)))) H1 locs → W p l e R s m args below meth c H1 locs (cells + 1) (slots + 6) Q (F0 m (pc + 3) ls (.ref q :: rest))) :
    W p l e R s m args below meth c H locs cells slots Q (F0 m pc ls (.ref (G.2 9) :: rest)) := by
  intro T hT X0
  obtain ⟨cell, h1, h2, h3, h4, h5, h6⟩ := w.2.2.2.2.2.2.2.2.2.2.2.2.1
  obtain ⟨c0, t0, f1, f2, f3⟩ := Cond.castable_spec (va_Nw.use (A := args) rfl (w.tbl hcl rfl))
  obtain ⟨kA0, comp0, k1, k2, -, k4⟩ := (w.2.2.2.2.1.2 6 (G.1.1 106, .object "FieldPumps$Stage") rfl).2
  have es : "[" ++ (FieldType.object "FieldPumps$Stage").toString = "[LFieldPumps$Stage;" := by decide +kernel
  rw [es] at k4
  cases k4.symm.trans f1
  obtain ⟨kA, hkA, he⟩ := X0.warmed.alike.2.2 _ _ k1
  have hkind : kA.kind = .array comp0 (.object "FieldPumps$Stage") := by rw [he]; exact k2
  have hsz : cell.slots.size = 6 := by rw [h5]; rfl
  have hcellT : T.heap[G.2 9]? = some cell := by rw [hT]; exact h1
  obtain ⟨vm', X', st⟩ := X0.cloneArray X.1 X.2.2.2.1 (X.2.2.2.2 _ hlink) (X.2.2.2.2 _ hsame) (X.2.2.2.2 _ hnat) (X.2.2.2.2 _ hins) (X.2.2.2.2 _ hsel) (a := G.2 9) (cell := cell) hcellT (fun k h => by rw [h] at h2; cases h2) h3 (by rw [h4]; exact k4) f2 (by rw [h4]; exact f3)
    (fun i v hv => by
      rw [h4]
      have hi : i < 6 := by rw [← hsz]; exact (Array.getElem?_eq_some_iff.mp hv).1
      have hv2 : v = .ref (G.2 (10 + i)) := by
        rw [h5] at hv
        simp only [List.getElem?_toArray, List.getElem?_map, List.getElem?_range hi, Option.map_some, Option.some.injEq] at hv
        exact hv.symm
      have hk' : T.vm.classes[G.1.1 106]? = some kA := hkA
      rw [hv2]
      simp [State.fitsSlot, State.slotType?, hk', hkind, fits])
    (g := F0 m pc ls (.ref (G.2 9) :: rest)) rfl (hls.trans X.2.2.1.symm) rfl (by rw [X.2.1]; exact hdg) hfr (by show 2 * 0 + _ + 14 ≤ _; omega) hc (by rw [hsz]; exact hs) (hloader := by rw [h4]; exact Vm.clonesLoader_of_array k1 k2)
  rw [hsz] at X'
  obtain ⟨w2, hn⟩ := w.new (cell := { cls := cell.cls, slots := cell.slots }) (x := mRc (G.1.1 106) 6 (fun k => if k < 6 then some (G.2 (10 + k)) else none)) (fun H1 hH => by
    show H1[H.size]? = some _
    rw [hH, h4, h5]
    rfl)
  obtain ⟨t, b1, b2⟩ := kk H.size _ hn w2 ((T.setVm vm').pushCell { cls := cell.cls, slots := cell.slots }) (by rw [← hT]; rfl) X'
  refine ⟨t, st t ?_, b2⟩
  rw [hT]
  exact b1
theorem mx_castArr (X : CallFix p m c cc nL s args lw_all own) (w : mW G A s M H locs) {index : Nat} {nm : String} (hlink : Cond.classLink own index nm ∈ lw_all) {cA : ClassId} {x : vp_A} (hM : M a = some (.inl (cA, x))) (hnm : s.vm.findClass nm = some cA) (hdg : decode cc pc = .ok (.checkcast index, 3))
    (kk : W p l e R s m args below meth c H locs cells slots Q (F0 m (pc + 3) ls (.ref a :: rest))) : W p l e R s m args below meth c H locs cells slots Q (F0 m pc ls (.ref a :: rest)) := by
  obtain ⟨q0, hq⟩ := w.at hM
  exact va_castA X.1 X.2.1 X.2.2.2.1 (X.2.2.2.2 _ hlink) w.P q0 hq hnm hdg kk
theorem mW.nmStage (w : mW G A s M H locs) : s.vm.findClass "[LFieldPumps$Stage;" = some (G.1.1 106) := by
  obtain ⟨kA0, comp0, k1, k2, -, k4⟩ := (w.2.2.2.2.1.2 6 (G.1.1 106, .object "FieldPumps$Stage") rfl).2
  have es : "[" ++ (FieldType.object "FieldPumps$Stage").toString = "[LFieldPumps$Stage;" := by decide +kernel
  rw [es] at k4
  exact k4
theorem mW.nmInt (w : mW G A s M H locs) : s.vm.findClass "[I" = some (G.1.1 100) := (w.2.2.2.2.1.2 0 _ rfl).2
/-- the lambda that captures nothing: its one object -/
theorem mx_idynC (X : CallFix p m c cc nL s args lw_all own) (w : mW G A s M H locs) (k : Nat) (hk : k < 3) (hnm : s.methodNamed? kcI = some m) (hlo : (rest.map fun v => v.category).sum + 3072 ≤ R.locals) (hls : ls.size = nL) (hdg : decode cc (kcIx k) = .ok (.invokedynamic (kcN k), 5))
    (kk : W p l e R s m args below meth c H locs cells slots Q (F0 m (kcIx k + 5) ls (.ref (G.2 (6 + k)) :: rest))) : W p l e R s m args below meth c H locs cells slots Q (F0 m (kcIx k) ls rest) := by
  intro T hT X0
  obtain ⟨⟨S, th, hS, ht, hl⟩, -⟩ := w.2.2.2.2.2.2.2.2.2.2.2.2.2.2.2.2.1 k hk
  obtain ⟨m', kS, cfS, i0, p0, lk, hm', hkS, -, -, -, hfind, -, -, hlk⟩ := State.lambdaAt?_spec hl
  have hm2 : S.methodNamed? kcI = s.methodNamed? kcI := by
    simp only [State.methodNamed?, hS]
  cases hnm.symm.trans (hm2.symm.trans hm')
  obtain ⟨a0, rfl, e1⟩ : ∃ a0, lk = .constant a0 ∧ some (G.2 (6 + k)) = some a0 := by
    rcases hlk with ⟨a0, -, h, h2, -⟩ | ⟨-, h, -⟩
    · exact ⟨a0, h, h2⟩
    · cases h
  cases e1
  rw [hS] at hkS
  obtain ⟨t, b1, b2⟩ := kk T hT X0
  exact ⟨t, X0.lambdaConstant X.1 (g := F0 m (kcIx k) ls rest) rfl (hls.trans X.2.2.1.symm) (by rw [X.2.1]; exact hdg) hkS hfind (by rw [X0.admits.platform]; show 2 * 0 + (rest.map fun v => v.category).sum + 3072 ≤ R.locals; omega) b1, b2⟩
/-- the lambda that captures two numbers: a new object -/
theorem mx_idynM (X : CallFix p m c cc nL s args lw_all own) (w : mW G A s M H locs) {x y : Int32} (hnm : s.methodNamed? kcA = some m) (hlo : (rest.map fun v => v.category).sum + 2 + 3072 ≤ R.locals) (hls : ls.size = nL) (hc : cells + 1 ≤ R.cells) (hs : slots + 2 ≤ R.slots) (hdg : decode cc 20 = .ok (.invokedynamic 194, 5))
    (kk : ∀ (q : Nat) (H1 : Heap), M q = none → mW G A s (va_up M q (some (mIc (G.1.1 113) 2 (fun j => if j = 0 then x else if j = 1 then y else 0)))) H1 locs → W p l e R s m args below meth c H1 locs (cells + 1) (slots + 2) Q (F0 m 25 ls (.ref q :: rest))) : W p l e R s m args below meth c H locs cells slots Q (F0 m 20 ls (.int y :: .int x :: rest)) := by
  intro T hT X0
  obtain ⟨S, th, hS, ht, hl⟩ := w.2.2.2.2.2.2.2.2.2.2.2.2.2.2.2.2.2
  obtain ⟨m', kS, cfS, i0, p0, lk, hm', hkS, hcfS, hsh, -, hfind, hmade, -, hlk⟩ := State.lambdaAt?_spec hl
  have hm2 : S.methodNamed? kcA = s.methodNamed? kcA := by
    simp only [State.methodNamed?, hS]
  cases hnm.symm.trans (hm2.symm.trans hm')
  obtain rfl : lk = .makes (G.1.1 113) := by
    rcases hlk with ⟨a0, -, -, h, -⟩ | ⟨h, -⟩
    · cases h
    · exact h
  rw [hS] at hkS
  obtain ⟨bsm, nt, desc, site, hc7, hnt7, hsig, hpar⟩ := shape_site hsh
  obtain ⟨kD, hkD, hnameD⟩ := className_of_methodNamed hnm
  cases hkS.symm.trans hkD
  obtain ⟨kK, f0, f1, hkK, hkind, htyK, -⟩ := lam_madeC (vm := s.vm) hkS (by rw [hnameD]; rfl) (by rw [← hS]; exact hmade) (fun o ok ho hok => by
    obtain ⟨c0, k0, g1, g2, -, -, -, g6⟩ := Cond.instantiable_spec (X.2.2.2.2 _ q2470)
    cases ho.symm.trans g1
    cases hok.symm.trans g2
    exact g6)
  have hslotsE : ((kK.instanceTypes.toList.zip [Value.int x, Value.int y]).map fun (t, z) => narrow t z) = [.int x, .int y] := by rw [htyK]; rfl
  obtain ⟨X₁, st1⟩ := X0.lambdaMakes X.1 (g := F0 m 20 ls (.int y :: .int x :: rest)) rfl (hls.trans X.2.2.1.symm) (by rw [X.2.1]; exact hdg) (vals := [.int x, .int y]) (rest := rest)
      hkS hfind hcfS hc7 hnt7 (parseLong_of_parse hsig) (by rw [hpar]; rfl) rfl hkK
      (by rw [X0.admits.platform]; show 2 * 0 + ((Value.int y :: Value.int x :: rest).map fun v => v.category).sum + 3072 ≤ R.locals; rw [List.map_cons, List.map_cons, List.sum_cons, List.sum_cons]; show 2 * 0 + (1 + (1 + (rest.map fun v => v.category).sum)) + 3072 ≤ R.locals; omega) hc (by rw [hslotsE]; exact hs)
      (fun i v hx => by
        rw [hslotsE] at hx
        rcases i with _ | _ | i
        · simp at hx; subst hx; simp [State.fitsSlot, State.slotType?, hkK, hkind, htyK, fits]
        · simp at hx; subst hx; simp [State.fitsSlot, State.slotType?, hkK, hkind, htyK, fits]
        · simp at hx)
  rw [hslotsE] at X₁ st1
  obtain ⟨w2, hn⟩ := w.new (cell := { cls := G.1.1 113, slots := [Value.int x, Value.int y].toArray, vm := .none }) (x := mIc (G.1.1 113) 2 (fun j => if j = 0 then x else if j = 1 then y else 0)) (fun H1 hH => by
    show H1[H.size]? = some _
    rw [hH]
    rfl)
  obtain ⟨t, b1, b2⟩ := kk H.size _ hn w2 (T.pushCell { cls := G.1.1 113, slots := [Value.int x, Value.int y].toArray, vm := .none }) (by rw [← hT]; rfl) X₁
  refine ⟨t, st1 t ?_, b2⟩
  rw [hT]
  exact b1
theorem mW.anyWatch (w : mW G A s M H locs) (k : Nat) (hk : k < 3) : va_Any "FieldPumps$Watch" s H (G.2 (6 + k)) := by
  obtain ⟨⟨S, th, hS, ht, hl⟩, cell, c1, c2, c3, c4, c5⟩ := w.2.2.2.2.2.2.2.2.2.2.2.2.2.2.2.2.1 k hk
  obtain ⟨m', kS, cfS, i0, p0, lk, hm', hkS, -, -, -, -, hmade, hcall, -⟩ := State.lambdaAt?_spec hl
  obtain ⟨i, hi, has, -⟩ := State.lambdaCallable_spec hcall
  obtain ⟨dk', k', ok, tk, file, cf, object, iface, st, lay, methods, target, found, hd', hk', -⟩ := Lambda.isMade_spec hmade
  rw [hS] at hi has hk'
  exact ⟨cell, c1, by rw [c3]; rfl, ⟨k', by rw [c2]; exact hk'⟩, fun comp hc => by cases hi.symm.trans hc; rw [c2]; exact has⟩
theorem mW.anyCurve (w : mW G A s M H locs) {q : Nat} {x : vp_A} (hM : M q = some (.inl (G.1.1 113, x))) : va_Any "FieldPumps$Curve" s H q := by
  obtain ⟨S, th, hS, ht, hl⟩ := w.2.2.2.2.2.2.2.2.2.2.2.2.2.2.2.2.2
  obtain ⟨m', kS, cfS, i0, p0, lk, hm', hkS, -, -, -, -, hmade, hcall, -⟩ := State.lambdaAt?_spec hl
  obtain ⟨i, hi, has, -⟩ := State.lambdaCallable_spec hcall
  obtain ⟨dk', k', ok, tk, file, cf, object, iface, st, lay, methods, target, found, hd', hk', -⟩ := Lambda.isMade_spec hmade
  rw [hS] at hi has hk'
  have hcell : H[q]? = some (vp_cell (G.1.1 113) x) := w.1 _ _ hM
  have e1 : (vp_cell (G.1.1 113) x).vm = .none := by obtain ⟨n, f | f | f | f | f⟩ := x <;> rfl
  have e2 : (vp_cell (G.1.1 113) x).cls = G.1.1 113 := by obtain ⟨n, f | f | f | f | f⟩ := x <;> rfl
  exact ⟨_, hcell, by rw [e1]; rfl, ⟨k', by rw [e2]; exact hk'⟩, fun comp hc => by cases hi.symm.trans hc; rw [e2]; exact has⟩
end DY
section DYM
variable {l : Launch} {y : MethodName} {cc : ByteArray} {maxL mc ms : Nat} {rm : Room} {P : mh → Prop} {As : List Value} {G : mg} {A : Nat → Prop}
/-- as mx_ofv; the walk knows its method's own name besides -/
theorem mx_ofvN {post : mh → Prop} (hy : plainName y.cls = true) (hn : (lg_sl As).length ≤ maxL)
    (body : ∀ (p : Program) (e : Env) (R : Room) (s : State) (m : MethodId) (av : Array Value) (below : List Frame) (meth : Method) (c : Code) (M : mh) (H : Heap) (Q : State → Prop) (ls : Array Slot), CallFix p m c cc maxL s av lw_all y.cls → R.frames = rm.frames → R.locals = rm.locals → R.cells = rm.cells → R.slots = rm.slots → meth.name = y.name → P M → mW G A s M H [] → (∀ (M : mh) (H : Heap) (locs : List Loc) (ls : Array Slot) (pc : Nat), decode cc pc = .ok (.return_, 1) → post M → mW G A s M H locs → W p l e R s m av below meth c H locs mc ms Q (F0 m pc ls [])) → lv_has ls maxL (lv_args 0 As) → s.methodNamed? y = some m → W p l e R s m av below meth c H [] 0 0 Q (F0 m 0 ls [])) :
    Met l y (ws_ y cc maxL none) rm (va_Pc As (mU G A P)) (mQv G A post) mc ms A := by
  refine Met.ofW (cc := cc) (maxL := maxL) (ret := none) hy rfl ?_
  intro p e s m args below meth c s₁ B hml hv
  obtain ⟨rfl, hv⟩ := hv
  obtain ⟨M, hM, w⟩ := mW.start hv
  have hl := lv_entry As (n := maxL) hn
  rw [lg_entry_eq]
  exact body p e _ s m _ below meth c M s.heap _ _ ⟨B.exec, B.bytes, hml, findClass_of_methodNamed B.named, fun w h => atoms_spec (ws := ws_ y cc maxL none) B.pre w (List.mem_cons_of_mem _ h)⟩ rfl rfl rfl rfl (name_of_methodNamed B.named B.method).1 hM w (fun M H locs ls pc hd hp w => mx_vret w B.exec B.bytes B.returns hp hd B.notSynchronized) hl B.named
end DYM

