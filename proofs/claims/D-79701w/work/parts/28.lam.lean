set_option maxRecDepth 100000
/-! LAM: the lambdas: the files of their made kinds, the forwarders' walk -/
def lamZ : ClassFile := { minorVersion := 0, majorVersion := 0, constantPool := #[], accessFlags := 0, thisClass := 0, superClass := 0, interfaces := #[], fields := #[], methods := #[], attributes := #[] }
def lamD (sh : Lambda.Shape) : ClassFile := (sh.file "FieldPumps$Station").getD lamZ
def lamF (sh : Lambda.Shape) : Method := ((layoutMethods (lamD sh)).bind (·[1]?)).getD default
def lamL (sh : Lambda.Shape) : Array Field × Array FieldType × Array FieldType := (layoutFields (lamD sh) 0).getD (#[], #[], #[])
theorem lam_file {sh : Lambda.Shape} (h : (sh.file "FieldPumps$Station").isSome = true) : sh.file "FieldPumps$Station" = some (lamD sh) := by
  obtain ⟨x, hx⟩ := Option.isSome_iff_exists.mp h
  simp [lamD, hx]
theorem lam_second {sh : Lambda.Shape} (h : ((layoutMethods (lamD sh)).bind (·[1]?)).isSome = true) : ∀ ms, layoutMethods (lamD sh) = some ms → ms[1]? = some (lamF sh) := by
  intro ms hms
  obtain ⟨x, hx⟩ := Option.isSome_iff_exists.mp h
  have hf : lamF sh = x := by simp [lamF, hx]
  rw [hms] at hx
  rw [hf]
  exact hx
theorem lam_laid {sh : Lambda.Shape} (h : (layoutFields (lamD sh) 0).isSome = true) : layoutFields (lamD sh) 0 = some (lamL sh) := by
  obtain ⟨x, hx⟩ := Option.isSome_iff_exists.mp h
  simp [lamL, hx]
def lamWb : ByteArray := ⟨#[0x2b, 0xb8, 0x00, 0x11, 0xac]⟩
theorem lw0 : decode lamWb 0 = .ok (.aload_n 1, 1) := by decide +kernel
theorem lw1 : decode lamWb 1 = .ok (.invokestatic 17, 3) := by decide +kernel
theorem lw4 : decode lamWb 4 = .ok (.ireturn, 1) := by decide +kernel
def lamCb : ByteArray := ⟨#[0x2a, 0xb4, 0x00, 0x10, 0x2a, 0xb4, 0x00, 0x12, 0x1b, 0x1c, 0xb8, 0x00, 0x1a, 0xac]⟩
theorem lc0 : decode lamCb 0 = .ok (.aload_n 0, 1) := by decide +kernel
theorem lc1 : decode lamCb 1 = .ok (.getfield 16, 3) := by decide +kernel
theorem lc4 : decode lamCb 4 = .ok (.aload_n 0, 1) := by decide +kernel
theorem lc5 : decode lamCb 5 = .ok (.getfield 18, 3) := by decide +kernel
theorem lc8 : decode lamCb 8 = .ok (.iload_n 1, 1) := by decide +kernel
theorem lc9 : decode lamCb 9 = .ok (.iload_n 2, 1) := by decide +kernel
theorem lc10 : decode lamCb 10 = .ok (.invokestatic 26, 3) := by decide +kernel
theorem lc13 : decode lamCb 13 = .ok (.ireturn, 1) := by decide +kernel
theorem lamW0_a : ((shWatch (kcNm 0)).file "FieldPumps$Station").isSome = true := by decide +kernel
theorem lamW0_b : ((layoutMethods (lamD (shWatch (kcNm 0)))).bind (·[1]?)).isSome = true := by decide +kernel
theorem lamW0_c : ((lamF (shWatch (kcNm 0))).code.map fun c => (c.code.data, c.maxLocals)) = some (lamWb.data, 2) := by decide +kernel
theorem lamW0_d : ((lamF (shWatch (kcNm 0))).accessFlags, (lamF (shWatch (kcNm 0))).sig.returnType) = (0x0001, some FieldType.boolean) := by decide +kernel
theorem lamW0_e : (lamD (shWatch (kcNm 0))).constantPool[17]? = some (.methodref 14 16) ∧ (lamD (shWatch (kcNm 0))).constantPool.className? 14 = some "FieldPumps$Station" ∧ (lamD (shWatch (kcNm 0))).constantPool.nameAndType? 16 = some (kcNm 0, "(LFieldPumps$Station;)Z") := by decide +kernel
theorem lamW0_f : (lamD (shWatch (kcNm 0))).constantPool[14]? = some (.class_ 13) ∧ (lamD (shWatch (kcNm 0))).constantPool.string? 13 = some "FieldPumps$Station" ∧ 14 ≠ (lamD (shWatch (kcNm 0))).thisClass := by decide +kernel
theorem lamW1_a : ((shWatch (kcNm 1)).file "FieldPumps$Station").isSome = true := by decide +kernel
theorem lamW1_b : ((layoutMethods (lamD (shWatch (kcNm 1)))).bind (·[1]?)).isSome = true := by decide +kernel
theorem lamW1_c : ((lamF (shWatch (kcNm 1))).code.map fun c => (c.code.data, c.maxLocals)) = some (lamWb.data, 2) := by decide +kernel
theorem lamW1_d : ((lamF (shWatch (kcNm 1))).accessFlags, (lamF (shWatch (kcNm 1))).sig.returnType) = (0x0001, some FieldType.boolean) := by decide +kernel
theorem lamW1_e : (lamD (shWatch (kcNm 1))).constantPool[17]? = some (.methodref 14 16) ∧ (lamD (shWatch (kcNm 1))).constantPool.className? 14 = some "FieldPumps$Station" ∧ (lamD (shWatch (kcNm 1))).constantPool.nameAndType? 16 = some (kcNm 1, "(LFieldPumps$Station;)Z") := by decide +kernel
theorem lamW1_f : (lamD (shWatch (kcNm 1))).constantPool[14]? = some (.class_ 13) ∧ (lamD (shWatch (kcNm 1))).constantPool.string? 13 = some "FieldPumps$Station" ∧ 14 ≠ (lamD (shWatch (kcNm 1))).thisClass := by decide +kernel
theorem lamW2_a : ((shWatch (kcNm 2)).file "FieldPumps$Station").isSome = true := by decide +kernel
theorem lamW2_b : ((layoutMethods (lamD (shWatch (kcNm 2)))).bind (·[1]?)).isSome = true := by decide +kernel
theorem lamW2_c : ((lamF (shWatch (kcNm 2))).code.map fun c => (c.code.data, c.maxLocals)) = some (lamWb.data, 2) := by decide +kernel
theorem lamW2_d : ((lamF (shWatch (kcNm 2))).accessFlags, (lamF (shWatch (kcNm 2))).sig.returnType) = (0x0001, some FieldType.boolean) := by decide +kernel
theorem lamW2_e : (lamD (shWatch (kcNm 2))).constantPool[17]? = some (.methodref 14 16) ∧ (lamD (shWatch (kcNm 2))).constantPool.className? 14 = some "FieldPumps$Station" ∧ (lamD (shWatch (kcNm 2))).constantPool.nameAndType? 16 = some (kcNm 2, "(LFieldPumps$Station;)Z") := by decide +kernel
theorem lamW2_f : (lamD (shWatch (kcNm 2))).constantPool[14]? = some (.class_ 13) ∧ (lamD (shWatch (kcNm 2))).constantPool.string? 13 = some "FieldPumps$Station" ∧ 14 ≠ (lamD (shWatch (kcNm 2))).thisClass := by decide +kernel
theorem lamC_a : (shCurve.file "FieldPumps$Station").isSome = true := by decide +kernel
theorem lamC_b : ((layoutMethods (lamD shCurve)).bind (·[1]?)).isSome = true := by decide +kernel
theorem lamC_c : ((lamF shCurve).code.map fun c => (c.code.data, c.maxLocals)) = some (lamCb.data, 3) := by decide +kernel
theorem lamC_d : ((lamF shCurve).accessFlags, (lamF shCurve).sig.returnType) = (0x0001, some FieldType.int) := by decide +kernel
theorem lamC_e : (lamD shCurve).constantPool[26]? = some (.methodref 22 25) ∧ (lamD shCurve).constantPool.className? 22 = some "FieldPumps$Station" ∧ (lamD shCurve).constantPool.nameAndType? 25 = some ("lambda$add$3", "(IIII)I") := by decide +kernel
theorem lamC_f : (lamD shCurve).constantPool[22]? = some (.class_ 21) ∧ (lamD shCurve).constantPool.string? 21 = some "FieldPumps$Station" ∧ 22 ≠ (lamD shCurve).thisClass := by decide +kernel
theorem lamC_g : (layoutFields (lamD shCurve) 0).isSome = true := by decide +kernel
theorem lamC_h : (lamD shCurve).constantPool[16]? = some (.fieldref 2 15) ∧ (lamD shCurve).constantPool.nameAndType? 15 = some ("arg$1", "I") ∧ (lamL shCurve).1.findIdx? (·.name == "arg$1") = some 0 ∧ ((lamL shCurve).1[0]?).map (fun f => (f.isStatic, f.slot)) = some (false, 0) := by decide +kernel
theorem lamC_i : (lamD shCurve).constantPool[18]? = some (.fieldref 2 17) ∧ (lamD shCurve).constantPool.nameAndType? 17 = some ("arg$2", "I") ∧ (lamL shCurve).1.findIdx? (·.name == "arg$2") = some 1 ∧ ((lamL shCurve).1[1]?).map (fun f => (f.isStatic, f.slot)) = some (false, 1) := by decide +kernel
theorem lamC_j : (lamL shCurve).2.1 = #[FieldType.int, FieldType.int] := by decide +kernel
/-- what a made kind's forwarder is -/
theorem lam_made {e : Setting} {vm : Vm} {d c : ClassId} {dk : Class} {sh : Lambda.Shape} {bytes : ByteArray} {mL N cN sN nN : Nat} {rt : FieldType} {ds : String} (hd : vm.classes[d]? = some dk) (hname : dk.name = "FieldPumps$Station") (h : Lambda.isMade e vm d sh c = true)
    (ha : (sh.file "FieldPumps$Station").isSome = true) (hb : ((layoutMethods (lamD sh)).bind (·[1]?)).isSome = true) (fc : ((lamF sh).code.map fun c => (c.code.data, c.maxLocals)) = some (bytes.data, mL)) (ff : ((lamF sh).accessFlags, (lamF sh).sig.returnType) = (0x0001, some rt))
    (hi : sh.implClass = "FieldPumps$Station") (hj : sh.implItf = false) (hds : sh.implDesc.toString = ds)
    (eM : (lamD sh).constantPool[N]? = some (.methodref cN nN) ∧ (lamD sh).constantPool.className? cN = some "FieldPumps$Station" ∧ (lamD sh).constantPool.nameAndType? nN = some (sh.implName, ds)) (eC : (lamD sh).constantPool[cN]? = some (.class_ sN) ∧ (lamD sh).constantPool.string? sN = some "FieldPumps$Station" ∧ cN ≠ (lamD sh).thisClass) :
    ∃ (k tk : Class) (file : ClassFile) (methk : Method) (ck : Code) (st : ClassId) (t : MethodId),
      vm.classes[c]? = some k ∧ k.name = "FieldPumps$Station$$Lambda" ∧ k.cf = some file ∧ file.constantPool = (lamD sh).constantPool ∧
      vm.method? ⟨c, 1⟩ = some methk ∧ methk.code = some ck ∧ ck.code = bytes ∧ ck.maxLocals = mL ∧ methk.locks = false ∧ methk.accessFlags = 0x0001 ∧ methk.sig.returnType = some rt ∧
      vm.findClass "FieldPumps$Station" = some st ∧ vm.classes[st]? = some tk ∧ ((methodIn st sh.implName ds tk.isInterface none).ask e vm).1 = .ok t ∧
      vm.methodReady c N t ∧ vm.classReady c cN st := by
  obtain ⟨dk', k, ok, tk, file, cf, object, iface, st, lay, methods, target, found, hd', hk, hfile, hcf, hobj, -, hok, hlay, hms, ht, htk, hg, -, hrec, -, -, -, hitf, hpool, hmeth, hfields, -, hres, -⟩ := Lambda.isMade_spec h
  cases hd.symm.trans hd'
  rw [hname, lam_file ha] at hcf
  cases hcf
  obtain ⟨b, hb1, hsame⟩ := hmeth 1 (lamF sh) (lam_second hb methods hms)
  simp only [Lambda.sameMethod, Bool.and_eq_true, decide_eq_true_eq] at hsame
  obtain ⟨⟨hn, -, hsig, hfl⟩, hcode⟩ := hsame
  simp only [Prod.mk.injEq] at ff
  rw [hi] at ht
  rw [hds] at hg
  cases hfc : (lamF sh).code with
  | none => rw [hfc] at fc; cases fc
  | some x =>
    cases hbc : b.code with
    | none => simp [hfc, hbc] at hcode
    | some y =>
      simp only [hfc, hbc, Bool.and_eq_true, decide_eq_true_eq] at hcode
      simp only [hfc, Option.map_some, Option.some.injEq, Prod.mk.injEq] at fc
      refine ⟨k, tk, file, b, y, st, target, hk, by rw [hrec.1, hname]; rfl, hfile, hpool.2.1, by simp [Vm.method?, hk, hb1], hbc, ?_, by rw [← hcode.1.1.1.1.2.1]; exact fc.2, ?_, by rw [← hfl]; exact ff.1, by rw [← hsig]; exact ff.2, ht, htk, hg,
        ⟨k, hk, hres N _ (Lambda.resolvedOf_method eM.1 eM.2.1 ht htk eM.2.2 hg)⟩, ⟨k, hk, hres cN _ (Lambda.resolvedOf_class eC.1 eC.2.2 eC.2.1 ht)⟩⟩
      · rw [← hcode.1.1.1.1.2.2]
        exact ByteArray.ext fc.1
      · simp [Method.locks, Method.isSynchronized, ← hfl, ff.1, hasFlag, Acc.synchronized]
/-- the captured numbers' places -/
theorem lam_madeC {e : Setting} {vm : Vm} {d c : ClassId} {dk : Class} (hd : vm.classes[d]? = some dk) (hname : dk.name = "FieldPumps$Station") (h : Lambda.isMade e vm d shCurve c = true)
    (hO : ∀ o ok, vm.findClass "java/lang/Object" = some o → vm.classes[o]? = some ok → ok.instanceTypes.size = 0) :
    ∃ (k : Class) (f0 f1 : Field), vm.classes[c]? = some k ∧ k.kind = .ordinary ∧ k.instanceTypes = #[FieldType.int, FieldType.int] ∧ vm.fieldReady c 16 c f0 ∧ f0.isStatic = false ∧ f0.slot = 0 ∧ vm.fieldReady c 18 c f1 ∧ f1.isStatic = false ∧ f1.slot = 1 := by
  obtain ⟨dk', k, ok, tk, file, cf, object, iface, st, lay, methods, target, found, hd', hk, hfile, hcf, hobj, -, hok, hlay, hms, ht, htk, hg, -, hrec, -, -, -, hitf, hpool, hmeth, hfields, htyp, hres, -⟩ := Lambda.isMade_spec h
  cases hd.symm.trans hd'
  rw [hname, lam_file lamC_a] at hcf
  cases hcf
  have h0 := hO object ok hobj hok
  rw [h0, lam_laid lamC_g] at hlay
  cases hlay
  obtain ⟨g0, hg0, hp0⟩ := Option.map_eq_some_iff.mp lamC_h.2.2.2
  simp only [Prod.mk.injEq] at hp0
  obtain ⟨g1, hg1, hp1⟩ := Option.map_eq_some_iff.mp lamC_i.2.2.2
  simp only [Prod.mk.injEq] at hp1
  refine ⟨k, g0, g1, hk, hrec.2.1, ?_, ⟨k, 0, k, hk, hres 16 _ (Lambda.resolvedOf_field lamC_h.1 lamC_h.2.1 lamC_h.2.2.1), hk, hfields 0 _ hg0⟩, hp0.1, hp0.2, ⟨k, 1, k, hk, hres 18 _ (Lambda.resolvedOf_field lamC_i.1 lamC_i.2.1 lamC_i.2.2.1), hk, hfields 1 _ hg1⟩, hp1.1, hp1.2⟩
  have e0 : ok.instanceTypes = #[] := Array.eq_empty_of_size_eq_zero h0
  have := htyp.1
  rw [e0, lamC_j] at this
  simpa using this
