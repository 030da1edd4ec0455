set_option maxRecDepth 100000
/-! LROW: rows of the curves and the watches -/
theorem shC_sam : shCurve.sam.toString = "(II)I" := by decide +kernel
theorem shC_imp : shCurve.implDesc.toString = "(IIII)I" := by decide +kernel
theorem shW_sam (k : Nat) : (shWatch (kcNm k)).sam.toString = "(LFieldPumps$Station;)Z" := by
  have : (shWatch (kcNm k)).sam.toString = (shWatch (kcNm 0)).sam.toString := rfl
  rw [this]
  decide +kernel
theorem shW_imp (k : Nat) : (shWatch (kcNm k)).implDesc.toString = "(LFieldPumps$Station;)Z" := by
  have : (shWatch (kcNm k)).implDesc.toString = (shWatch (kcNm 0)).implDesc.toString := rfl
  rw [this]
  decide +kernel
theorem mC_params : (parseMethodDescriptor "(II)I").map (fun d => d.parameters.length) = some 2 := by decide +kernel
theorem mC_paramsI : (parseMethodDescriptor "(IIII)I").map (fun d => d.parameters.length) = some 4 := by decide +kernel
theorem mW_params : (parseMethodDescriptor "(LFieldPumps$Station;)Z").map (fun d => d.parameters.length) = some 1 := by decide +kernel
section LROW
variable {p : Program} {l : Launch} {e : Env} {R : Room} {s : State} {m : MethodId} {args : Array Value} {below : List Frame} {meth : Method} {c : Code} {H : Heap} {locs : List Loc} {cells slots : Nat} {Q : State → Prop}
variable {G : mg} {A : Nat → Prop} {M M0 : mh} {cc : ByteArray} {nL pc a : Nat} {ls : Array Slot} {rest : List Value} {own : String} {ad : Nat → Nat} {np ng : Nat} {f : Nat → Int32}
theorem mx_watchG (X : CallFix p m c cc nL s args lw_all own) (w : mW G A s M H locs) (k : Nat) (hk : k < 3) {index b : Nat} (hlink : Cond.methodLink own index ⟨"FieldPumps$Watch", "holds", "(LFieldPumps$Station;)Z"⟩ ∈ lw_all)
    {bytes : ByteArray} {maxL : Nat} (hcode : Cond.code ⟨"FieldPumps$Station", kcNm k, "(LFieldPumps$Station;)Z"⟩ bytes maxL (some .boolean) ∈ lw_all) (hst : Cond.static ⟨"FieldPumps$Station", kcNm k, "(LFieldPumps$Station;)Z"⟩ ∈ lw_all) (hini : Cond.initialized "FieldPumps$Station" ∈ lw_all)
    (hd : ((shWatch (kcNm k)).file "FieldPumps$Station").isSome = true ∧ ((layoutMethods (lamD (shWatch (kcNm k)))).bind (·[1]?)).isSome = true ∧ ((lamF (shWatch (kcNm k))).code.map fun c => (c.code.data, c.maxLocals)) = some (lamWb.data, 2) ∧ ((lamF (shWatch (kcNm k))).accessFlags, (lamF (shWatch (kcNm k))).sig.returnType) = (0x0001, some FieldType.boolean) ∧
      ((lamD (shWatch (kcNm k))).constantPool[17]? = some (.methodref 14 16) ∧ (lamD (shWatch (kcNm k))).constantPool.className? 14 = some "FieldPumps$Station" ∧ (lamD (shWatch (kcNm k))).constantPool.nameAndType? 16 = some (kcNm k, "(LFieldPumps$Station;)Z")) ∧ ((lamD (shWatch (kcNm k))).constantPool[14]? = some (.class_ 13) ∧ (lamD (shWatch (kcNm k))).constantPool.string? 13 = some "FieldPumps$Station" ∧ 14 ≠ (lamD (shWatch (kcNm k))).thisClass))
    {P : mh → Prop} {post : Int32 → mh → Prop} {rm : Room} (hMet : Met l ⟨"FieldPumps$Station", kcNm k, "(LFieldPumps$Station;)Z"⟩ (ws_ ⟨"FieldPumps$Station", kcNm k, "(LFieldPumps$Station;)Z"⟩ bytes maxL (some .boolean)) rm (va_Pc [.ref b] (mU G A P)) (mQi G A post) 0 0 A) (hP : P M) (hz : ∀ r M, post r M → narrow .boolean (.int r) = .int r)
    (hrc : rm.cells = 0) (hrs : rm.slots = 0) (hfr : rm.frames + 2 ≤ R.frames) (hlo : 8 + (2 + 11) + (8 + (maxL + 11) + rm.locals) ≤ R.locals) (hls : ls.size = nL) (hW : (rest.map fun v => v.category).sum ≤ 8) (hc : cells ≤ R.cells) (hs : slots ≤ R.slots) (hdg : decode cc pc = .ok (.invokeinterface index 2, 5))
    (kk : ∀ (r : Int32) (M1 : mh) (H1 : Heap) (locs1 : List Loc), post r M1 → mW G A s M1 H1 locs1 → W p l e R s m args below meth c H1 locs1 cells slots Q (F0 m (pc + 5) ls (.int r :: rest))) :
    W p l e R s m args below meth c H locs cells slots Q (F0 m pc ls (.ref b :: .ref (G.2 (6 + k)) :: rest)) := by
  obtain ⟨hL, cell, hcell, hcls, hvm, hsl, hA⟩ := w.2.2.2.2.2.2.2.2.2.2.2.2.2.2.2.2.1 k hk
  obtain ⟨d1, d2, d3, d4, d5, d6⟩ := hd
  have hr := lam_go (meth := meth) (As := [.ref b]) (argsL := [.ref b]) (rest := rest) (av := #[.ref (G.2 (6 + k)), .ref b]) (Ls := #[.val (.ref (G.2 (6 + k))), .val (.ref b)]) (P0 := 1) X w (xp := kcI) rfl hL hcell hcls hvm (by rw [shW_sam]; exact hlink) (by rw [shW_sam]; exact w.tblB q1521 rfl rfl) (by rw [shW_sam]; exact w.tblB q1520 rfl rfl) (by show "FieldPumps$Watch" ≠ _ ∧ "FieldPumps$Watch" ≠ _; decide)
    hcode hst hini d1 d2 d3 d4 rfl rfl (shW_imp k) d5 d6 (by rw [shW_sam]; exact mW_params) mW_params hMet hP hz hrc hrs hfr hlo lw1 lw4 rfl
    (fun vm₁ methk ck R' g U U0 hW₁ hck Y hv hh Z hZ => by
      show Steps p.tables e (.java g :: below) (U.setTop { method := ⟨G.1.1 (110 + k), 1⟩, pc := 0, locals := #[.val (.ref (G.2 (6 + k))), .val (.ref b)], stack := [], locked := none }) Z
      jvm_step Y.here [X.1, hck, lw0, Value.isRef]
      exact hZ) hls hW hc hs hdg
  exact mx_biF w hr fun r M1 H1 locs1 hp w1 => kk r M1 H1 locs1 hp w1
theorem bI_zz {post : Prop} {b : Bool} {r : Int32} (h : r = bI b ∧ post) : narrow .boolean (.int r) = .int r := by rw [h.1]; exact bI_z b
/-- the curve of pump k -/
theorem st_flow (X : CallFix p m c cc nL s args lw_all own) (w : mW G A s M H locs) (hM : Sta G ad np ng M0 M f) {k : Nat} (hk : k < np) {index : Nat} (hlink : Cond.methodLink own index ⟨"FieldPumps$Curve", "flow", "(II)I"⟩ ∈ lw_all) {x y : Int32} (hF : CvOk (f (39 + (8 * k) + 1)) (f (39 + (8 * k) + 2)) x y)
    (hfr : 1 + 2 ≤ R.frames) (hlo : 8 + (3 + 11) + (8 + (5 + 11) + 23) ≤ R.locals) (hls : ls.size = nL) (hW : (rest.map fun v => v.category).sum ≤ 8) (hc : cells ≤ R.cells) (hs : slots ≤ R.slots) (hdg : decode cc pc = .ok (.invokeinterface index 3, 5))
    (kk : ∀ (H1 : Heap) (locs1 : List Loc), mW G A s M H1 locs1 → W p l e R s m args below meth c H1 locs1 cells slots Q (F0 m (pc + 5) ls (.int (cf_curve (f (39 + (8 * k) + 1)) (f (39 + (8 * k) + 2)) x y) :: rest))) :
    W p l e R s m args below meth c H locs cells slots Q (F0 m pc ls (.int y :: .int x :: .ref (ad (26 + k)) :: rest)) := by
  have hL := w.2.2.2.2.2.2.2.2.2.2.2.2.2.2.2.2.2
  have hcell : H[ad (26 + k)]? = some (vp_cell (G.1.1 113) (2, .inl (fun j => if j < 2 then f (39 + (8 * k) + 1 + j) else 0))) := w.1 _ _ (hM.cv hk)
  have hs0 : (vp_cell (G.1.1 113) (2, .inl (fun j => if j < 2 then f (39 + (8 * k) + 1 + j) else 0))).slots[0]? = some (.int (f (39 + (8 * k) + 1))) := arrV_read (G.1.1 113) (fun j => .int (if j < 2 then f (39 + (8 * k) + 1 + j) else 0)) (show 0 < 2 by decide)
  have hs1 : (vp_cell (G.1.1 113) (2, .inl (fun j => if j < 2 then f (39 + (8 * k) + 1 + j) else 0))).slots[1]? = some (.int (f (39 + (8 * k) + 2))) := arrV_read (G.1.1 113) (fun j => .int (if j < 2 then f (39 + (8 * k) + 1 + j) else 0)) (show 1 < 2 by decide)
  have hr := lam_go (meth := meth) (As := [.int x, .int y]) (argsL := [.int (f (39 + (8 * k) + 1)), .int (f (39 + (8 * k) + 2)), .int x, .int y]) (rest := rest) (av := #[.ref (ad (26 + k)), .int x, .int y]) (Ls := #[.val (.ref (ad (26 + k))), .val (.int x), .val (.int y)]) (P0 := 10) X w (xp := kcA) rfl hL hcell rfl rfl (by rw [shC_sam]; exact hlink) (by rw [shC_sam]; exact w.tblB q888 rfl rfl) (by rw [shC_sam]; exact w.tblB q887 rfl rfl) (by show "FieldPumps$Curve" ≠ _ ∧ "FieldPumps$Curve" ≠ _; decide)
    (post := fun r M' => r = cf_curve (f (39 + (8 * k) + 1)) (f (39 + (8 * k) + 2)) x y ∧ M' = M) q658 q657 q97 lamC_a lamC_b lamC_c lamC_d rfl rfl shC_imp lamC_e lamC_f (by rw [shC_sam]; exact mC_params) mC_paramsI (ct_curve l G A M _ _ x y hF) rfl (fun _ _ _ => rfl) rfl rfl hfr hlo lc10 lc13 rfl
    (fun vm₁ methk ck R' g U U0 hW₁ hck Y hv hh Z hZ => by
      obtain ⟨S, th, hS, hth, hat⟩ := hL
      obtain ⟨mD, kD, cfD, i0, p0, lk, hmD, hkD, -, -, -, -, hmade, -, -⟩ := State.lambdaAt?_spec hat
      obtain ⟨kD', hkD', hnameD⟩ := className_of_methodNamed hmD
      cases hkD.symm.trans hkD'
      rw [hS] at hkD hmade
      obtain ⟨kD₁, hkD₁, heD₁⟩ := hW₁.alike.2.2 _ _ hkD
      have hnameD₁ : kD₁.name = "FieldPumps$Station" := by rw [heD₁]; exact hnameD
      have hO : ∀ o ok, vm₁.findClass "java/lang/Object" = some o → vm₁.classes[o]? = some ok → ok.instanceTypes.size = 0 := fun o ok ho hok => by
        obtain ⟨c0, k0, f1, f2, -, -, -, f6⟩ := Cond.instantiable_spec (X.2.2.2.2 _ q2470)
        rw [hW₁.alike.findClass] at ho
        cases ho.symm.trans f1
        obtain ⟨k', hk', he'⟩ := hW₁.alike.2.2 _ _ f2
        cases hok.symm.trans hk'
        rw [he']
        exact f6
      obtain ⟨kk1, f0, f1, -, -, -, hf0, hs0s, hsl0, hf1, hs1s, hsl1⟩ := lam_madeC hkD₁ hnameD₁ (Lambda.isMade_warmer hW₁ hmade) hO
      have hs : U.topJava?.isSome := Y.here.top
      have hcU : U.heap[ad (26 + k)]? = some (vp_cell (G.1.1 113) (2, .inl (fun j => if j < 2 then f (39 + (8 * k) + 1 + j) else 0))) := by rw [hh]; exact hcell
      show Steps p.tables e (.java g :: below) (U.setTop { method := ⟨G.1.1 113, 1⟩, pc := 0, locals := #[.val (.ref (ad (26 + k))), .val (.int x), .val (.int y)], stack := [], locked := none }) Z
      jvm_step Y.here [X.1, hck, lc0, Value.isRef]
      jvm_step Y.here [X.1, hck, lc1, getfield.wp_ready (e := e) (s := U) (c := G.1.1 113) (field := f0) (a := ad (26 + k)) (rest := []) (v := .int (f (39 + (8 * k) + 1)))
        (f := { method := ⟨G.1.1 113, 1⟩, pc := 1, locals := #[.val (.ref (ad (26 + k))), .val (.int x), .val (.int y)], stack := [.ref (ad (26 + k))], locked := none }) hs (by rw [hv]; exact hf0) hs0s rfl hcU (fun q => by cases q) (by rw [hsl0]; exact hs0)]
      jvm_step Y.here [X.1, hck, lc4, Value.isRef]
      jvm_step Y.here [X.1, hck, lc5, getfield.wp_ready (e := e) (s := U) (c := G.1.1 113) (field := f1) (a := ad (26 + k)) (rest := [.int (f (39 + (8 * k) + 1))]) (v := .int (f (39 + (8 * k) + 2)))
        (f := { method := ⟨G.1.1 113, 1⟩, pc := 5, locals := #[.val (.ref (ad (26 + k))), .val (.int x), .val (.int y)], stack := [.ref (ad (26 + k)), .int (f (39 + (8 * k) + 1))], locked := none }) hs (by rw [hv]; exact hf1) hs1s rfl hcU (fun q => by cases q) (by rw [hsl1]; exact hs1)]
      jvm_step Y.here [X.1, hck, lc8]
      jvm_step Y.here [X.1, hck, lc9]
      exact hZ) hls hW hc hs hdg
  exact mx_biF w hr fun r M1 H1 locs1 hp w1 => by
    obtain ⟨rfl, eM⟩ := hp
    subst eM
    exact kk H1 locs1 w1
end LROW

