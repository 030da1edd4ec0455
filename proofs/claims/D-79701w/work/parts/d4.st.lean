set_option maxRecDepth 100000
/-! ST: the law's start -/
def lsG (L : List Nat) (ad : Nat → Nat) (k : Nat) : Nat := if 300 ≤ k then ad (k - 300) else L.getD k 0
def lsC (L : List ClassId) (c0 : Nat → ClassId) (k : Nat) : ClassId := if 100 ≤ k then L.getD (k - 100) 0 else c0 k
theorem lsG_b (L : List Nat) (ad : Nat → Nat) (k : Nat) : lsG L ad (300 + k) = ad k := by
  unfold lsG
  rw [if_pos (by omega), show 300 + k - 300 = k by omega]
theorem lsC_s (L : List ClassId) (c0 : Nat → ClassId) {k : Nat} (h : k < 100) : lsC L c0 k = c0 k := if_neg (by omega)
section LS
variable {args : Array Value} {s : State}
theorem ls_K0 (hta : ∀ w ∈ lw_all, w.before args s = true) (hts : ∀ w ∈ lw_tbl, w.before args s = true) : ∃ (dC : Nat → ClassId) (dI : Nat → Nat → Nat), ∀ (c : Nat) (q : vw_C), vwCl[c]? = some q → u_Kn s q.1 q.2.1 q.2.2 (dC c) (dI c) := by
  have h0 : ∀ c, ∃ x : ClassId × (Nat → Nat), ∀ q : vw_C, vwCl[c]? = some q → u_Kn s q.1 q.2.1 q.2.2 x.1 x.2 := by
    intro c
    match c with
    | 0 => obtain ⟨a, b, h⟩ := u_known (C := RX0) (T := TX0) (N := 3) (n := 3) hta in_X0 (hta _ q139); exact ⟨(a, b), fun q hq => by cases hq; exact h⟩
    | 1 => obtain ⟨a, b, h⟩ := u_known (C := RX1) (T := TX1) (N := 30) (n := 30) hta in_X1 (hta _ q147); exact ⟨(a, b), fun q hq => by cases hq; exact h⟩
    | 2 => obtain ⟨a, b, h⟩ := u_known (C := RX3) (T := TX3) (N := 1) (n := 1) hta in_X3 (hta _ q205); exact ⟨(a, b), fun q hq => by cases hq; exact h⟩
    | 3 => obtain ⟨a, b, h⟩ := u_known (C := RX4) (T := TX4) (N := 13) (n := 13) hta in_X4 (hta _ q2003); exact ⟨(a, b), fun q hq => by cases hq; exact h⟩
    | 4 => obtain ⟨a, b, h⟩ := u_known (C := RX8) (T := TX8) (N := 8) (n := 8) hta in_X8 (hta _ q639); exact ⟨(a, b), fun q hq => by cases hq; exact h⟩
    | 5 => obtain ⟨a, b, h⟩ := u_known (C := RX6) (T := TX6) (N := 8) (n := 8) hta in_X6 (hta _ q627); exact ⟨(a, b), fun q hq => by cases hq; exact h⟩
    | 6 => obtain ⟨a, b, h⟩ := u_known (C := RX7) (T := TX7) (N := 8) (n := 8) hta in_X7 (hta _ q568); exact ⟨(a, b), fun q hq => by cases hq; exact h⟩
    | 7 => obtain ⟨a, b, h⟩ := u_known (C := RX9) (T := TX9) (N := 3) (n := 3) hta in_X9 (hta _ q1634); exact ⟨(a, b), fun q hq => by cases hq; exact h⟩
    | 8 => obtain ⟨a, b, h⟩ := u_known (C := RX10) (T := TX10) (N := 7) (n := 7) hta in_X10 (hta _ q1869); exact ⟨(a, b), fun q hq => by cases hq; exact h⟩
    | 9 => obtain ⟨a, b, h⟩ := u_known (C := RJ2) (T := TJ2) (N := 3) (n := 3) hta in_J2 (hta _ q156); exact ⟨(a, b), fun q hq => by cases hq; exact h⟩
    | 10 => obtain ⟨a, b, h⟩ := u_known (C := RJ5) (T := TJ5) (N := 4) (n := 4) hta in_J5 (hta _ q203); exact ⟨(a, b), fun q hq => by cases hq; exact h⟩
    | 11 => obtain ⟨a, b, h⟩ := u_known (C := RJ8) (T := TJ8) (N := 3) (n := 3) hta in_J8 (hta _ q423); exact ⟨(a, b), fun q hq => by cases hq; exact h⟩
    | 12 => obtain ⟨a, b, h⟩ := u_known (C := RJ10) (T := TJ10) (N := 4) (n := 4) hta in_J10 (hta _ q440); exact ⟨(a, b), fun q hq => by cases hq; exact h⟩
    | 13 => obtain ⟨a, b, h⟩ := u_known (C := RJ13) (T := TJ13) (N := 4) (n := 4) hta in_J13 (hta _ q523); exact ⟨(a, b), fun q hq => by cases hq; exact h⟩
    | 14 => obtain ⟨a, b, h⟩ := u_known (C := RJ18) (T := TJ18) (N := 1) (n := 1) hta in_J18 (hta _ q751); exact ⟨(a, b), fun q hq => by cases hq; exact h⟩
    | 15 => obtain ⟨a, b, h⟩ := u_known (C := RJ20) (T := TJ20) (N := 9) (n := 9) hta in_J20 (hta _ q918); exact ⟨(a, b), fun q hq => by cases hq; exact h⟩
    | 16 => obtain ⟨a, b, h⟩ := u_known (C := RJ24) (T := TJ24) (N := 6) (n := 6) hta in_J24 (hta _ q1268); exact ⟨(a, b), fun q hq => by cases hq; exact h⟩
    | 17 => obtain ⟨a, b, h⟩ := u_known (C := RJ25) (T := TJ25) (N := 2) (n := 2) hta in_J25 (hta _ q1339); exact ⟨(a, b), fun q hq => by cases hq; exact h⟩
    | 18 => obtain ⟨a, b, h⟩ := u_known (C := RJ26) (T := TJ26) (N := 1) (n := 1) hta in_J26 (hta _ q1712); exact ⟨(a, b), fun q hq => by cases hq; exact h⟩
    | k + 19 =>
      refine ⟨(0, fun _ => 0), fun q hq => ?_⟩
      rw [List.getElem?_eq_none (by show 19 ≤ k + 19; omega)] at hq
      cases hq
  obtain ⟨x, hx⟩ := Classical.axiomOfChoice h0
  exact ⟨fun c => (x c).1, fun c => (x c).2, hx⟩
theorem ls_prim (ty : FieldType) (h : (Cond.arrayClass ty).before args s = true) : ∃ cA, ArrOfT s cA ty ∧ s.vm.findClass ("[" ++ ty.toString) = some cA := by
  obtain ⟨c, k, comp, h1, h2, h3⟩ := Cond.arrayClass_spec (show (Cond.arrayClass ty).holds args s none s [] = true from h)
  exact ⟨c, fun n z => ⟨fun k h => (by cases h), k, h2, comp, h3⟩, h1⟩
theorem ls_ref (C : String) (h : (Cond.arrayOver (.object C)).before args s = true) : ∃ cA, ArrOfT s cA (.object C) ∧ va_RA s cA (.object C) ∧ s.vm.findClass ("[" ++ (FieldType.object C).toString) = some cA := by
  obtain ⟨comp, c, k, h1, -, h3, h4, h5⟩ := Cond.arrayOver_spec (show (Cond.arrayOver (.object C)).holds args s none s [] = true from h)
  exact ⟨c, fun n z => ⟨fun k h => (by cases h), k, h3, comp, h4⟩, ⟨k, comp, h3, h4, h1, h5⟩, h5⟩
theorem ls_isRef {t : Term} (h : (Cond.isRef t).before args s = true) : ∃ o : Option Nat, t.eval args s none [] s = some (va_rf o) := by
  obtain ⟨v, hv, hr⟩ := Cond.isRef_spec (show (Cond.isRef t).holds args s none s [] = true from h)
  cases v <;> first | exact ⟨none, hv⟩ | exact ⟨some _, hv⟩ | (cases hr)
theorem ls_lam {x : MethodName} {pc index : Nat} {sh : Lambda.Shape} (hcur : s.cur < s.threads.size) (hc : sh.captured = []) (h : (Cond.lambdaSite x pc index sh).before args s = true) {A : Nat → Prop} (hA : ∀ a : Nat, a < s.heap.size → ¬ A a) : ∃ c a, kcLam x pc index sh c (some a) s ∧ kcOne c a A s.heap := by
  obtain ⟨c, one, h1⟩ := Cond.lambdaSite_spec (show (Cond.lambdaSite x pc index sh).holds args s none s [] = true from h)
  obtain ⟨-, -, -, -, -, -, -, -, -, -, -, -, -, -, hh⟩ := State.lambdaAt?_spec h1
  rcases hh with ⟨a, cell, -, rfl, -, h2, h3, h4, h5⟩ | ⟨-, -, h2⟩
  · exact ⟨c, a, ⟨s, s.threads[s.cur], rfl, Array.getElem?_eq_getElem hcur, h1⟩, cell, h2, h3, h4, h5, hA a (Array.getElem?_eq_some_iff.mp h2).1⟩
  · exact absurd hc h2
theorem ls_lamC {x : MethodName} {pc index : Nat} {sh : Lambda.Shape} (hcur : s.cur < s.threads.size) (hc : sh.captured ≠ []) (h : (Cond.lambdaSite x pc index sh).before args s = true) : ∃ c, kcLam x pc index sh c none s := by
  obtain ⟨c, one, h1⟩ := Cond.lambdaSite_spec (show (Cond.lambdaSite x pc index sh).holds args s none s [] = true from h)
  obtain ⟨-, -, -, -, -, -, -, -, -, -, -, -, -, -, hh⟩ := State.lambdaAt?_spec h1
  rcases hh with ⟨a, cell, -, -, h2, -⟩ | ⟨-, rfl, h2⟩
  · exact absurd h2 hc
  · exact ⟨c, s, s.threads[s.cur], rfl, Array.getElem?_eq_getElem hcur, h1⟩
def lsF (args : Array Value) (s : State) : Prop := ∀ c ∈ flatC (Jvm.Cond.and given_1 narrow_1), c.before args s = true
theorem ls_empty (hf : lsF args s) (hta : ∀ w ∈ lw_all, w.before args s = true) (hts : ∀ w ∈ lw_tbl, w.before args s = true) {A : Nat → Prop} (hA : ∀ a : Nat, a < s.heap.size → ¬ A a) : ∃ t : Nat, va_T (.object "java/lang/Object") t 0 (fun _ => .null) A s s.heap ∧ va_Z "java/util/ArrayList" "DEFAULTCAPACITY_EMPTY_ELEMENTDATA" "[Ljava/lang/Object;" (.ref t) A s s.heap := by
  obtain ⟨t, h1, h2⟩ := va_Tof (args := args) (tm := (Term.static "java/util/ArrayList" "DEFAULTCAPACITY_EMPTY_ELEMENTDATA" "[Ljava/lang/Object;")) (f := fun _ => .null) (N := 0) (A := A) (by decide) (hf (Cond.arrayOf (Term.static "java/util/ArrayList" "DEFAULTCAPACITY_EMPTY_ELEMENTDATA" "[Ljava/lang/Object;") (.object "java/lang/Object")) (by decide +kernel)) (va_eqt (hf (Cond.eq (.length (Term.static "java/util/ArrayList" "DEFAULTCAPACITY_EMPTY_ELEMENTDATA" "[Ljava/lang/Object;")) (.int 0)) (by decide +kernel))) (fun j hj => absurd hj (Nat.not_lt_zero _)) hA
  exact ⟨t, h2, va_Zof (hts _ q168) (hta _ q100) h1 hA⟩
theorem ls_cache (hf : lsF args s) (hta : ∀ w ∈ lw_all, w.before args s = true) (hts : ∀ w ∈ lw_tbl, w.before args s = true) {A : Nat → Prop} (hA : ∀ a : Nat, a < s.heap.size → ¬ A a) : ∃ (ad : Nat → Nat) (t : Nat), vb_C ad A s s.heap ∧ va_T (.object "java/lang/Integer") t 256 (fun k => .ref (ad k)) A s s.heap ∧ va_Z "java/lang/Integer$IntegerCache" "cache" "[Ljava/lang/Integer;" (.ref t) A s s.heap := by
  have hlen := va_eqt (args := args) (s := s) (hf (Cond.eq (.length (Term.static "java/lang/Integer$IntegerCache" "cache" "[Ljava/lang/Integer;")) (.int 256)) (by decide +kernel))
  obtain ⟨ad, h1, h2⟩ := vb_Cof (args := args) (A := A) (st := (Term.static "java/lang/Integer$IntegerCache" "cache" "[Ljava/lang/Integer;")) rfl hlen (hf (Cond.all (Term.static "java/lang/Integer$IntegerCache" "cache" "[Ljava/lang/Integer;") (.and (.exactly (.elem (Term.static "java/lang/Integer$IntegerCache" "cache" "[Ljava/lang/Integer;") (.index 0)) "java/lang/Integer") (.eq (.field (.elem (Term.static "java/lang/Integer$IntegerCache" "cache" "[Ljava/lang/Integer;") (.index 0)) "java/lang/Integer" "value" "I") (.sub (.index 0) (.int 128))))) (by decide +kernel)) hA
  obtain ⟨t, h3, h4⟩ := va_Tof (args := args) (tm := (Term.static "java/lang/Integer$IntegerCache" "cache" "[Ljava/lang/Integer;")) (f := fun k => .ref (ad k)) (N := 256) (A := A) (by decide) (hf (Cond.arrayOf (Term.static "java/lang/Integer$IntegerCache" "cache" "[Ljava/lang/Integer;") (.object "java/lang/Integer")) (by decide +kernel)) hlen h2 hA
  exact ⟨ad, t, h1, h4, va_Zof (hts _ q749) (hta _ q125) h3 hA⟩
theorem ls_opt (hf : lsF args s) (hta : ∀ w ∈ lw_all, w.before args s = true) (hts : ∀ w ∈ lw_tbl, w.before args s = true) {A : Nat → Prop} (hA : ∀ a : Nat, a < s.heap.size → ¬ A a) : ∃ t : Nat, (va_O "java/util/Optional" t A s s.heap ∧ va_OF "java/util/Optional" "value" "Ljava/lang/Object;" .null t A s s.heap) ∧ va_Z "java/util/Optional" "EMPTY" "Ljava/util/Optional;" (.ref t) A s s.heap := by
  have hex := (hf (Cond.exactly (.static "java/util/Optional" "EMPTY" "Ljava/util/Optional;") "java/util/Optional") (by decide +kernel))
  obtain ⟨t, c, cell, k, h1, -⟩ := Cond.exactly_spec (show (Cond.exactly (.static "java/util/Optional" "EMPTY" "Ljava/util/Optional;") "java/util/Optional").holds args s none s [] = true from hex)
  exact ⟨t, ⟨va_Oof hex h1 hA, vk_OFof h1 (va_eqv (hf (Cond.eq (.field (.static "java/util/Optional" "EMPTY" "Ljava/util/Optional;") "java/util/Optional" "value" "Ljava/lang/Object;") .null) (by decide +kernel)) rfl) hA⟩, va_Zof (hts _ q1707) (hta _ q135) h1 hA⟩
theorem ls_stage {nm C : String} (hex : (Cond.exactly (.static "FieldPumps$Stage" nm "LFieldPumps$Stage;") C).before args s = true) {A : Nat → Prop} (hA : ∀ a : Nat, a < s.heap.size → ¬ A a) : ∃ t : Nat, (Term.static "FieldPumps$Stage" nm "LFieldPumps$Stage;").eval args s none [] s = some (.ref t) ∧ va_O C t A s s.heap := by
  obtain ⟨t, c, cell, k, h1, -⟩ := Cond.exactly_spec (show (Cond.exactly (.static "FieldPumps$Stage" nm "LFieldPumps$Stage;") C).holds args s none s [] = true from hex)
  exact ⟨t, h1, va_Oof hex h1 hA⟩
theorem ls_stages (hf : lsF args s) {A : Nat → Prop} (hA : ∀ a : Nat, a < s.heap.size → ¬ A a) : ∃ t : Nat → Nat, (∀ k, k < 6 → va_O (kcStage k) (t k) A s s.heap) ∧ ∀ k, k < 6 → (Term.elem (Term.static "FieldPumps$Stage" "$VALUES" "[LFieldPumps$Stage;") (.int (Int32.ofNat k))).eval args s none [] s = some (.ref (t k)) := by
  obtain ⟨t0, a0, b0⟩ := ls_stage (args := args) (hf (Cond.exactly (Term.static "FieldPumps$Stage" "CLOCK" "LFieldPumps$Stage;") "FieldPumps$Stage$1") (by decide +kernel)) hA
  have e0 := va_eqv (hf (Cond.eq (.elem (Term.static "FieldPumps$Stage" "$VALUES" "[LFieldPumps$Stage;") (.int 0)) (Term.static "FieldPumps$Stage" "CLOCK" "LFieldPumps$Stage;")) (by decide +kernel)) a0
  obtain ⟨t1, a1, b1⟩ := ls_stage (args := args) (hf (Cond.exactly (Term.static "FieldPumps$Stage" "WATER" "LFieldPumps$Stage;") "FieldPumps$Stage$2") (by decide +kernel)) hA
  have e1 := va_eqv (hf (Cond.eq (.elem (Term.static "FieldPumps$Stage" "$VALUES" "[LFieldPumps$Stage;") (.int 1)) (Term.static "FieldPumps$Stage" "WATER" "LFieldPumps$Stage;")) (by decide +kernel)) a1
  obtain ⟨t2, a2, b2⟩ := ls_stage (args := args) (hf (Cond.exactly (Term.static "FieldPumps$Stage" "HOURS" "LFieldPumps$Stage;") "FieldPumps$Stage$3") (by decide +kernel)) hA
  have e2 := va_eqv (hf (Cond.eq (.elem (Term.static "FieldPumps$Stage" "$VALUES" "[LFieldPumps$Stage;") (.int 2)) (Term.static "FieldPumps$Stage" "HOURS" "LFieldPumps$Stage;")) (by decide +kernel)) a2
  obtain ⟨t3, a3, b3⟩ := ls_stage (args := args) (hf (Cond.exactly (Term.static "FieldPumps$Stage" "DARK" "LFieldPumps$Stage;") "FieldPumps$Stage$4") (by decide +kernel)) hA
  have e3 := va_eqv (hf (Cond.eq (.elem (Term.static "FieldPumps$Stage" "$VALUES" "[LFieldPumps$Stage;") (.int 3)) (Term.static "FieldPumps$Stage" "DARK" "LFieldPumps$Stage;")) (by decide +kernel)) a3
  obtain ⟨t4, a4, b4⟩ := ls_stage (args := args) (hf (Cond.exactly (Term.static "FieldPumps$Stage" "DRY" "LFieldPumps$Stage;") "FieldPumps$Stage$5") (by decide +kernel)) hA
  have e4 := va_eqv (hf (Cond.eq (.elem (Term.static "FieldPumps$Stage" "$VALUES" "[LFieldPumps$Stage;") (.int 4)) (Term.static "FieldPumps$Stage" "DRY" "LFieldPumps$Stage;")) (by decide +kernel)) a4
  obtain ⟨t5, a5, b5⟩ := ls_stage (args := args) (hf (Cond.exactly (Term.static "FieldPumps$Stage" "CONTROL" "LFieldPumps$Stage;") "FieldPumps$Stage$6") (by decide +kernel)) hA
  have e5 := va_eqv (hf (Cond.eq (.elem (Term.static "FieldPumps$Stage" "$VALUES" "[LFieldPumps$Stage;") (.int 5)) (Term.static "FieldPumps$Stage" "CONTROL" "LFieldPumps$Stage;")) (by decide +kernel)) a5
  refine ⟨fun k => [t0, t1, t2, t3, t4, t5].getD k 0, fun k hk => ?_, fun k hk => ?_⟩
  · obtain rfl | rfl | rfl | rfl | rfl | rfl : k = 0 ∨ k = 1 ∨ k = 2 ∨ k = 3 ∨ k = 4 ∨ k = 5 := by omega
    · exact b0
    · exact b1
    · exact b2
    · exact b3
    · exact b4
    · exact b5
  · obtain rfl | rfl | rfl | rfl | rfl | rfl : k = 0 ∨ k = 1 ∨ k = 2 ∨ k = 3 ∨ k = 4 ∨ k = 5 := by omega
    · exact e0
    · exact e1
    · exact e2
    · exact e3
    · exact e4
    · exact e5
theorem ls_vals (hf : lsF args s) (hta : ∀ w ∈ lw_all, w.before args s = true) (hts : ∀ w ∈ lw_tbl, w.before args s = true) {A : Nat → Prop} (hA : ∀ a : Nat, a < s.heap.size → ¬ A a) {t : Nat → Nat} (he : ∀ k, k < 6 → (Term.elem (Term.static "FieldPumps$Stage" "$VALUES" "[LFieldPumps$Stage;") (.int (Int32.ofNat k))).eval args s none [] s = some (.ref (t k))) {cS : ClassId} (hS : s.vm.findClass ("[" ++ (FieldType.object "FieldPumps$Stage").toString) = some cS) :
    ∃ (a : Nat), (∃ cell : Cell, s.heap[a]? = some cell ∧ cell.vm.isStatics = false ∧ cell.vm ≠ .unknown ∧ cell.cls = cS ∧ cell.slots = ((List.range 6).map (fun k => Value.ref (t k))).toArray ∧ ¬ A a) ∧ va_Z "FieldPumps$Stage" "$VALUES" "[LFieldPumps$Stage;" (.ref a) A s s.heap := by
  have hlen := va_eqt (args := args) (s := s) (hf (Cond.eq (.length (Term.static "FieldPumps$Stage" "$VALUES" "[LFieldPumps$Stage;")) (.int 6)) (by decide +kernel))
  obtain ⟨a, cell, ht, hat, hv⟩ := Term.length_spec hlen
  obtain ⟨hc, hkn, hst, -⟩ := State.arrayAt?_spec hat
  have hex := (hf (Cond.exactly (Term.static "FieldPumps$Stage" "$VALUES" "[LFieldPumps$Stage;") "[LFieldPumps$Stage;") (by decide +kernel))
  obtain ⟨a2, c2, cell2, k2, q1, q2, q3, q4, q5, q6, -⟩ := Cond.exactly_spec (show (Cond.exactly (Term.static "FieldPumps$Stage" "$VALUES" "[LFieldPumps$Stage;") "[LFieldPumps$Stage;").holds args s none s [] = true from hex)
  cases ht.symm.trans q1
  cases hc.symm.trans q3
  have hall := Cond.all_elim ht hat (show (Cond.all (Term.static "FieldPumps$Stage" "$VALUES" "[LFieldPumps$Stage;") (.le (.index 0) (.int 5))).value args s none s [] = some true from by
    have h9 := (hf (Cond.all (Term.static "FieldPumps$Stage" "$VALUES" "[LFieldPumps$Stage;") (.le (.index 0) (.int 5))) (by decide +kernel))
    simpa [Cond.before, Cond.holds] using h9)
  have hle : cell.slots.size ≤ 6 := Nat.not_lt.mp fun h => by
    have h9 := hall 6 h
    simp [Cond.value, Term.eval] at h9
    revert h9
    decide
  have hel : ∀ k, k < 6 → cell.slots[k]? = some (.ref (t k)) := fun k hk => by
    obtain ⟨a3, j, cell3, h1, h2, h3, h4, h5⟩ := Term.elem_spec (he k hk)
    cases ht.symm.trans h1
    cases hat.symm.trans h3
    have hj : j = Int32.ofNat k := by
      have e : (Term.int (Int32.ofNat k)).eval args s none [] s = some (.int (Int32.ofNat k)) := rfl
      cases h2.symm.trans e
      rfl
    have hn : j.toNatClampNeg = k := by rw [hj]; exact Int32.toNatClampNeg_ofNat_of_lt (by omega)
    rwa [hn] at h5
  have hsz : cell.slots.size = 6 := by
    have h5 := (Array.getElem?_eq_some_iff.mp (hel 5 (by decide))).1
    omega
  refine ⟨a, ⟨cell, hc, hst, hkn, ?_, ?_, hA a (Array.getElem?_eq_some_iff.mp hc).1⟩, va_Zof (hts _ q193) (hta _ q102) ht hA⟩
  · rw [q6]
    exact Option.some.inj (q2.symm.trans hS)
  · refine Array.ext (by rw [hsz]; rfl) fun i h1 h2 => ?_
    have h3 := hel i (by omega)
    rw [Array.getElem?_eq_getElem h1] at h3
    rw [Option.some.inj h3]
    simp
theorem ls_str (hf : lsF args s) (hts : ∀ w ∈ lw_tbl, w.before args s = true) {A : Nat → Prop} (hA : ∀ a : Nat, a < s.heap.size → ¬ A a) : ∃ a v : Nat, vk_R "FieldPumps$Reader" 63 "ocspr" a s ∧ vk_S 1 [5] [[111, 99, 115, 112, 114]] (fun _ => a) (fun _ => v) A s s.heap := by
  have hb : ∀ j, j < 5 → (Cond.eq (.elem (.field (Term.string "FieldPumps$Reader" 63) "java/lang/String" "value" "[B") (.int (Int32.ofNat j))) (.int (([111, 99, 115, 112, 114] : List Int32).getD j 0))).before args s = true := fun j hj => by
    obtain rfl | rfl | rfl | rfl | rfl : j = 0 ∨ j = 1 ∨ j = 2 ∨ j = 3 ∨ j = 4 := by omega
    · exact (hf (Cond.eq (.elem (.field (Term.string "FieldPumps$Reader" 63) "java/lang/String" "value" "[B") (.int 0)) (.int 111)) (by decide +kernel))
    · exact (hf (Cond.eq (.elem (.field (Term.string "FieldPumps$Reader" 63) "java/lang/String" "value" "[B") (.int 1)) (.int 99)) (by decide +kernel))
    · exact (hf (Cond.eq (.elem (.field (Term.string "FieldPumps$Reader" 63) "java/lang/String" "value" "[B") (.int 2)) (.int 115)) (by decide +kernel))
    · exact (hf (Cond.eq (.elem (.field (Term.string "FieldPumps$Reader" 63) "java/lang/String" "value" "[B") (.int 3)) (.int 112)) (by decide +kernel))
    · exact (hf (Cond.eq (.elem (.field (Term.string "FieldPumps$Reader" 63) "java/lang/String" "value" "[B") (.int 4)) (.int 114)) (by decide +kernel))
  have z : ∀ i, i < 1 → i = 0 := fun i hi => by omega
  obtain ⟨adK, adV, h1, h2⟩ := vk_Sof (args := args) (N := 1) (tm := fun _ => (Term.string "FieldPumps$Reader" 63)) (len := [5]) (byt := [[111, 99, 115, 112, 114]]) (A := A) (fun i hi => by rw [z i hi]; decide) (fun i hi => (hf (Cond.exactly (Term.string "FieldPumps$Reader" 63) "java/lang/String") (by decide +kernel))) (fun i hi => (hf (Cond.eq (.field (Term.string "FieldPumps$Reader" 63) "java/lang/String" "coder" "B") (.int 0)) (by decide +kernel)))
    (fun i hi => (hf (Cond.arrayOf (.field (Term.string "FieldPumps$Reader" 63) "java/lang/String" "value" "[B") .byte) (by decide +kernel))) (fun i hi => by rw [z i hi]; exact (hf (Cond.eq (.length (.field (Term.string "FieldPumps$Reader" 63) "java/lang/String" "value" "[B")) (.int 5)) (by decide +kernel))) (fun i hi j hj => by rw [z i hi] at hj ⊢; exact hb j hj) (fun i j hi hj hij => absurd ((z i hi).trans (z j hj).symm) hij) hA
  have h3 := h2 0 (by decide)
  refine ⟨adK 0, adV 0, ?_, ⟨fun i hi => ?_, fun i j hi hj _ => (z i hi).trans (z j hj).symm⟩⟩
  · exact vk_R.of (A := args) (hts _ q1911) h3
  · have := h1.1 0 (by decide)
    rw [z i hi]
    exact this

theorem ls_world (hcur : s.cur < s.threads.size) (hf : lsF args s) (hta : ∀ w ∈ lw_all, w.before args s = true) (hts : ∀ w ∈ lw_tbl, w.before args s = true) : ∃ G : mg, mW G (fun q => s.heap.size ≤ q) s (fun _ => none) s.heap [] := by
  have hA : ∀ a : Nat, a < s.heap.size → ¬ (fun q : Nat => s.heap.size ≤ q) a := fun a h => Nat.not_le.mpr h
  obtain ⟨dC, dI, hK⟩ := ls_K0 hta hts
  obtain ⟨cI, i1, i2⟩ := ls_prim .int (hta _ q184)
  obtain ⟨cZ, z1, z2⟩ := ls_prim .boolean (hta _ q214)
  obtain ⟨cB, b1, b2⟩ := ls_prim .byte (hta _ q470)
  obtain ⟨cO, o1, o2, -⟩ := ls_ref "java/lang/Object" (hts _ q223)
  obtain ⟨cU, u1, u2, -⟩ := ls_ref "FieldPumps$Curve" (hts _ q186)
  obtain ⟨cW, w1, w2, -⟩ := ls_ref "FieldPumps$Watch" (hts _ q188)
  obtain ⟨cS, s1, s2, s3⟩ := ls_ref "FieldPumps$Stage" (hts _ q200)
  obtain ⟨tE, e1, e2⟩ := ls_empty hf hta hts hA
  obtain ⟨ad, tC, c1, c2, c3⟩ := ls_cache hf hta hts hA
  obtain ⟨tO, p1, p2⟩ := ls_opt hf hta hts hA
  obtain ⟨t, g1, g2⟩ := ls_stages hf hA
  obtain ⟨tV, v1, v2⟩ := ls_vals hf hta hts hA g2 s3
  obtain ⟨tS, tB, r1, r2⟩ := ls_str hf hts hA
  obtain ⟨l0, m0, x0, y0⟩ := ls_lam (x := kcI) (pc := 146) (index := 90) (sh := shWatch "lambda$new$0") hcur rfl (hf siteWord_1_1 (by decide +kernel)) hA
  obtain ⟨l1, m1, x1, y1⟩ := ls_lam (x := kcI) (pc := 157) (index := 94) (sh := shWatch "lambda$new$1") hcur rfl (hf siteWord_1_2 (by decide +kernel)) hA
  obtain ⟨l2, m2, x2, y2⟩ := ls_lam (x := kcI) (pc := 168) (index := 95) (sh := shWatch "lambda$new$2") hcur rfl (hf siteWord_1_3 (by decide +kernel)) hA
  obtain ⟨l3, x3⟩ := ls_lamC (x := kcA) (pc := 20) (index := 194) (sh := shCurve) hcur (fun z => by cases z) (hf siteWord_1_4 (by decide +kernel))
  obtain ⟨oF, f1⟩ := ls_isRef (hf (Cond.isRef (Term.static "jdk/internal/util/Preconditions" "SIOOBE_FORMATTER" "Ljava/util/function/BiFunction;")) (by decide +kernel))
  obtain ⟨L, hL⟩ : ∃ L : List Nat, L = [tE, tO, tS, tB, oF.getD 0, (match oF with | none => 0 | some _ => 1), m0, m1, m2, tV, t 0, t 1, t 2, t 3, t 4, t 5, tC] := ⟨_, rfl⟩
  obtain ⟨Lc, hLc⟩ : ∃ Lc : List ClassId, Lc = [cI, cZ, cB, cO, cU, cW, cS, 0, 0, 0, l0, l1, l2, l3] := ⟨_, rfl⟩
  have k : ∀ n, n < 17 → lsG L ad n = L.getD n 0 := fun n hn => if_neg (by omega)
  have kc : ∀ n, lsC Lc dC (100 + n) = Lc.getD n 0 := fun n => by unfold lsC; rw [if_pos (by omega), show 100 + n - 100 = n by omega]
  have eA : (fun k => lsG L ad (300 + k)) = ad := funext (lsG_b L ad)
  have k0 : lsG L ad 0 = tE := (k 0 (by decide)).trans (by rw [hL]; rfl)
  have k1 : lsG L ad 1 = tO := (k 1 (by decide)).trans (by rw [hL]; rfl)
  have k2 : lsG L ad 2 = tS := (k 2 (by decide)).trans (by rw [hL]; rfl)
  have k3 : lsG L ad 3 = tB := (k 3 (by decide)).trans (by rw [hL]; rfl)
  have k9 : lsG L ad 9 = tV := (k 9 (by decide)).trans (by rw [hL]; rfl)
  have k16 : lsG L ad 16 = tC := (k 16 (by decide)).trans (by rw [hL]; rfl)
  have k6 : ∀ j, j < 3 → lsG L ad (6 + j) = [m0, m1, m2].getD j 0 := fun j hj => by
    obtain rfl | rfl | rfl : j = 0 ∨ j = 1 ∨ j = 2 := by omega
    · exact (k 6 (by decide)).trans (by rw [hL]; rfl)
    · exact (k 7 (by decide)).trans (by rw [hL]; rfl)
    · exact (k 8 (by decide)).trans (by rw [hL]; rfl)
  have k10 : ∀ j, j < 6 → lsG L ad (10 + j) = t j := fun j hj => by
    obtain rfl | rfl | rfl | rfl | rfl | rfl : j = 0 ∨ j = 1 ∨ j = 2 ∨ j = 3 ∨ j = 4 ∨ j = 5 := by omega
    · exact (k 10 (by decide)).trans (by rw [hL]; rfl)
    · exact (k 11 (by decide)).trans (by rw [hL]; rfl)
    · exact (k 12 (by decide)).trans (by rw [hL]; rfl)
    · exact (k 13 (by decide)).trans (by rw [hL]; rfl)
    · exact (k 14 (by decide)).trans (by rw [hL]; rfl)
    · exact (k 15 (by decide)).trans (by rw [hL]; rfl)
  have q0 : lsC Lc dC 100 = cI := (kc 0).trans (by rw [hLc]; rfl)
  have q1 : lsC Lc dC 101 = cZ := (kc 1).trans (by rw [hLc]; rfl)
  have q2 : lsC Lc dC 102 = cB := (kc 2).trans (by rw [hLc]; rfl)
  have q3 : lsC Lc dC 103 = cO := (kc 3).trans (by rw [hLc]; rfl)
  have q4 : lsC Lc dC 104 = cU := (kc 4).trans (by rw [hLc]; rfl)
  have q5 : lsC Lc dC 105 = cW := (kc 5).trans (by rw [hLc]; rfl)
  have q6 : lsC Lc dC 106 = cS := (kc 6).trans (by rw [hLc]; rfl)
  have q10 : lsC Lc dC 110 = l0 := (kc 10).trans (by rw [hLc]; rfl)
  have q11 : lsC Lc dC 111 = l1 := (kc 11).trans (by rw [hLc]; rfl)
  have q12 : lsC Lc dC 112 = l2 := (kc 12).trans (by rw [hLc]; rfl)
  have q13 : lsC Lc dC 113 = l3 := (kc 13).trans (by rw [hLc]; rfl)
  have eO : kcO ((lsC Lc dC, dI), lsG L ad) = oF := by
    show (if lsG L ad 5 = 0 then none else some (lsG L ad 4)) = oF
    rw [k 5 (by decide), k 4 (by decide), hL]
    cases oF with
    | none => rfl
    | some a => rfl
  refine ⟨((lsC Lc dC, dI), lsG L ad), fun a e h => (by cases h), fun a h => absurd rfl h, fun q h => h, va_S.rf, ⟨fun c q hq => ?_, fun n q hq => ?_⟩, fun w hw hk => ?_, ?_, ?_, ?_, ?_, ?_, ?_, ?_, fun j hj => ?_, ?_, ?_, fun j hj => ?_, ?_⟩
  · have h9 := hK c q hq
    have hc : c < CONTROL := (List.getElem?_eq_some_iff.mp hq).1
    show u_Kn s _ _ _ (lsC Lc dC c) (dI c)
    rw [lsC_s _ _ (by omega)]
    exact h9
  · match n, hq with
    | 0, hq => cases hq; exact ⟨by show ArrOfT s (lsC Lc dC 100) _; rw [q0]; exact i1, by show va_RA s (lsC Lc dC 100) _; rw [q0]; exact i2⟩
    | 1, hq => cases hq; exact ⟨by show ArrOfT s (lsC Lc dC 101) _; rw [q1]; exact z1, by show va_RA s (lsC Lc dC 101) _; rw [q1]; exact z2⟩
    | 2, hq => cases hq; exact ⟨by show ArrOfT s (lsC Lc dC 102) _; rw [q2]; exact b1, by show va_RA s (lsC Lc dC 102) _; rw [q2]; exact b2⟩
    | 3, hq => cases hq; exact ⟨by show ArrOfT s (lsC Lc dC 103) _; rw [q3]; exact o1, by show va_RA s (lsC Lc dC 103) _; rw [q3]; exact o2⟩
    | 4, hq => cases hq; exact ⟨by show ArrOfT s (lsC Lc dC 104) _; rw [q4]; exact u1, by show va_RA s (lsC Lc dC 104) _; rw [q4]; exact u2⟩
    | 5, hq => cases hq; exact ⟨by show ArrOfT s (lsC Lc dC 105) _; rw [q5]; exact w1, by show va_RA s (lsC Lc dC 105) _; rw [q5]; exact w2⟩
    | 6, hq => cases hq; exact ⟨by show ArrOfT s (lsC Lc dC 106) _; rw [q6]; exact s1, by show va_RA s (lsC Lc dC 106) _; rw [q6]; exact s2⟩
    | n + 7, hq =>
      rw [List.getElem?_eq_none (by show 7 ≤ n + 7; omega)] at hq
      cases hq
  · have h9 := hts w hw
    have gen : w.tabsOnly = true → va_Nw w s := fun ht => by
      have := Cond.tabsOnly_warm (args' := #[]) (T := s) (State.WarmedH.refl s) w ht h9
      rwa [show s.setVm s.vm = s from by cases s; rfl] at this
    cases w <;> first | exact va_Nw.of rfl h9 | exact gen hk
  · exact List.forall_mem_cons.mpr ⟨va_AO.of (hts _ q186), List.forall_mem_cons.mpr ⟨va_AO.of (hts _ q188), List.forall_mem_cons.mpr ⟨va_AO.of (hts _ q200), List.forall_mem_cons.mpr ⟨va_AO.of (hts _ q223), fun _ h => absurd h List.not_mem_nil⟩⟩⟩⟩
  · exact List.forall_mem_cons.mpr ⟨va_Nc.of (hf (Cond.not (.castable "FieldPumps$Fixed" "FieldPumps$Jockey")) (by decide +kernel)), List.forall_mem_cons.mpr ⟨va_Nc.of (hf (Cond.not (.castable "FieldPumps$Variable" "FieldPumps$Jockey")) (by decide +kernel)), List.forall_mem_cons.mpr ⟨va_Nc.of (hf (Cond.not (.castable "FieldPumps$Fixed" "FieldPumps$Variable")) (by decide +kernel)), fun _ h => absurd h List.not_mem_nil⟩⟩⟩
  · refine List.forall_mem_cons.mpr ⟨?_, List.forall_mem_cons.mpr ⟨?_, List.forall_mem_cons.mpr ⟨?_, List.forall_mem_cons.mpr ⟨?_, List.forall_mem_cons.mpr ⟨?_, List.forall_mem_cons.mpr ⟨?_, List.forall_mem_cons.mpr ⟨?_, fun _ h => absurd h List.not_mem_nil⟩⟩⟩⟩⟩⟩⟩
    · show va_Z _ _ _ (.ref (lsG L ad 0)) _ _ _
      rw [k0]; exact e2
    · show va_Z _ _ _ (.ref (lsG L ad 9)) _ _ _
      rw [k9]; exact v2
    · exact va_Zof (hts _ q449) (hta _ q111) (va_eqi (hf (Cond.eq (.static "java/lang/String" "COMPACT_STRINGS" "Z") (.int 1)) (by decide +kernel))) hA
    · exact va_Zof (hts _ q747) (hta _ q125) (va_eqi (hf (Cond.eq (.static "java/lang/Integer$IntegerCache" "high" "I") (.int 127)) (by decide +kernel))) hA
    · show va_Z _ _ _ (.ref (lsG L ad 16)) _ _ _
      rw [k16]; exact c3
    · show va_Z _ _ _ (.ref (lsG L ad 1)) _ _ _
      rw [k1]; exact p2
    · show va_Z _ _ _ (va_rf (kcO ((lsC Lc dC, dI), lsG L ad))) _ _ _
      rw [eO]
      exact va_Zof (hts _ q1239) (hta _ q107) f1 hA
  · show vb_C (fun k => lsG L ad (300 + k)) _ _ _
    rw [eA]; exact c1
  · show va_T _ (lsG L ad 16) 256 (fun k => Value.ref ((fun k => lsG L ad (300 + k)) k)) _ _ _
    rw [eA, k16]; exact c2
  · show va_T _ (lsG L ad 0) 0 _ _ _ _
    rw [k0]; exact e1
  · obtain ⟨cell, h1, h2, h3, h4, h5, h6⟩ := v1
    refine ⟨cell, by show s.heap[lsG L ad 9]? = _; rw [k9]; exact h1, h2, h3, by show _ = lsC Lc dC 106; rw [q6]; exact h4, ?_, by show ¬ s.heap.size ≤ lsG L ad 9; rw [k9]; exact h6⟩
    rw [h5]
    refine congrArg List.toArray (List.map_congr_left fun j hj => ?_)
    show Value.ref (t j) = Value.ref (lsG L ad (10 + j))
    rw [k10 j (List.mem_range.mp hj)]
  · show va_O _ (lsG L ad (10 + j)) _ _ _
    rw [k10 j hj]; exact g1 j hj
  · show va_O _ (lsG L ad 1) _ _ _ ∧ va_OF _ _ _ _ (lsG L ad 1) _ _ _
    rw [k1]; exact p1
  · show vk_R _ _ _ (lsG L ad 2) _ ∧ vk_S _ _ _ (fun _ => lsG L ad 2) (fun _ => lsG L ad 3) _ _ _
    rw [k2, k3]; exact ⟨r1, r2⟩
  · show kcLam _ _ _ _ (lsC Lc dC (110 + j)) (some (lsG L ad (6 + j))) _ ∧ kcOne (lsC Lc dC (110 + j)) (lsG L ad (6 + j)) _ _
    rw [k6 j hj]
    obtain rfl | rfl | rfl : j = 0 ∨ j = 1 ∨ j = 2 := by omega
    · rw [show lsC Lc dC (110 + 0) = l0 from q10]; exact ⟨x0, y0⟩
    · rw [show lsC Lc dC (110 + 1) = l1 from q11]; exact ⟨x1, y1⟩
    · rw [show lsC Lc dC (110 + 2) = l2 from q12]; exact ⟨x2, y2⟩
  · show kcLam _ _ _ _ (lsC Lc dC 113) none _
    rw [q13]; exact x3
end LS

