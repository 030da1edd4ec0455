/-! MX: one abstract heap for a whole run (a function from addresses to cells): no cutting, no joining at calls -/
set_option maxRecDepth 100000
abbrev mh : Type := Nat → Option va_E
abbrev mg : Type := va_G × (Nat → Nat)
/-- the array classes of the run, by their places -/
def mTy (G : mg) : List (ClassId × FieldType) := [(G.1.1 100, .int), (G.1.1 101, .boolean), (G.1.1 102, .byte), (G.1.1 103, .object "java/lang/Object"), (G.1.1 104, .object "FieldPumps$Curve"), (G.1.1 105, .object "FieldPumps$Watch"), (G.1.1 106, .object "FieldPumps$Stage")]
def mH (G : mg) (M : mh) (H : Heap) : Prop := ∀ (a : Nat) (e : va_E), M a = some e → va_at G.1 vwCl (a, e) H
/-- words that ride in a method's world (they aren't in lw_all) -/
def kwOk : Cond → Bool
  | .fieldLinkNest _ _ _ _ _ _ => true
  | .methodLinkNest _ _ _ _ => true
  | w => w.tabsOnly
theorem kw_warm {w : Cond} (hw : kwOk w = true) {u U : State} (hW : u.WarmedH U.vm) (h : va_Nw w u) : va_Nw w U := by
  have gen : w.tabsOnly = true → va_Nw w U := fun ht => by
    have := Cond.tabsOnly_warm (args' := #[]) (T := U) hW w ht h
    rwa [show U.setVm U.vm = U from by cases U; rfl] at this
  cases w <;> first | exact va_Nw.warmF hW h | exact va_Nw.warmM hW h | exact gen hw
def kcArr : List String := ["FieldPumps$Curve", "FieldPumps$Watch", "FieldPumps$Stage", "java/lang/Object"]
def kcNo : List (String × String) := [("FieldPumps$Fixed", "FieldPumps$Jockey"), ("FieldPumps$Variable", "FieldPumps$Jockey"), ("FieldPumps$Fixed", "FieldPumps$Variable")]
/-- a static that holds a reference or null (nobody asks which) -/
def kcO (G : mg) : Option Nat := if G.2 5 = 0 then none else some (G.2 4)
def kcZ (G : mg) : List (String × String × String × Value) := [("java/util/ArrayList", "DEFAULTCAPACITY_EMPTY_ELEMENTDATA", "[Ljava/lang/Object;", .ref (G.2 0)), ("FieldPumps$Stage", "$VALUES", "[LFieldPumps$Stage;", .ref (G.2 9)), ("java/lang/String", "COMPACT_STRINGS", "Z", .int 1), ("java/lang/Integer$IntegerCache", "high", "I", .int 127), ("java/lang/Integer$IntegerCache", "cache", "[Ljava/lang/Integer;", .ref (G.2 16)), ("java/util/Optional", "EMPTY", "Ljava/util/Optional;", .ref (G.2 1)), ("jdk/internal/util/Preconditions", "SIOOBE_FORMATTER", "Ljava/util/function/BiFunction;", va_rf (kcO G))]
def kcStage : Nat → String
  | 0 => "FieldPumps$Stage$1"
  | 1 => "FieldPumps$Stage$2"
  | 2 => "FieldPumps$Stage$3"
  | 3 => "FieldPumps$Stage$4"
  | 4 => "FieldPumps$Stage$5"
  | _ => "FieldPumps$Stage$6"
/-- the array of an enum's constants, whole (it is cloned) -/
def kcVal (G : mg) (A : Nat → Prop) (H : Heap) : Prop := ∃ cell : Cell, H[G.2 9]? = some cell ∧ cell.vm.isStatics = false ∧ cell.vm ≠ .unknown ∧ cell.cls = G.1.1 106 ∧ cell.slots = ((List.range 6).map (fun k => Value.ref (G.2 (10 + k)))).toArray ∧ ¬ A (G.2 9)
/-- a lambda's site, linked -/
def kcLam (x : MethodName) (pc index : Nat) (sh : Lambda.Shape) (c : ClassId) (one : Option Nat) (U : State) : Prop := ∃ (S : State) (th : Thread), S.vm = U.vm ∧ S.threads[S.cur]? = some th ∧ S.lambdaAt? x pc index sh = some (c, one)
theorem kcLam.moved {x : MethodName} {pc index : Nat} {sh : Lambda.Shape} {c : ClassId} {one : Option Nat} {u U : State} (hW : u.WarmedH U.vm) (h : kcLam x pc index sh c one u) : kcLam x pc index sh c one U := by
  obtain ⟨S, th, hS, ht, hl⟩ := h
  refine ⟨S.setVm U.vm, th, rfl, ht, State.lambdaAt?_rides (t := S.setVm U.vm) (L := []) (k := 0) (n := 0) (hW.of_rootvm hS) ?_ hl⟩
  rw [show (S.setVm U.vm).setVm S.vm = S from by cases S; rfl]
  exact State.sameButNew.refl S ht
/-- a lambda that captures nothing: its one object -/
def kcOne (c : ClassId) (a : Nat) (A : Nat → Prop) (H : Heap) : Prop := ∃ cell : Cell, H[a]? = some cell ∧ cell.cls = c ∧ cell.vm = .none ∧ cell.slots = #[] ∧ ¬ A a
def shWatch (nm : String) : Lambda.Shape := { iface := "FieldPumps$Watch", name := "holds", sam := ⟨[.object "FieldPumps$Station"], some .boolean⟩, captured := [], kind := 6, implClass := "FieldPumps$Station", implName := nm, implDesc := ⟨[.object "FieldPumps$Station"], some .boolean⟩, implItf := false, inst := ⟨[.object "FieldPumps$Station"], some .boolean⟩ }
def shCurve : Lambda.Shape := { iface := "FieldPumps$Curve", name := "flow", sam := ⟨[.int, .int], some .int⟩, captured := [.int, .int], kind := 6, implClass := "FieldPumps$Station", implName := "lambda$add$3", implDesc := ⟨[.int, .int, .int, .int], some .int⟩, implItf := false, inst := ⟨[.int, .int], some .int⟩ }
def kcI : MethodName := ⟨"FieldPumps$Station", "<init>", "([I)V"⟩
def kcA : MethodName := ⟨"FieldPumps$Station", "add", "(LFieldPumps$Pump;)V"⟩
def kcIx : Nat → Nat
  | 0 => 146
  | 1 => 157
  | _ => 168
def kcN : Nat → Nat
  | 0 => 90
  | 1 => 94
  | _ => 95
def kcNm : Nat → String
  | 0 => "lambda$new$0"
  | 1 => "lambda$new$1"
  | _ => "lambda$new$2"
/-- the constants of the run: what lies outside the world (statics, enum constants, cached Integers, a String, linked lambdas), and words -/
def Kc (G : mg) (A : Nat → Prop) (U : State) (H : Heap) : Prop :=
  (∀ w ∈ lw_tbl, kwOk w = true → va_Nw w U) ∧ (∀ C ∈ kcArr, va_AO C U) ∧ (∀ q ∈ kcNo, va_Nc q.1 q.2 U) ∧ (∀ q ∈ kcZ G, va_Z q.1 q.2.1 q.2.2.1 q.2.2.2 A U H) ∧
  vb_C (fun k => G.2 (300 + k)) A U H ∧ va_T (.object "java/lang/Integer") (G.2 16) 256 (fun k => .ref (G.2 (300 + k))) A U H ∧ va_T (.object "java/lang/Object") (G.2 0) 0 (fun _ => .null) A U H ∧
  kcVal G A H ∧ (∀ k, k < 6 → va_O (kcStage k) (G.2 (10 + k)) A U H) ∧ (va_O "java/util/Optional" (G.2 1) A U H ∧ va_OF "java/util/Optional" "value" "Ljava/lang/Object;" .null (G.2 1) A U H) ∧
  (vk_R "FieldPumps$Reader" 63 "ocspr" (G.2 2) U ∧ vk_S 1 [5] [[111, 99, 115, 112, 114]] (fun _ => G.2 2) (fun _ => G.2 3) A U H) ∧
  (∀ k, k < 3 → kcLam kcI (kcIx k) (kcN k) (shWatch (kcNm k)) (G.1.1 (110 + k)) (some (G.2 (6 + k))) U ∧ kcOne (G.1.1 (110 + k)) (G.2 (6 + k)) A H) ∧ kcLam kcA 20 194 shCurve (G.1.1 113) none U
theorem Kc.moved {G : mg} {A : Nat → Prop} {u U : State} {H : Heap} (hW : u.WarmedH U.vm) (h : Kc G A u H) : Kc G A U H := by
  have hvm := hW.alike
  obtain ⟨h1, h2, h3, h4, h5, h6, h7, h8, h9, h10, h11, h12, h13⟩ := h
  exact ⟨fun w hw hk => kw_warm hk hW (h1 w hw hk), fun C hC => va_AO.moved hvm (h2 C hC), fun q hq => va_Nc.moved hvm (h3 q hq), fun q hq => va_Z.moved hvm (h4 q hq), vb_C.moved hvm h5, va_T.moved hvm h6, va_T.moved hvm h7, h8, fun k hk => va_O.moved hvm (h9 k hk), ⟨va_O.moved hvm h10.1, va_OF.moved hvm h10.2⟩, ⟨vk_R.warm hW h11.1, vk_S.moved hvm h11.2⟩, fun k hk => ⟨(h12 k hk).1.moved hW, (h12 k hk).2⟩, h13.moved hW⟩
theorem Kc.kept {G : mg} {A : Nat → Prop} {U : State} {H H1 : Heap} (h : Kc G A U H) (hq : ∀ a : Nat, a < H.size → ¬ A a → H1[a]? = H[a]?) : Kc G A U H1 := by
  have kp : ∀ {a : Nat} {cell : Cell}, H[a]? = some cell → ¬ A a → H1[a]? = some cell := fun {a cell} hc hA => by rw [hq a (Array.getElem?_eq_some_iff.mp hc).1 hA]; exact hc
  obtain ⟨h1, h2, h3, h4, h5, h6, h7, h8, h9, h10, h11, h12, h13⟩ := h
  refine ⟨h1, h2, h3, fun q hz => (h4 q hz).kept hq, h5.kept hq, h6.kept hq, h7.kept hq, ?_, fun k hk => (h9 k hk).kept hq, ⟨h10.1.kept hq, h10.2.kept hq⟩, ⟨h11.1, h11.2.kept hq⟩, fun k hk => ⟨(h12 k hk).1, ?_⟩, h13⟩
  · obtain ⟨cell, c1, c2, c3, c4, c5, c6⟩ := h8
    exact ⟨cell, kp c1 c6, c2, c3, c4, c5, c6⟩
  · obtain ⟨cell, c1, c2, c3, c4, c5⟩ := (h12 k hk).2
    exact ⟨cell, kp c1 c5, c2, c3, c4, c5⟩
/-- a state that holds a world: its abstract heap has P -/
def mU (G : mg) (A : Nat → Prop) (P : mh → Prop) (U : State) : Prop := (∀ q, U.heap.size ≤ q → A q) ∧ va_K G.1 vwCl (mTy G) U ∧ Kc G A U U.heap ∧ ∃ M : mh, P M ∧ mH G M U.heap ∧ ∀ a, M a ≠ none → A a
/-- within a method: s its start, H the heap by now -/
def mW (G : mg) (A : Nat → Prop) (s : State) (M : mh) (H : Heap) (locs : List Loc) : Prop := mH G M H ∧ (∀ a, M a ≠ none → A a) ∧ (∀ q, s.heap.size ≤ q → A q) ∧ va_S A s.heap H locs ∧ va_K G.1 vwCl (mTy G) s ∧ Kc G A s H
def mL (M : mh) (n : Nat) : va_W := (List.range n).filterMap (fun a => (M a).map (fun e => (a, e)))
theorem mL_mem {M : mh} {n : Nat} {x : Nat × va_E} : x ∈ mL M n ↔ x.1 < n ∧ M x.1 = some x.2 := by
  obtain ⟨a, e⟩ := x
  simp only [mL, List.mem_filterMap, List.mem_range, Option.map_eq_some_iff]
  constructor
  · rintro ⟨b, hb, e', he, hq⟩
    cases hq
    exact ⟨hb, he⟩
  · rintro ⟨h1, h2⟩
    exact ⟨a, h1, e, h2, rfl⟩
theorem mL_lt (M : mh) (n : Nat) : (mL M n).Pairwise (fun x y => x.1 < y.1) := by
  unfold mL
  rw [List.pairwise_filterMap]
  refine List.Pairwise.imp ?_ List.pairwise_lt_range
  intro a b hab x hx y hy
  rw [Option.map_eq_some_iff] at hx hy
  obtain ⟨e1, -, rfl⟩ := hx
  obtain ⟨e2, -, rfl⟩ := hy
  exact hab
theorem mL_inj {M : mh} {n i j : Nat} {x y : Nat × va_E} (hi : (mL M n)[i]? = some x) (hj : (mL M n)[j]? = some y) (h : x.1 = y.1) : i = j := by
  have hp := List.pairwise_iff_getElem.mp (mL_lt M n)
  obtain ⟨li, ei⟩ := List.getElem?_eq_some_iff.mp hi
  obtain ⟨lj, ej⟩ := List.getElem?_eq_some_iff.mp hj
  rcases Nat.lt_trichotomy i j with q | q | q
  · have := hp i j li lj q
    rw [ei, ej] at this
    omega
  · exact q
  · have := hp j i lj li q
    rw [ei, ej] at this
    omega
theorem mH.lt {G : mg} {M : mh} {H : Heap} (h : mH G M H) {a : Nat} {e : va_E} (hM : M a = some e) : a < H.size := (h a e hM).lt
theorem mH.P {G : mg} {M : mh} {H : Heap} (h : mH G M H) : va_P G.1 vwCl (mL M H.size) H := fun _ q hk => h q.1 q.2 (mL_mem.mp (List.mem_of_getElem? hk)).2
theorem mW.P {G : mg} {A : Nat → Prop} {s : State} {M : mh} {H : Heap} {locs : List Loc} (w : mW G A s M H locs) : va_P G.1 vwCl (mL M H.size) H := w.1.P
theorem mW.D {G : mg} {A : Nat → Prop} {s : State} {M : mh} {H : Heap} {locs : List Loc} (w : mW G A s M H locs) : va_D A (mL M H.size) :=
  ⟨fun _ _ _ _ hi hj h => mL_inj hi hj h, fun _ q hk => w.2.1 q.1 (by rw [(mL_mem.mp (List.mem_of_getElem? hk)).2]; exact fun h => by cases h)⟩
theorem mW.at {G : mg} {A : Nat → Prop} {s : State} {M : mh} {H : Heap} {locs : List Loc} (w : mW G A s M H locs) {a : Nat} {e : va_E} (hM : M a = some e) : ∃ q0 : Nat, (mL M H.size)[q0]? = some (a, e) :=
  List.getElem?_of_mem (mL_mem.mpr ⟨w.1.lt hM, hM⟩)
theorem mW.kc {G : mg} {A : Nat → Prop} {s : State} {M : mh} {H H1 : Heap} {locs locs1 : List Loc} (w : mW G A s M H locs) (hS : va_S A s.heap H1 locs1) : Kc G A s H1 :=
  w.2.2.2.2.2.kept fun a _ hA => by
    by_cases q : a < s.heap.size
    · rw [hS.2.1 a q hA, w.2.2.2.1.2.1 a q hA]
    · exact absurd (w.2.2.1 a (by omega)) hA
theorem mW.set {G : mg} {A : Nat → Prop} {s : State} {M : mh} {H H1 : Heap} {locs locs1 : List Loc} (w : mW G A s M H locs) {a q0 : Nat} {e0 e : va_E} (hq : (mL M H.size)[q0]? = some (a, e0)) (hP : va_P G.1 vwCl ((mL M H.size).set q0 (a, e)) H1) (hS : va_S A s.heap H1 locs1) : mW G A s (va_up M a (some e)) H1 locs1 := by
  have hl := (List.getElem?_eq_some_iff.mp hq).1
  refine ⟨fun b x hb => ?_, fun b hb => ?_, w.2.2.1, hS, w.2.2.2.2.1, w.kc hS⟩
  · by_cases hba : b = a
    · subst hba
      simp only [va_up, if_true, Option.some.injEq] at hb
      subst hb
      exact hP q0 _ (List.getElem?_set_self hl)
    · simp only [va_up, hba, if_false] at hb
      obtain ⟨j, hj⟩ := w.at hb
      refine hP j _ ?_
      rw [List.getElem?_set_ne, hj]
      rintro rfl
      rw [hq] at hj
      cases hj
      exact hba rfl
  · by_cases hba : b = a
    · subst hba
      exact w.2.1 b (by rw [(mL_mem.mp (List.mem_of_getElem? hq)).2]; exact fun h => by cases h)
    · exact w.2.1 b (by simpa only [va_up, hba, if_false] using hb)
theorem mW.push {G : mg} {A : Nat → Prop} {s : State} {M : mh} {H H1 : Heap} {locs locs1 : List Loc} (w : mW G A s M H locs) {a : Nat} {e : va_E} (hP : va_P G.1 vwCl ((mL M H.size) ++ [(a, e)]) H1) (hD : va_D A ((mL M H.size) ++ [(a, e)])) (hS : va_S A s.heap H1 locs1) : mW G A s (va_up M a (some e)) H1 locs1 ∧ M a = none := by
  have hlast : ((mL M H.size) ++ [(a, e)])[(mL M H.size).length]? = some (a, e) := by simp
  have hold : ∀ {j : Nat} {x : Nat × va_E}, (mL M H.size)[j]? = some x → ((mL M H.size) ++ [(a, e)])[j]? = some x := fun {j x} h => by
    rw [List.getElem?_append_left (List.getElem?_eq_some_iff.mp h).1]; exact h
  have hn : M a = none := by
    cases hM : M a with
    | none => rfl
    | some x =>
      obtain ⟨j, hj⟩ := w.at hM
      have := hD.1 j _ _ _ (hold hj) hlast rfl
      have h2 := (List.getElem?_eq_some_iff.mp hj).1
      omega
  refine ⟨⟨fun b x hb => ?_, fun b hb => ?_, w.2.2.1, hS, w.2.2.2.2.1, w.kc hS⟩, hn⟩
  · by_cases hba : b = a
    · subst hba
      simp only [va_up, if_true, Option.some.injEq] at hb
      subst hb
      exact hP _ _ hlast
    · simp only [va_up, hba, if_false] at hb
      obtain ⟨j, hj⟩ := w.at hb
      exact hP j _ (hold hj)
  · by_cases hba : b = a
    · subst hba
      exact hD.2 _ _ hlast
    · exact w.2.1 b (by simpa only [va_up, hba, if_false] using hb)
theorem mW.start {G : mg} {A : Nat → Prop} {s : State} {P : mh → Prop} (h : mU G A P s) : ∃ M : mh, P M ∧ mW G A s M s.heap [] := by
  obtain ⟨hA, hK, hC, M, hP, hM, hd⟩ := h
  exact ⟨M, hP, hM, hd, hA, va_S.rf, hK, hC⟩
/-- the world at a method's end -/
theorem mW.done {G : mg} {A : Nat → Prop} {s t : State} {M : mh} {H : Heap} {locs : List Loc} (w : mW G A s M H locs) (ht : t.heap = H) (hW : s.WarmedH t.vm) : mU G A (fun M' => M' = M) t := by
  subst ht
  exact ⟨fun q hq => w.2.2.1 q (Nat.le_trans w.2.2.2.1.1 hq), va_K.moved hW.alike w.2.2.2.2.1, w.2.2.2.2.2.moved hW, M, rfl, w.1, w.2.1⟩
/-- the world that a callee finds -/
theorem mW.call {G : mg} {A : Nat → Prop} {s U : State} {P : mh → Prop} {M : mh} {H : Heap} {locs : List Loc} (w : mW G A s M H locs) (hP : P M) (hU : U.heap = H) (hW : s.WarmedH U.vm) : mU G A P U := by
  subst hU
  exact ⟨fun q hq => w.2.2.1 q (Nat.le_trans w.2.2.2.1.1 hq), va_K.moved hW.alike w.2.2.2.2.1, w.2.2.2.2.2.moved hW, M, hP, w.1, w.2.1⟩
theorem mU.blind {G : mg} {A : Nat → Prop} {P : mh → Prop} {av : List Value} : FrameBlind (va_Pc av (mU G A P)) := by
  rintro a U g mk ⟨h1, h2, h3, h4, M, h5, h6, h7⟩
  exact ⟨h1, h2, va_K.moved (u := U) (U := U.calling g mk a) (Vm.Alike.refl U.vm) h3, Kc.moved (u := U) (U := U.calling g mk a) (State.WarmedH.refl U) h4, M, h5, h6, h7⟩
/-- the world behind a call -/
theorem mW.back {G : mg} {A : Nat → Prop} {s t : State} {M M' : mh} {H H1 : Heap} {locs locs1 : List Loc} (w : mW G A s M H locs) (ht : t.heap = H1) (hS : va_S A s.heap H1 locs1) (hB : mU G A (fun N => N = M') t) : mW G A s M' H1 locs1 := by
  subst ht
  obtain ⟨-, -, -, N, rfl, h6, h7⟩ := hB
  exact ⟨h6, h7, w.2.2.1, hS, w.2.2.2.2.1, w.kc hS⟩
theorem mW.recv {G : mg} {A : Nat → Prop} {s : State} {M : mh} {H : Heap} {locs : List Loc} (w : mW G A s M H locs) {b ci : Nat} {q : vw_C} {fs : List Value} (hM : M b = some (.inr (ci, fs))) (hc : vwCl[ci]? = some q) : ∃ cell : Cell, H[b]? = some cell ∧ cell.vm.isStatics = false ∧ s.vm.findClass q.1 = some cell.cls := by
  obtain ⟨q0, hq⟩ := w.at hM
  exact va_recv w.2.2.2.2.1 w.P hc hq
/-- contracts over worlds: the answer r and the world behind it -/
abbrev mQi (G : mg) (A : Nat → Prop) (post : Int32 → mh → Prop) : Array Value → State → Outcome → State → Prop := va_Qi post (fun M' t => mU G A (fun M => M = M') t) A
abbrev mQl (G : mg) (A : Nat → Prop) (post : Int64 → mh → Prop) : Array Value → State → Outcome → State → Prop := va_Ql post (fun M' t => mU G A (fun M => M = M') t) A
abbrev mQv (G : mg) (A : Nat → Prop) (post : mh → Prop) : Array Value → State → Outcome → State → Prop := va_Qv post (fun M' t => mU G A (fun M => M = M') t) A
abbrev mQq (G : mg) (A : Nat → Prop) (post : Option Nat → mh → Prop) : Array Value → State → Outcome → State → Prop := va_Qq post (fun M' t => mU G A (fun M => M = M') t) A
section MX
variable {p : Program} {l : Launch} {e : Env} {R : Room} {s : State} {m : MethodId} {args : Array Value} {below : List Frame} {meth : Method} {c : Code} {H : Heap} {locs : List Loc} {cells slots : Nat} {Q : State → Prop}
variable {G : mg} {A : Nat → Prop} {M : mh} {cc : ByteArray} {nL pc a : Nat} {ls : Array Slot} {rest : List Value} {own : String}
theorem mx_get (X : CallFix p m c cc nL s args lw_all own) (w : mW G A s M H locs) {ref C : String} {T : u_T} {N ci index : Nat} (hin : ∀ w ∈ u_ws C T N, w ∈ lw_all) (hc : vwCl[ci]? = some (C, T, N)) (k : Nat) (hk : k < N) (hlink : Cond.fieldLink own index ref (T k).2.1 (T k).2.2.1 ∈ lw_all) (hsame : ∀ x, s.fieldFound? (T k).1 (T k).2.1 (T k).2.2.1 = some x → s.fieldFound? ref (T k).2.1 (T k).2.2.1 = some x) {fs : List Value} (hM : M a = some (.inr (ci, fs))) {v : Value} (hv : fs[k]? = some v) (hdg : decode cc pc = .ok (.getfield index, 3))
    (kk : W p l e R s m args below meth c H locs cells slots Q (F0 m (pc + 3) ls (v :: rest))) : W p l e R s m args below meth c H locs cells slots Q (F0 m pc ls (.ref a :: rest)) := by
  obtain ⟨q0, hq⟩ := w.at hM
  exact va_get X.1 X.2.1 X.2.2.2.2 hin X.2.2.2.1 w.2.2.2.2.1 w.P q0 hq hc k hk (X.2.2.2.2 _ hlink) hsame hv hdg kk
theorem mx_getN (X : CallFix p m c cc nL s args lw_all own) (w : mW G A s M H locs) {ref C host : String} {T : u_T} {N ci index : Nat} (hin : ∀ w ∈ u_ws C T N, w ∈ lw_all) (hc : vwCl[ci]? = some (C, T, N)) (k : Nat) (hk : k < N) (hlink : (Cond.fieldLinkNest own index ref (T k).2.1 (T k).2.2.1 host).before args s = true) (hsame : ∀ x, s.fieldFound? (T k).1 (T k).2.1 (T k).2.2.1 = some x → s.fieldFound? ref (T k).2.1 (T k).2.2.1 = some x) {fs : List Value} (hM : M a = some (.inr (ci, fs))) {v : Value} (hv : fs[k]? = some v) (hdg : decode cc pc = .ok (.getfield index, 3))
    (kk : W p l e R s m args below meth c H locs cells slots Q (F0 m (pc + 3) ls (v :: rest))) : W p l e R s m args below meth c H locs cells slots Q (F0 m pc ls (.ref a :: rest)) := by
  obtain ⟨q0, hq⟩ := w.at hM
  exact va_getN X.1 X.2.1 X.2.2.2.2 hin X.2.2.2.1 w.2.2.2.2.1 w.P q0 hq hc k hk hlink hsame hv hdg kk
theorem mx_put (X : CallFix p m c cc nL s args lw_all own) (w : mW G A s M H locs) {ref C : String} {T : u_T} {N ci index : Nat} (hin : ∀ w ∈ u_ws C T N, w ∈ lw_all) (ty0 : Nat → FieldType) (hty : ∀ k, k < N → parseFieldDescriptor (T k).2.2.1 = some (ty0 k)) (hnm : ∀ a, a < N → ∀ b, b < N → a ≠ b → (T a).2.1 ≠ (T b).2.1) (hc : vwCl[ci]? = some (C, T, N)) (k : Nat) (hk : k < N) (hlink : Cond.fieldLink own index ref (T k).2.1 (T k).2.2.1 ∈ lw_all) (hsame : ∀ x, s.fieldFound? (T k).1 (T k).2.1 (T k).2.2.1 = some x → s.fieldFound? ref (T k).2.1 (T k).2.2.1 = some x) (hfin : (T k).2.2.2 = false) {v : Value} (hn : narrow (ty0 k) v = v) (hfit : fits (ty0 k) v = true) {fs : List Value} (hM : M a = some (.inr (ci, fs))) (hl : k < fs.length) (hdg : decode cc pc = .ok (.putfield index, 3))
    (kk : ∀ (H1 : Heap) (locs1 : List Loc), mW G A s (va_up M a (some (.inr (ci, fs.set k v)))) H1 locs1 → W p l e R s m args below meth c H1 locs1 cells slots Q (F0 m (pc + 3) ls rest)) : W p l e R s m args below meth c H locs cells slots Q (F0 m pc ls (v :: .ref a :: rest)) := by
  obtain ⟨q0, hq⟩ := w.at hM
  exact va_put X.1 X.2.1 X.2.2.2.2 hin ty0 hty hnm X.2.2.2.1 w.2.2.2.2.1 w.P w.D w.2.2.2.1 q0 hq hc k hk (X.2.2.2.2 _ hlink) hsame hfin (hty k hk) hn hfit hl hdg fun H1 locs1 hP _ hS => kk H1 locs1 (w.set hq hP hS)
theorem mx_putN (X : CallFix p m c cc nL s args lw_all own) (w : mW G A s M H locs) {ref C host : String} {T : u_T} {N ci index : Nat} (hin : ∀ w ∈ u_ws C T N, w ∈ lw_all) (ty0 : Nat → FieldType) (hty : ∀ k, k < N → parseFieldDescriptor (T k).2.2.1 = some (ty0 k)) (hnm : ∀ a, a < N → ∀ b, b < N → a ≠ b → (T a).2.1 ≠ (T b).2.1) (hc : vwCl[ci]? = some (C, T, N)) (k : Nat) (hk : k < N) (hlink : (Cond.fieldLinkNest own index ref (T k).2.1 (T k).2.2.1 host).before args s = true) (hsame : ∀ x, s.fieldFound? (T k).1 (T k).2.1 (T k).2.2.1 = some x → s.fieldFound? ref (T k).2.1 (T k).2.2.1 = some x) (hfin : (T k).2.2.2 = false) {v : Value} (hn : narrow (ty0 k) v = v) (hfit : fits (ty0 k) v = true) {fs : List Value} (hM : M a = some (.inr (ci, fs))) (hl : k < fs.length) (hdg : decode cc pc = .ok (.putfield index, 3))
    (kk : ∀ (H1 : Heap) (locs1 : List Loc), mW G A s (va_up M a (some (.inr (ci, fs.set k v)))) H1 locs1 → W p l e R s m args below meth c H1 locs1 cells slots Q (F0 m (pc + 3) ls rest)) : W p l e R s m args below meth c H locs cells slots Q (F0 m pc ls (v :: .ref a :: rest)) := by
  obtain ⟨q0, hq⟩ := w.at hM
  exact va_putN X.1 X.2.1 X.2.2.2.2 hin ty0 hty hnm X.2.2.2.1 w.2.2.2.2.1 w.P w.D w.2.2.2.1 q0 hq hc k hk hlink hsame hfin (hty k hk) hn hfit hl hdg fun H1 locs1 hP _ hS => kk H1 locs1 (w.set hq hP hS)
theorem mx_putF (X : CallFix p m c cc nL s args lw_all own) (w : mW G A s M H locs) {ref C : String} {T : u_T} {N ci index : Nat} (hin : ∀ w ∈ u_ws C T N, w ∈ lw_all) (ty0 : Nat → FieldType) (hty : ∀ k, k < N → parseFieldDescriptor (T k).2.2.1 = some (ty0 k)) (hnm : ∀ a, a < N → ∀ b, b < N → a ≠ b → (T a).2.1 ≠ (T b).2.1) (hc : vwCl[ci]? = some (C, T, N)) (k : Nat) (hk : k < N) (hlink : Cond.fieldLink own index ref (T k).2.1 (T k).2.2.1 ∈ lw_all) (hsame : ∀ x, s.fieldFound? (T k).1 (T k).2.1 (T k).2.2.1 = some x → s.fieldFound? ref (T k).2.1 (T k).2.2.1 = some x) (hfin : (T k).2.2.2 = true) (hin2 : meth.name = "<init>") (hdecl : (T k).1 = own) {v : Value} (hn : narrow (ty0 k) v = v) (hfit : fits (ty0 k) v = true) {fs : List Value} (hM : M a = some (.inr (ci, fs))) (hl : k < fs.length) (hdg : decode cc pc = .ok (.putfield index, 3))
    (kk : ∀ (H1 : Heap) (locs1 : List Loc), mW G A s (va_up M a (some (.inr (ci, fs.set k v)))) H1 locs1 → W p l e R s m args below meth c H1 locs1 cells slots Q (F0 m (pc + 3) ls rest)) : W p l e R s m args below meth c H locs cells slots Q (F0 m pc ls (v :: .ref a :: rest)) := by
  obtain ⟨q0, hq⟩ := w.at hM
  exact va_putF X.1 X.2.1 X.2.2.2.2 hin ty0 hty hnm X.2.2.2.1 w.2.2.2.2.1 w.P w.D w.2.2.2.1 q0 hq hc k hk (X.2.2.2.2 _ hlink) hsame hfin hin2 hdecl (hty k hk) hn hfit hl hdg fun H1 locs1 hP _ hS => kk H1 locs1 (w.set hq hP hS)
theorem mx_new (X : CallFix p m c cc nL s args lw_all own) (w : mW G A s M H locs) {C : String} {T : u_T} {N ci index : Nat} (hin : ∀ w ∈ u_ws C T N, w ∈ lw_all) (ty : Nat → FieldType) (hty : ∀ k, k < N → parseFieldDescriptor (T k).2.2.1 = some (ty k)) (hcl : Cond.classLink own index C ∈ lw_all) (hinst : Cond.instantiable C N ∈ lw_all) (hini : Cond.initialized C ∈ lw_all) (hc : vwCl[ci]? = some (C, T, N)) {fs : List Value} (hfs : ∀ j, j < N → defaultValue (ty j) = vp_V fs j) (hcells : cells + 1 ≤ R.cells) (hslots : slots + N ≤ R.slots) (hdg : decode cc pc = .ok (.new index, 3))
    (kk : ∀ (q : Nat) (H1 : Heap), M q = none → mW G A s (va_up M q (some (.inr (ci, fs)))) H1 locs → W p l e R s m args below meth c H1 locs (cells + 1) (slots + N) Q (F0 m (pc + 3) ls (.ref q :: rest))) : W p l e R s m args below meth c H locs cells slots Q (F0 m pc ls rest) :=
  va_new X.1 X.2.1 X.2.2.2.2 hin ty hty X.2.2.2.1 (X.2.2.2.2 _ hcl) (X.2.2.2.2 _ hinst) (X.2.2.2.2 _ hini) w.2.2.2.2.1 w.P w.D w.2.2.2.1 w.2.2.1 hc hfs hcells hslots hdg fun q H1 hP hD hS => by
    obtain ⟨h1, h2⟩ := w.push hP hD hS
    exact kk q H1 h2 h1
theorem mx_iald (X : CallFix p m c cc nL s args lw_all own) (w : mW G A s M H locs) {n : Nat} {f : Nat → Int32} (hM : M a = some (.inl (G.1.1 100, n, .inl f))) (j : Nat) (hj : j < n) (hn : n < 2 ^ 31) (hdg : decode cc pc = .ok (.iaload, 1))
    (kk : W p l e R s m args below meth c H locs cells slots Q (F0 m (pc + 1) ls (.int (f j) :: rest))) : W p l e R s m args below meth c H locs cells slots Q (F0 m pc ls (.int (nI j) :: .ref a :: rest)) := by
  obtain ⟨q0, hq⟩ := w.at hM
  refine va_iald X.1 X.2.1 w.2.2.2.2.1 w.P q0 0 hq rfl (vp_in_nI hj hn) hdg ?_
  rw [nI_clamp (by omega)]
  exact kk
theorem mx_iast (X : CallFix p m c cc nL s args lw_all own) (w : mW G A s M H locs) {n : Nat} {f : Nat → Int32} (hM : M a = some (.inl (G.1.1 100, n, .inl f))) (j : Nat) (hj : j < n) (hn : n < 2 ^ 31) {x : Int32} (hdg : decode cc pc = .ok (.iastore, 1))
    (kk : ∀ (H1 : Heap) (locs1 : List Loc), mW G A s (va_up M a (some (.inl (G.1.1 100, n, .inl (upd f j x))))) H1 locs1 → W p l e R s m args below meth c H1 locs1 cells slots Q (F0 m (pc + 1) ls rest)) : W p l e R s m args below meth c H locs cells slots Q (F0 m pc ls (.int x :: .int (nI j) :: .ref a :: rest)) := by
  obtain ⟨q0, hq⟩ := w.at hM
  refine va_iast X.1 X.2.1 w.2.2.2.2.1 w.P w.D w.2.2.2.1 q0 0 hq rfl (vp_in_nI hj hn) hdg fun H1 locs1 hP _ hS => ?_
  rw [nI_clamp (by omega)] at hP
  exact kk H1 locs1 (w.set hq hP hS)
theorem mx_alen (X : CallFix p m c cc nL s args lw_all own) (w : mW G A s M H locs) (t0 : Nat) {cA : ClassId} {x : vp_A} (hM : M a = some (.inl (cA, x))) {ty : FieldType} (ht : (mTy G)[t0]? = some (cA, ty)) (hdg : decode cc pc = .ok (.arraylength, 1))
    (kk : W p l e R s m args below meth c H locs cells slots Q (F0 m (pc + 1) ls (.int (nI x.1) :: rest))) : W p l e R s m args below meth c H locs cells slots Q (F0 m pc ls (.ref a :: rest)) := by
  obtain ⟨q0, hq⟩ := w.at hM
  exact va_alen X.1 X.2.1 w.2.2.2.2.1 w.P q0 t0 hq ht rfl hdg kk
variable {y : MethodName} {bytes : ByteArray} {maxL mc ms n index : Nat} {ret : Option FieldType} {ws : List Cond} {rm : Room} {b : Addr} {As st0 : List Value} {P : mh → Prop} {C : String}
/-- calls: of an object's method (va_runV), of a static method (va_runS), of a constructor (va_runI) -/
theorem mx_preV (w : mW G A s M H locs) (hP : P M) {ci : Nat} {T : u_T} {N : Nat} {fs : List Value} (hM : M b = some (.inr (ci, fs))) (hc : vwCl[ci]? = some (C, T, N)) : PreV s H C b (va_Pc (.ref b :: As) (mU G A P)) As :=
  ⟨mU.blind, w.recv hM hc, fun U hU hW => ⟨rfl, w.call hP hU hW⟩⟩
theorem mx_preS (w : mW G A s M H locs) (hP : P M) : PreS s H (va_Pc As (mU G A P)) As :=
  ⟨mU.blind, fun U hU hW => ⟨rfl, w.call hP hU hW⟩⟩
theorem mx_bi {av : Array Value} (w : mW G A s M H locs) {post : Int32 → mh → Prop} (hr : va_Run p l e R s m args below meth c H locs cells slots mc ms (F0 m pc ls st0) rest (mQi G A post av) A)
    (kk : ∀ (r : Int32) (M1 : mh) (H1 : Heap) (locs1 : List Loc), post r M1 → mW G A s M1 H1 locs1 → W p l e R s m args below meth c H1 locs1 (cells + mc) (slots + ms) Q (F0 m (pc + 3) ls (.int r :: rest))) : W p l e R s m args below meth c H locs cells slots Q (F0 m pc ls st0) :=
  va_calli hr w.2.2.2.1 (fun _ _ h => h) (fun _ h => h) fun r M1 t H1 locs1 ht _ hp hB _ _ hS => kk r M1 H1 locs1 hp (w.back ht hS hB)
theorem mx_bl {av : Array Value} (w : mW G A s M H locs) {post : Int64 → mh → Prop} (hr : va_Run p l e R s m args below meth c H locs cells slots mc ms (F0 m pc ls st0) rest (mQl G A post av) A)
    (kk : ∀ (r : Int64) (M1 : mh) (H1 : Heap) (locs1 : List Loc), post r M1 → mW G A s M1 H1 locs1 → W p l e R s m args below meth c H1 locs1 (cells + mc) (slots + ms) Q (F0 m (pc + 3) ls (.long r :: rest))) : W p l e R s m args below meth c H locs cells slots Q (F0 m pc ls st0) :=
  va_calll hr w.2.2.2.1 (fun _ _ h => h) (fun _ h => h) fun r M1 t H1 locs1 ht _ hp hB _ _ hS => kk r M1 H1 locs1 hp (w.back ht hS hB)
theorem mx_bv {av : Array Value} (w : mW G A s M H locs) {post : mh → Prop} (hr : va_Run p l e R s m args below meth c H locs cells slots mc ms (F0 m pc ls st0) rest (mQv G A post av) A)
    (kk : ∀ (M1 : mh) (H1 : Heap) (locs1 : List Loc), post M1 → mW G A s M1 H1 locs1 → W p l e R s m args below meth c H1 locs1 (cells + mc) (slots + ms) Q (F0 m (pc + 3) ls rest)) : W p l e R s m args below meth c H locs cells slots Q (F0 m pc ls st0) :=
  va_callv hr w.2.2.2.1 (fun _ _ h => h) (fun _ h => h) fun M1 t H1 locs1 ht _ hp hB _ _ hS => kk M1 H1 locs1 hp (w.back ht hS hB)
theorem mx_bq {av : Array Value} (w : mW G A s M H locs) {post : Option Nat → mh → Prop} (hr : va_Run p l e R s m args below meth c H locs cells slots mc ms (F0 m pc ls st0) rest (mQq G A post av) A)
    (kk : ∀ (r : Option Nat) (M1 : mh) (H1 : Heap) (locs1 : List Loc), post r M1 → mW G A s M1 H1 locs1 → W p l e R s m args below meth c H1 locs1 (cells + mc) (slots + ms) Q (F0 m (pc + 3) ls (va_rf r :: rest))) : W p l e R s m args below meth c H locs cells slots Q (F0 m pc ls st0) :=
  va_callq hr w.2.2.2.1 (fun _ _ h => h) (fun _ h => h) fun r M1 t H1 locs1 ht _ hp hB _ _ hS => kk r M1 H1 locs1 hp (w.back ht hS hB)
/-- ends -/
theorem mx_iret {post : Int32 → mh → Prop} {v : Int32} (w : mW G A s M H locs) (hx : p.tables.exec = Jvm.exec) (hb : c.code = cc) (hr : meth.sig.returnType = some .int) (hp : post v M) (hdg : decode cc pc = .ok (.ireturn, 1)) (hlocks : meth.locks = false) :
    W p l e R s m args below meth c H locs cells slots (MQ below (mQi G A post) args s cells slots A) (F0 m pc ls [.int v]) :=
  W.iret hx hb hr (fun t ht hW => ⟨⟨v, M, rfl, hp, w.done ht hW⟩, w.2.2.2.1.F ht⟩) w.2.2.2.1.2.2 hdg hlocks
theorem mx_zret {post : Int32 → mh → Prop} {v : Int32} {ty : FieldType} (w : mW G A s M H locs) (hx : p.tables.exec = Jvm.exec) (hb : c.code = cc) (hr : meth.sig.returnType = some ty) (hn : narrow ty (.int v) = .int v) (hp : post v M) (hdg : decode cc pc = .ok (.ireturn, 1)) (hlocks : meth.locks = false) :
    W p l e R s m args below meth c H locs cells slots (MQ below (mQi G A post) args s cells slots A) (F0 m pc ls [.int v]) :=
  W.zret hx hb hr hn (fun t ht hW => ⟨⟨v, M, rfl, hp, w.done ht hW⟩, w.2.2.2.1.F ht⟩) w.2.2.2.1.2.2 hdg hlocks
theorem mx_vret {post : mh → Prop} (w : mW G A s M H locs) (hx : p.tables.exec = Jvm.exec) (hb : c.code = cc) (hr : meth.sig.returnType = none) (hp : post M) (hdg : decode cc pc = .ok (.return_, 1)) (hlocks : meth.locks = false) :
    W p l e R s m args below meth c H locs cells slots (MQ below (mQv G A post) args s cells slots A) (F0 m pc ls []) :=
  W.vret hx hb hr (fun t ht hW => ⟨⟨M, rfl, hp, w.done ht hW⟩, w.2.2.2.1.F ht⟩) w.2.2.2.1.2.2 hdg hlocks
theorem mx_aret {post : Option Nat → mh → Prop} {v : Option Nat} {rt : FieldType} (w : mW G A s M H locs) (hx : p.tables.exec = Jvm.exec) (hb : c.code = cc) (hr : meth.sig.returnType = some rt) (hrt : (∃ n, rt = .object n) ∨ ∃ t, rt = .array t) (hp : post v M) (hdg : decode cc pc = .ok (.areturn, 1)) (hlocks : meth.locks = false) :
    W p l e R s m args below meth c H locs cells slots (MQ below (mQq G A post) args s cells slots A) (F0 m pc ls [va_rf v]) :=
  W.aret hx hb hr hrt (by cases v <;> simp [va_rf]) (fun t ht hW => ⟨⟨v, M, rfl, hp, w.done ht hW⟩, w.2.2.2.1.F ht⟩) w.2.2.2.1.2.2 hdg hlocks
end MX
/-- a truth as an int -/
def bI (b : Bool) : Int32 := if b then 1 else 0
theorem bI_eq0 {b : Bool} : bI b = 0 ↔ b = false := by cases b <;> simp [bI]
theorem bI_ne0 {b : Bool} : ¬ bI b = 0 ↔ b = true := by cases b <;> simp [bI]
theorem bI_z (b : Bool) : narrow .boolean (.int (bI b)) = .int (bI b) := by cases b <;> rfl
theorem bI_1 : bI true = 1 := rfl
theorem bI_0 : bI false = 0 := rfl
section MXS
variable {l : Launch} {y : MethodName} {cc : ByteArray} {maxL mc ms : Nat} {rm : Room} {P : mh → Prop} {As : List Value} {G : mg} {A : Nat → Prop}
/-- what a method's walk is given: the machine's parts as names -/
abbrev mxB (l : Launch) (y : MethodName) (cc : ByteArray) (maxL : Nat) (rm : Room) (P : mh → Prop) (As : List Value) (G : mg) (A : Nat → Prop) (Fin : Program → Env → Room → State → MethodId → Array Value → List Frame → Method → Code → (State → Prop) → Prop) : Prop :=
  ∀ (p : Program) (e : Env) (R : Room) (s : State) (m : MethodId) (av : Array Value) (below : List Frame) (meth : Method) (c : Code) (M : mh) (H : Heap) (Q : State → Prop) (ls : Array Slot), CallFix p m c cc maxL s av lw_all y.cls → R.frames = rm.frames → R.locals = rm.locals → R.cells = rm.cells → R.slots = rm.slots → meth.name = y.name → P M → mW G A s M H [] → Fin p e R s m av below meth c Q → lv_has ls maxL (lv_args 0 As) → W p l e R s m av below meth c H [] 0 0 Q (F0 m 0 ls [])
theorem mx_ofi {post : Int32 → mh → Prop} (hy : plainName y.cls = true) (hn : (lg_sl As).length ≤ maxL)
    (body : mxB l y cc maxL rm P As G A (fun p e R s m av below meth c Q => ∀ (r : Int32) (M : mh) (H : Heap) (locs : List Loc) (ls : Array Slot) (pc : Nat), decode cc pc = .ok (.ireturn, 1) → post r M → mW G A s M H locs → W p l e R s m av below meth c H locs mc ms Q (F0 m pc ls [.int r]))) :
    Met l y (ws_ y cc maxL (some .int)) rm (va_Pc As (mU G A P)) (mQi G A post) mc ms A := by
  refine Met.ofW (cc := cc) (maxL := maxL) (ret := some .int) hy rfl ?_
  intro p e s m args below meth c s₁ B hml hv
  obtain ⟨rfl, hv⟩ := hv
  obtain ⟨M, hM, w⟩ := mW.start hv
  have hl := lv_entry As (n := maxL) hn
  rw [lg_entry_eq]
  exact body p e _ s m _ below meth c M s.heap _ _ ⟨B.exec, B.bytes, hml, findClass_of_methodNamed B.named, fun w h => atoms_spec (ws := ws_ y cc maxL (some .int)) B.pre w (List.mem_cons_of_mem _ h)⟩ rfl rfl rfl rfl (name_of_methodNamed B.named B.method).1 hM w (fun r M H locs ls pc hd hp w => mx_iret w B.exec B.bytes B.returns hp hd B.notSynchronized) hl
theorem mx_ofz {post : Int32 → mh → Prop} (hy : plainName y.cls = true) (hn : (lg_sl As).length ≤ maxL)
    (body : mxB l y cc maxL rm P As G A (fun p e R s m av below meth c Q => ∀ (b : Bool) (M : mh) (H : Heap) (locs : List Loc) (ls : Array Slot) (pc : Nat), decode cc pc = .ok (.ireturn, 1) → post (bI b) M → mW G A s M H locs → W p l e R s m av below meth c H locs mc ms Q (F0 m pc ls [.int (bI b)]))) :
    Met l y (ws_ y cc maxL (some .boolean)) rm (va_Pc As (mU G A P)) (mQi G A post) mc ms A := by
  refine Met.ofW (cc := cc) (maxL := maxL) (ret := some .boolean) hy rfl ?_
  intro p e s m args below meth c s₁ B hml hv
  obtain ⟨rfl, hv⟩ := hv
  obtain ⟨M, hM, w⟩ := mW.start hv
  have hl := lv_entry As (n := maxL) hn
  rw [lg_entry_eq]
  exact body p e _ s m _ below meth c M s.heap _ _ ⟨B.exec, B.bytes, hml, findClass_of_methodNamed B.named, fun w h => atoms_spec (ws := ws_ y cc maxL (some .boolean)) B.pre w (List.mem_cons_of_mem _ h)⟩ rfl rfl rfl rfl (name_of_methodNamed B.named B.method).1 hM w (fun b M H locs ls pc hd hp w => mx_zret w B.exec B.bytes B.returns (bI_z b) hp hd B.notSynchronized) hl
theorem mx_ofv {post : mh → Prop} (hy : plainName y.cls = true) (hn : (lg_sl As).length ≤ maxL)
    (body : mxB l y cc maxL rm P As G A (fun p e R s m av below meth c Q => ∀ (M : mh) (H : Heap) (locs : List Loc) (ls : Array Slot) (pc : Nat), decode cc pc = .ok (.return_, 1) → post M → mW G A s M H locs → W p l e R s m av below meth c H locs mc ms Q (F0 m pc ls []))) :
    Met l y (ws_ y cc maxL none) rm (va_Pc As (mU G A P)) (mQv G A post) mc ms A := by
  refine Met.ofW (cc := cc) (maxL := maxL) (ret := none) hy rfl ?_
  intro p e s m args below meth c s₁ B hml hv
  obtain ⟨rfl, hv⟩ := hv
  obtain ⟨M, hM, w⟩ := mW.start hv
  have hl := lv_entry As (n := maxL) hn
  rw [lg_entry_eq]
  exact body p e _ s m _ below meth c M s.heap _ _ ⟨B.exec, B.bytes, hml, findClass_of_methodNamed B.named, fun w h => atoms_spec (ws := ws_ y cc maxL none) B.pre w (List.mem_cons_of_mem _ h)⟩ rfl rfl rfl rfl (name_of_methodNamed B.named B.method).1 hM w (fun M H locs ls pc hd hp w => mx_vret w B.exec B.bytes B.returns hp hd B.notSynchronized) hl
theorem mx_ofq {post : Option Nat → mh → Prop} {rt : FieldType} (hrt : (∃ n, rt = .object n) ∨ ∃ t, rt = .array t) (hy : plainName y.cls = true) (hn : (lg_sl As).length ≤ maxL)
    (body : mxB l y cc maxL rm P As G A (fun p e R s m av below meth c Q => ∀ (r : Option Nat) (M : mh) (H : Heap) (locs : List Loc) (ls : Array Slot) (pc : Nat), decode cc pc = .ok (.areturn, 1) → post r M → mW G A s M H locs → W p l e R s m av below meth c H locs mc ms Q (F0 m pc ls [va_rf r]))) :
    Met l y (ws_ y cc maxL (some rt)) rm (va_Pc As (mU G A P)) (mQq G A post) mc ms A := by
  refine Met.ofW (cc := cc) (maxL := maxL) (ret := some rt) hy rfl ?_
  intro p e s m args below meth c s₁ B hml hv
  obtain ⟨rfl, hv⟩ := hv
  obtain ⟨M, hM, w⟩ := mW.start hv
  have hl := lv_entry As (n := maxL) hn
  rw [lg_entry_eq]
  exact body p e _ s m _ below meth c M s.heap _ _ ⟨B.exec, B.bytes, hml, findClass_of_methodNamed B.named, fun w h => atoms_spec (ws := ws_ y cc maxL (some rt)) B.pre w (List.mem_cons_of_mem _ h)⟩ rfl rfl rfl rfl (name_of_methodNamed B.named B.method).1 hM w (fun r M H locs ls pc hd hp w => mx_aret w B.exec B.bytes B.returns hrt hp hd B.notSynchronized) hl
end MXS
theorem bI_inj {a b : Bool} : bI a = bI b ↔ a = b := by cases a <;> cases b <;> simp [bI]
theorem nI_mul (a b : Nat) : nI a * nI b = nI (a * b) := pk_mul a b
theorem nI_sub {a b : Nat} (h : b ≤ a) : nI a - nI b = nI (a - b) := pk_sub h
theorem nI_incr (a k : Nat) : nI a + Int32.ofInt k = nI (a + k) := by
  rw [← nI_add]
  congr 1
theorem nI_decr {a k : Nat} (h : k ≤ a) : nI a + Int32.ofInt (-(k : Int)) = nI (a - k) := by
  rw [← nI_sub h]
  apply Int32.toBitVec_inj.mp
  simp [nI, Int32.sub_eq_add_neg]
theorem nI_leq {a b : Nat} (ha : a < 2 ^ 31) (hb : b < 2 ^ 31) : nI a ≤ nI b ↔ a ≤ b := nI_leI ha hb
section MXN
variable {p : Program} {l : Launch} {e : Env} {R : Room} {s : State} {m : MethodId} {args : Array Value} {below : List Frame} {meth : Method} {c : Code} {H : Heap} {locs : List Loc} {cells slots : Nat} {Q : State → Prop} {cc : ByteArray} {pc : Nat} {ls : Array Slot} {rest : List Value}
theorem mx_nadd (hx : p.tables.exec = Jvm.exec) (hb : c.code = cc) {x y : Int32} {u v : Nat} (hu : x = nI u) (hv : y = nI v) (hdg : decode cc pc = .ok (.iadd, 1)) (k : W p l e R s m args below meth c H locs cells slots Q (F0 m (pc + 1) ls (.int (nI (u + v)) :: rest))) : W p l e R s m args below meth c H locs cells slots Q (F0 m pc ls (.int y :: .int x :: rest)) := by
  subst hu; subst hv
  refine lv_iadd hx hb hdg ?_
  rw [nI_add]; exact k
theorem mx_nsub (hx : p.tables.exec = Jvm.exec) (hb : c.code = cc) {x y : Int32} {u v : Nat} (hu : x = nI u) (hv : y = nI v) (h : v ≤ u) (hdg : decode cc pc = .ok (.isub, 1)) (k : W p l e R s m args below meth c H locs cells slots Q (F0 m (pc + 1) ls (.int (nI (u - v)) :: rest))) : W p l e R s m args below meth c H locs cells slots Q (F0 m pc ls (.int y :: .int x :: rest)) := by
  subst hu; subst hv
  refine lv_isub hx hb hdg ?_
  rw [nI_sub h]; exact k
theorem mx_nmul (hx : p.tables.exec = Jvm.exec) (hb : c.code = cc) {x y : Int32} {u v : Nat} (hu : x = nI u) (hv : y = nI v) (hdg : decode cc pc = .ok (.imul, 1)) (k : W p l e R s m args below meth c H locs cells slots Q (F0 m (pc + 1) ls (.int (nI (u * v)) :: rest))) : W p l e R s m args below meth c H locs cells slots Q (F0 m pc ls (.int y :: .int x :: rest)) := by
  subst hu; subst hv
  refine lv_imul hx hb hdg ?_
  rw [nI_mul]; exact k
theorem mx_ndiv (hx : p.tables.exec = Jvm.exec) (hb : c.code = cc) {x y : Int32} {u v : Nat} (hu : x = nI u) (hv : y = nI v) (h0 : 0 < v) (bu : u < 2 ^ 31) (bv : v < 2 ^ 31) (hdg : decode cc pc = .ok (.idiv, 1)) (k : W p l e R s m args below meth c H locs cells slots Q (F0 m (pc + 1) ls (.int (nI (u / v)) :: rest))) : W p l e R s m args below meth c H locs cells slots Q (F0 m pc ls (.int y :: .int x :: rest)) := by
  subst hu; subst hv
  refine lv_idiv hx hb hdg (nI_ne0 h0 bv) ?_
  rw [pk_div bu h0 bv]; exact k
/-- the top's value under another name -/
theorem mx_cast {x z : Int32} (h : x = z) (k : W p l e R s m args below meth c H locs cells slots Q (F0 m pc ls (.int z :: rest))) : W p l e R s m args below meth c H locs cells slots Q (F0 m pc ls (.int x :: rest)) := by subst h; exact k
theorem mx_nge (hx : p.tables.exec = Jvm.exec) (hb : c.code = cc) {x y : Int32} {u v : Nat} (hu : x = nI u) (hv : y = nI v) (bu : u < 2 ^ 31) (bv : v < 2 ^ 31) {off : Int} {tgt : Nat} (hdg : decode cc pc = .ok (.if_icmp .ge off, 3)) (ht : (pc : Int) + off = (tgt : Int)) (kt : v ≤ u → W p l e R s m args below meth c H locs cells slots Q (F0 m tgt ls rest)) (kf : ¬ v ≤ u → W p l e R s m args below meth c H locs cells slots Q (F0 m (pc + 3) ls rest)) : W p l e R s m args below meth c H locs cells slots Q (F0 m pc ls (.int y :: .int x :: rest)) := by
  subst hu; subst hv
  exact lv_icmp_ge hx hb hdg ht (fun h => kt ((nI_leI bv bu).mp h)) (fun h => kf (fun g => h ((nI_leI bv bu).mpr g)))
theorem mx_nlt (hx : p.tables.exec = Jvm.exec) (hb : c.code = cc) {x y : Int32} {u v : Nat} (hu : x = nI u) (hv : y = nI v) (bu : u < 2 ^ 31) (bv : v < 2 ^ 31) {off : Int} {tgt : Nat} (hdg : decode cc pc = .ok (.if_icmp .lt off, 3)) (ht : (pc : Int) + off = (tgt : Int)) (kt : u < v → W p l e R s m args below meth c H locs cells slots Q (F0 m tgt ls rest)) (kf : ¬ u < v → W p l e R s m args below meth c H locs cells slots Q (F0 m (pc + 3) ls rest)) : W p l e R s m args below meth c H locs cells slots Q (F0 m pc ls (.int y :: .int x :: rest)) := by
  subst hu; subst hv
  exact lv_icmp_lt hx hb hdg ht (fun h => kt ((nI_ltI bu bv).mp h)) (fun h => kf (fun g => h ((nI_ltI bu bv).mpr g)))
theorem mx_ngt (hx : p.tables.exec = Jvm.exec) (hb : c.code = cc) {x y : Int32} {u v : Nat} (hu : x = nI u) (hv : y = nI v) (bu : u < 2 ^ 31) (bv : v < 2 ^ 31) {off : Int} {tgt : Nat} (hdg : decode cc pc = .ok (.if_icmp .gt off, 3)) (ht : (pc : Int) + off = (tgt : Int)) (kt : v < u → W p l e R s m args below meth c H locs cells slots Q (F0 m tgt ls rest)) (kf : ¬ v < u → W p l e R s m args below meth c H locs cells slots Q (F0 m (pc + 3) ls rest)) : W p l e R s m args below meth c H locs cells slots Q (F0 m pc ls (.int y :: .int x :: rest)) := by
  subst hu; subst hv
  exact lv_icmp_gt hx hb hdg ht (fun h => kt ((nI_ltI bv bu).mp h)) (fun h => kf (fun g => h ((nI_ltI bv bu).mpr g)))
theorem mx_nle (hx : p.tables.exec = Jvm.exec) (hb : c.code = cc) {x y : Int32} {u v : Nat} (hu : x = nI u) (hv : y = nI v) (bu : u < 2 ^ 31) (bv : v < 2 ^ 31) {off : Int} {tgt : Nat} (hdg : decode cc pc = .ok (.if_icmp .le off, 3)) (ht : (pc : Int) + off = (tgt : Int)) (kt : u ≤ v → W p l e R s m args below meth c H locs cells slots Q (F0 m tgt ls rest)) (kf : ¬ u ≤ v → W p l e R s m args below meth c H locs cells slots Q (F0 m (pc + 3) ls rest)) : W p l e R s m args below meth c H locs cells slots Q (F0 m pc ls (.int y :: .int x :: rest)) := by
  subst hu; subst hv
  exact lv_icmp_le hx hb hdg ht (fun h => kt ((nI_leI bu bv).mp h)) (fun h => kf (fun g => h ((nI_leI bu bv).mpr g)))
theorem mx_neq (hx : p.tables.exec = Jvm.exec) (hb : c.code = cc) {x y : Int32} {u v : Nat} (hu : x = nI u) (hv : y = nI v) (bu : u < 2 ^ 31) (bv : v < 2 ^ 31) {off : Int} {tgt : Nat} (hdg : decode cc pc = .ok (.if_icmp .eq off, 3)) (ht : (pc : Int) + off = (tgt : Int)) (kt : u = v → W p l e R s m args below meth c H locs cells slots Q (F0 m tgt ls rest)) (kf : ¬ u = v → W p l e R s m args below meth c H locs cells slots Q (F0 m (pc + 3) ls rest)) : W p l e R s m args below meth c H locs cells slots Q (F0 m pc ls (.int y :: .int x :: rest)) := by
  subst hu; subst hv
  exact lv_icmp_eq hx hb hdg ht (fun h => kt ((nI_eq bu bv).mp h)) (fun h => kf (fun g => h ((nI_eq bu bv).mpr g)))
theorem mx_nne (hx : p.tables.exec = Jvm.exec) (hb : c.code = cc) {x y : Int32} {u v : Nat} (hu : x = nI u) (hv : y = nI v) (bu : u < 2 ^ 31) (bv : v < 2 ^ 31) {off : Int} {tgt : Nat} (hdg : decode cc pc = .ok (.if_icmp .ne off, 3)) (ht : (pc : Int) + off = (tgt : Int)) (kt : ¬ u = v → W p l e R s m args below meth c H locs cells slots Q (F0 m tgt ls rest)) (kf : u = v → W p l e R s m args below meth c H locs cells slots Q (F0 m (pc + 3) ls rest)) : W p l e R s m args below meth c H locs cells slots Q (F0 m pc ls (.int y :: .int x :: rest)) := by
  subst hu; subst hv
  exact lv_icmp_ne hx hb hdg ht (fun h => kt (fun g => h ((nI_eq bu bv).mpr g))) (fun h => kf ((nI_eq bu bv).mp h))
/-- a truth asked -/
theorem mx_beq (hx : p.tables.exec = Jvm.exec) (hb : c.code = cc) {b : Bool} {off : Int} {tgt : Nat} (hdg : decode cc pc = .ok (.ifCond .eq off, 3)) (ht : (pc : Int) + off = (tgt : Int)) (kt : ¬ b = true → W p l e R s m args below meth c H locs cells slots Q (F0 m tgt ls rest)) (kf : b = true → W p l e R s m args below meth c H locs cells slots Q (F0 m (pc + 3) ls rest)) : W p l e R s m args below meth c H locs cells slots Q (F0 m pc ls (.int (bI b) :: rest)) :=
  lv_if_eq hx hb hdg ht (fun h => kt (by rw [bI_eq0.mp h]; decide)) (fun h => kf (bI_ne0.mp h))
theorem mx_bne (hx : p.tables.exec = Jvm.exec) (hb : c.code = cc) {b : Bool} {off : Int} {tgt : Nat} (hdg : decode cc pc = .ok (.ifCond .ne off, 3)) (ht : (pc : Int) + off = (tgt : Int)) (kt : b = true → W p l e R s m args below meth c H locs cells slots Q (F0 m tgt ls rest)) (kf : ¬ b = true → W p l e R s m args below meth c H locs cells slots Q (F0 m (pc + 3) ls rest)) : W p l e R s m args below meth c H locs cells slots Q (F0 m pc ls (.int (bI b) :: rest)) :=
  lv_if_ne hx hb hdg ht (fun h => kt (bI_ne0.mp h)) (fun h => kf (by rw [bI_eq0.mp h]; decide))
theorem mx_bbeq (hx : p.tables.exec = Jvm.exec) (hb : c.code = cc) {a b : Bool} {off : Int} {tgt : Nat} (hdg : decode cc pc = .ok (.if_icmp .eq off, 3)) (ht : (pc : Int) + off = (tgt : Int)) (kt : a = b → W p l e R s m args below meth c H locs cells slots Q (F0 m tgt ls rest)) (kf : ¬ a = b → W p l e R s m args below meth c H locs cells slots Q (F0 m (pc + 3) ls rest)) : W p l e R s m args below meth c H locs cells slots Q (F0 m pc ls (.int (bI b) :: .int (bI a) :: rest)) :=
  lv_icmp_eq hx hb hdg ht (fun h => kt (bI_inj.mp h)) (fun h => kf (fun g => h (bI_inj.mpr g)))
theorem mx_bbne (hx : p.tables.exec = Jvm.exec) (hb : c.code = cc) {a b : Bool} {off : Int} {tgt : Nat} (hdg : decode cc pc = .ok (.if_icmp .ne off, 3)) (ht : (pc : Int) + off = (tgt : Int)) (kt : ¬ a = b → W p l e R s m args below meth c H locs cells slots Q (F0 m tgt ls rest)) (kf : a = b → W p l e R s m args below meth c H locs cells slots Q (F0 m (pc + 3) ls rest)) : W p l e R s m args below meth c H locs cells slots Q (F0 m pc ls (.int (bI b) :: .int (bI a) :: rest)) :=
  lv_icmp_ne hx hb hdg ht (fun h => kt (fun g => h (bI_inj.mpr g))) (fun h => kf (bI_inj.mp h))
theorem mx_0le (hx : p.tables.exec = Jvm.exec) (hb : c.code = cc) {x : Int32} {u : Nat} (hu : x = nI u) (bu : u < 2 ^ 31) {off : Int} {tgt : Nat} (hdg : decode cc pc = .ok (.ifCond .le off, 3)) (ht : (pc : Int) + off = (tgt : Int)) (kt : u = 0 → W p l e R s m args below meth c H locs cells slots Q (F0 m tgt ls rest)) (kf : ¬ u = 0 → W p l e R s m args below meth c H locs cells slots Q (F0 m (pc + 3) ls rest)) : W p l e R s m args below meth c H locs cells slots Q (F0 m pc ls (.int x :: rest)) := by
  subst hu
  exact lv_if_le hx hb hdg ht (fun h => kt (Classical.byContradiction fun g => nI_nle (by omega) bu h)) (fun h => kf (fun g => h (by subst g; decide)))
theorem mx_0eq (hx : p.tables.exec = Jvm.exec) (hb : c.code = cc) {x : Int32} {u : Nat} (hu : x = nI u) (bu : u < 2 ^ 31) {off : Int} {tgt : Nat} (hdg : decode cc pc = .ok (.ifCond .eq off, 3)) (ht : (pc : Int) + off = (tgt : Int)) (kt : u = 0 → W p l e R s m args below meth c H locs cells slots Q (F0 m tgt ls rest)) (kf : ¬ u = 0 → W p l e R s m args below meth c H locs cells slots Q (F0 m (pc + 3) ls rest)) : W p l e R s m args below meth c H locs cells slots Q (F0 m pc ls (.int x :: rest)) := by
  subst hu
  exact lv_if_eq hx hb hdg ht (fun h => kt (Classical.byContradiction fun g => nI_ne0 (by omega) bu h)) (fun h => kf (fun g => h (by subst g; rfl)))
theorem mx_0ne (hx : p.tables.exec = Jvm.exec) (hb : c.code = cc) {x : Int32} {u : Nat} (hu : x = nI u) (bu : u < 2 ^ 31) {off : Int} {tgt : Nat} (hdg : decode cc pc = .ok (.ifCond .ne off, 3)) (ht : (pc : Int) + off = (tgt : Int)) (kt : ¬ u = 0 → W p l e R s m args below meth c H locs cells slots Q (F0 m tgt ls rest)) (kf : u = 0 → W p l e R s m args below meth c H locs cells slots Q (F0 m (pc + 3) ls rest)) : W p l e R s m args below meth c H locs cells slots Q (F0 m pc ls (.int x :: rest)) := by
  subst hu
  exact lv_if_ne hx hb hdg ht (fun h => kt (fun g => h (by subst g; rfl))) (fun h => kf (Classical.byContradiction fun g => nI_ne0 (by omega) bu h))
/-- a reference or null, as an option -/
theorem mx_ifnull (hx : p.tables.exec = Jvm.exec) (hb : c.code = cc) {r : Option Nat} {off : Int} {tgt : Nat} (hdg : decode cc pc = .ok (.ifnull off, 3)) (ht : (pc : Int) + off = (tgt : Int)) (kt : r = none → W p l e R s m args below meth c H locs cells slots Q (F0 m tgt ls rest)) (kf : ¬ r = none → W p l e R s m args below meth c H locs cells slots Q (F0 m (pc + 3) ls rest)) : W p l e R s m args below meth c H locs cells slots Q (F0 m pc ls (va_rf r :: rest)) := by
  cases r with
  | none => exact lv_ifnullN hx hb hdg ht (kt rfl)
  | some x => exact lv_ifnull hx hb hdg (kf (by simp))
theorem mx_ifnonnull (hx : p.tables.exec = Jvm.exec) (hb : c.code = cc) {r : Option Nat} {off : Int} {tgt : Nat} (hdg : decode cc pc = .ok (.ifnonnull off, 3)) (ht : (pc : Int) + off = (tgt : Int)) (kt : ¬ r = none → W p l e R s m args below meth c H locs cells slots Q (F0 m tgt ls rest)) (kf : r = none → W p l e R s m args below meth c H locs cells slots Q (F0 m (pc + 3) ls rest)) : W p l e R s m args below meth c H locs cells slots Q (F0 m pc ls (va_rf r :: rest)) := by
  cases r with
  | none => exact lv_ifnonnullN hx hb hdg (kf rfl)
  | some x => exact lv_ifnonnull hx hb hdg ht (kt (by simp))
theorem mx_aload_nQ (hx : p.tables.exec = Jvm.exec) (hb : c.code = cc) {k : Fin 4} {i : Nat} {r : Option Nat} (hdg : decode cc pc = .ok (.aload_n k, 1)) (hi : (k : Nat) = i) (hl : ls[i]? = some (.val (va_rf r))) (kk : W p l e R s m args below meth c H locs cells slots Q (F0 m (pc + 1) ls (va_rf r :: rest))) : W p l e R s m args below meth c H locs cells slots Q (F0 m pc ls rest) := by
  cases r with
  | none => exact lv_aload_nN hx hb hdg hi hl kk
  | some x => exact lv_aload_n hx hb hdg hi hl kk
theorem mx_aloadQ (hx : p.tables.exec = Jvm.exec) (hb : c.code = cc) {i : Nat} {r : Option Nat} (hdg : decode cc pc = .ok (.aload i, 2)) (hl : ls[i]? = some (.val (va_rf r))) (kk : W p l e R s m args below meth c H locs cells slots Q (F0 m (pc + 2) ls (va_rf r :: rest))) : W p l e R s m args below meth c H locs cells slots Q (F0 m pc ls rest) := by
  cases r with
  | none => exact lv_aloadN hx hb hdg hl kk
  | some x => exact lv_aload hx hb hdg hl kk
theorem mx_astore_nQ (hx : p.tables.exec = Jvm.exec) (hb : c.code = cc) {k : Fin 4} {i nL : Nat} {r : Option Nat} {lv lv' : List (Nat × Value)} (hdg : decode cc pc = .ok (.astore_n k, 1)) (hi : (k : Nat) = i) (h : lv_has ls nL lv) (hn : i < nL) (hl : (i, va_rf r) :: lv.filter (fun q => !(q.1 == i) && !(q.1 + 1 == i && q.2.category == 2)) = lv') (kk : ∀ ls' : Array Slot, lv_has ls' nL lv' → W p l e R s m args below meth c H locs cells slots Q (F0 m (pc + 1) ls' rest)) : W p l e R s m args below meth c H locs cells slots Q (F0 m pc ls (va_rf r :: rest)) := by
  cases r with
  | none => exact lv_astore_nN hx hb hdg hi h hn hl kk
  | some x => exact lv_astore_n hx hb hdg hi h hn hl kk
theorem mx_astoreQ (hx : p.tables.exec = Jvm.exec) (hb : c.code = cc) {i nL : Nat} {r : Option Nat} {lv lv' : List (Nat × Value)} (hdg : decode cc pc = .ok (.astore i, 2)) (h : lv_has ls nL lv) (hn : i < nL) (hl : (i, va_rf r) :: lv.filter (fun q => !(q.1 == i) && !(q.1 + 1 == i && q.2.category == 2)) = lv') (kk : ∀ ls' : Array Slot, lv_has ls' nL lv' → W p l e R s m args below meth c H locs cells slots Q (F0 m (pc + 2) ls' rest)) : W p l e R s m args below meth c H locs cells slots Q (F0 m pc ls (va_rf r :: rest)) := by
  cases r with
  | none => exact lv_astoreN hx hb hdg h hn hl kk
  | some x => exact lv_astore hx hb hdg h hn hl kk
end MXN
