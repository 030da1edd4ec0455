set_option maxRecDepth 100000
/-! ROW: the rows of a station's world; calls on pumps; contracts over a kind of worlds -/
theorem Met_ex {l : Launch} {y : MethodName} {ws : List Cond} {rm : Room} {as : List Value} {G : mg} {A : Nat → Prop} {A' : Addr → Prop} {C : mh → Prop} {mc ms : Nat} {Q : mh → Array Value → State → Outcome → State → Prop} {Q' : Array Value → State → Outcome → State → Prop}
    (h : ∀ M1, C M1 → Met l y ws rm (va_Pc as (mU G A (fun M => M = M1))) (Q M1) mc ms A') (hq : ∀ M1, C M1 → ∀ a st o t, Q M1 a st o t → Q' a st o t) : Met l y ws rm (va_Pc as (mU G A C)) Q' mc ms A' := by
  intro p e ha hf hc s m args below hs hap hP hk
  obtain ⟨h0, hA, hK, hKc, M, hC, hM, hd⟩ := hP
  obtain ⟨n, o, a, b, c, d, L⟩ := h M hC p e ha hf hc s m args below hs hap ⟨h0, hA, hK, hKc, M, rfl, hM, hd⟩ hk
  exact ⟨n, o, a, b, c, hq M hC _ _ _ _ d, L⟩
theorem mQi_imp {G : mg} {A : Nat → Prop} {P P' : Int32 → mh → Prop} (h : ∀ r M, P r M → P' r M) {a : Array Value} {st : State} {o : Outcome} {t : State} (hq : mQi G A P a st o t) : mQi G A P' a st o t := by
  obtain ⟨⟨r, u, h1, h2, h3⟩, h4⟩ := hq
  exact ⟨⟨r, u, h1, h _ _ h2, h3⟩, h4⟩
theorem mQq_imp {G : mg} {A : Nat → Prop} {P P' : Option Nat → mh → Prop} (h : ∀ r M, P r M → P' r M) {a : Array Value} {st : State} {o : Outcome} {t : State} (hq : mQq G A P a st o t) : mQq G A P' a st o t := by
  obtain ⟨⟨r, u, h1, h2, h3⟩, h4⟩ := hq
  exact ⟨⟨r, u, h1, h _ _ h2, h3⟩, h4⟩
theorem mQv_imp {G : mg} {A : Nat → Prop} {P P' : mh → Prop} (h : ∀ M, P M → P' M) {a : Array Value} {st : State} {o : Outcome} {t : State} (hq : mQv G A P a st o t) : mQv G A P' a st o t := by
  obtain ⟨⟨u, h1, h2, h3⟩, h4⟩ := hq
  exact ⟨⟨u, h1, h _ h2, h3⟩, h4⟩
theorem lw_U {own : String} {idx : Nat} {C owner : String} {x y : MethodName} {b : ByteArray} {L : Nat} {r : Option FieldType} (h1 : Cond.methodLink own idx x ∈ lw_all) (h2 : Cond.sameMethod x.cls owner x.name x.desc ∈ lw_all) (h3 : Cond.selects C x y ∈ lw_all) (h4 : Cond.instanceMethod y ∈ lw_all) (h5 : Cond.initialized y.cls ∈ lw_all) (h6 : Cond.code y b L r ∈ lw_all) : GoodIn lw_all (va_wsU own idx C owner x y (ws_ y b L r)) :=
  lw_app (fun w h => by
    simp only [List.mem_cons, List.not_mem_nil, or_false] at h
    rcases h with rfl | rfl | rfl | rfl | rfl <;> assumption) (lw_meth h6)
theorem lw_F {own : String} {idx : Nat} {C : String} {x y : MethodName} {b : ByteArray} {L : Nat} {r : Option FieldType} (h1 : Cond.methodLink own idx x ∈ lw_all) (h3 : Cond.selects C x y ∈ lw_all) (h4 : Cond.instanceMethod y ∈ lw_all) (h5 : Cond.initialized y.cls ∈ lw_all) (h6 : Cond.code y b L r ∈ lw_all) : GoodIn lw_all (va_wsF own idx C x y (ws_ y b L r)) :=
  lw_app (fun w h => by
    simp only [List.mem_cons, List.not_mem_nil, or_false] at h
    rcases h with rfl | rfl | rfl | rfl <;> assumption) (lw_meth h6)
theorem bI_or (a b : Bool) : bI a ||| bI b = bI (a || b) := by cases a <;> cases b <;> rfl
theorem nN_of {x : Int32} {q : Nat} (h : x = nI q) (hq : q < 2 ^ 31) : x = nI (tN x) := by rw [h, tN_nI hq]
theorem bI_f (b : Bool) : fits .boolean (.int (bI b)) = true := by cases b <;> rfl
theorem bI_v (b : Bool) : vp_nar .boolean (bI b) = bI b := by cases b <;> rfl
def isVar (f : Nat → Int32) (k : Nat) : Bool := !decide (f (39 + (8 * k)) = 0)
def isJo (f : Nat → Int32) (k : Nat) : Bool := decide (f (39 + (8 * k)) = 2)
theorem va_rf_cat (o : Option Nat) : (va_rf o).category = 1 := by cases o <;> rfl
theorem P_ref {o : Option Nat} {ad : Nat → Nat} (h : ¬ o = none) : va_rf (o.map fun k => ad (20 + k)) = .ref (ad (20 + o.getD 0)) := by
  cases o
  · exact absurd rfl h
  · rfl
theorem P_lt {o : Option Nat} {np : Nat} (hb : ∀ k, o = some k → k < np) (h : ¬ o = none) : o.getD 0 < np := by
  cases o
  · exact absurd rfl h
  · exact hb _ rfl
theorem stOwn (k : Nat) : "FieldPumps$Station" = (TX1 k).1 := by unfold TX1; split <;> rfl
theorem pmOwn (k : Nat) : "FieldPumps$Pump" = (TX8 k).1 := by unfold TX8; split <;> rfl
section ROW
variable {p : Program} {l : Launch} {e : Env} {R : Room} {s : State} {m : MethodId} {args : Array Value} {below : List Frame} {meth : Method} {c : Code} {H : Heap} {locs : List Loc} {cells slots : Nat} {Q : State → Prop}
variable {G : mg} {A : Nat → Prop} {M M0 : mh} {cc : ByteArray} {nL pc a : Nat} {ls : Array Slot} {rest : List Value} {own : String} {ad : Nat → Nat} {np ng : Nat} {f : Nat → Int32}
theorem Sta.cnp (h : Sta G ad np ng M0 M f) : nC f 14 = np := nC_of h.f14 (by have := h.n6; omega)
theorem Sta.cng (h : Sta G ad np ng M0 M f) : nC f 16 = ng := nC_of h.f16 (by have := h.g8; omega)
/-- the abstract heap gets a name again -/
theorem st_gen {M1 : mh} {f1 : Nat → Int32} {g : JFrame} (w : mW G A s M1 H locs) (hM : Sta G ad np ng M0 M1 f1) (kk : ∀ M : mh, mW G A s M H locs → Sta G ad np ng M0 M f1 → W p l e R s m args below meth c H locs cells slots Q g) : W p l e R s m args below meth c H locs cells slots Q g := kk M1 w hM
theorem mx_ifnullP (hx : p.tables.exec = Jvm.exec) (hb : c.code = cc) {o : Option Nat} {h : Nat → Nat} {off : Int} {tgt : Nat} (hdg : decode cc pc = .ok (.ifnull off, 3)) (ht : (pc : Int) + off = (tgt : Int)) (kt : o = none → W p l e R s m args below meth c H locs cells slots Q (F0 m tgt ls rest)) (kf : ¬ o = none → W p l e R s m args below meth c H locs cells slots Q (F0 m (pc + 3) ls rest)) : W p l e R s m args below meth c H locs cells slots Q (F0 m pc ls (va_rf (o.map h) :: rest)) := by
  cases o with
  | none => exact lv_ifnullN hx hb hdg ht (kt rfl)
  | some x => exact lv_ifnull hx hb hdg (kf (by simp))
theorem mx_ifnonnullP (hx : p.tables.exec = Jvm.exec) (hb : c.code = cc) {o : Option Nat} {h : Nat → Nat} {off : Int} {tgt : Nat} (hdg : decode cc pc = .ok (.ifnonnull off, 3)) (ht : (pc : Int) + off = (tgt : Int)) (kt : ¬ o = none → W p l e R s m args below meth c H locs cells slots Q (F0 m tgt ls rest)) (kf : o = none → W p l e R s m args below meth c H locs cells slots Q (F0 m (pc + 3) ls rest)) : W p l e R s m args below meth c H locs cells slots Q (F0 m pc ls (va_rf (o.map h) :: rest)) := by
  cases o with
  | none => exact lv_ifnonnullN hx hb hdg (kf rfl)
  | some x => exact lv_ifnonnull hx hb hdg ht (kt (by simp))
theorem mx_iald2 (X : CallFix p m c cc nL s args lw_all own) (w : mW G A s M H locs) {n : Nat} {g : Nat → Int32} (hM : M a = some (mIc (G.1.1 100) n g)) (j : Nat) (hj : j < n) (hn : n < 2 ^ 31) {x : Int32} (hx : g j = x) (hdg : decode cc pc = .ok (.iaload, 1))
    (kk : W p l e R s m args below meth c H locs cells slots Q (F0 m (pc + 1) ls (.int x :: rest))) : W p l e R s m args below meth c H locs cells slots Q (F0 m pc ls (.int (nI j) :: .ref a :: rest)) :=
  mx_iald X w hM j hj hn hdg (by rw [hx]; exact kk)
theorem mx_zald2 (X : CallFix p m c cc nL s args lw_all own) (w : mW G A s M H locs) {n : Nat} {g : Nat → Int32} (hM : M a = some (mIc (G.1.1 101) n g)) (j : Nat) (hj : j < n) (hn : n < 2 ^ 31) {x : Int32} (hx : g j = x) (hdg : decode cc pc = .ok (.baload, 1))
    (kk : W p l e R s m args below meth c H locs cells slots Q (F0 m (pc + 1) ls (.int x :: rest))) : W p l e R s m args below meth c H locs cells slots Q (F0 m pc ls (.int (nI j) :: .ref a :: rest)) :=
  mx_zald X w hM j hj hn hdg (by rw [hx]; exact kk)
theorem st_put (X : CallFix p m c cc nL s args lw_all own) (w : mW G A s M H locs) (hM : Sta G ad np ng M0 M f) {index : Nat} {x : Int32} (k q : Nat) (hlink : Cond.fieldLink own index "FieldPumps$Station" (TX1 k).2.1 (TX1 k).2.2.1 ∈ lw_all) (hk : (decide (k < 30) && !(TX1 k).2.2.2) = true) (hn : narrow (tyX1 k) (.int x) = .int x) (hfit : fits (tyX1 k) (.int x) = true) (hset : (stF ad f).set k (.int x) = stF ad (upd f q x)) (ho : stO q = 0) (hp : stOk q) (hdg : decode cc pc = .ok (.putfield index, 3))
    (kk : ∀ (M1 : mh) (H1 : Heap) (locs1 : List Loc), mW G A s M1 H1 locs1 → Sta G ad np ng M0 M1 (upd f q x) → W p l e R s m args below meth c H1 locs1 cells slots Q (F0 m (pc + 3) ls rest)) : W p l e R s m args below meth c H locs cells slots Q (F0 m pc ls (.int x :: .ref (ad 0) :: rest)) := by
  simp only [Bool.and_eq_true, decide_eq_true_eq, Bool.not_eq_true'] at hk
  refine mx_put X w in_X1 tyX1 tyX1_ok nmX1 (ci := 1) rfl k hk.1 hlink (fun y hy => by rw [show "FieldPumps$Station" = (TX1 k).1 from stOwn k]; exact hy) hk.2 hn hfit hM.st (show k < 30 from hk.1) hdg fun H1 locs1 w1 => kk _ H1 locs1 w1 (hM.put (by decide) (by decide) (by decide) (by decide) ho hp fun nn b9 bx => ?_)
  rw [hset]
  rfl
theorem st_putN (X : CallFix p m c cc nL s args lw_all own) (w : mW G A s M H locs) (hM : Sta G ad np ng M0 M f) {index : Nat} {x : Int32} {host : String} (k q : Nat) (hlink : (Cond.fieldLinkNest own index "FieldPumps$Station" (TX1 k).2.1 (TX1 k).2.2.1 host).before args s = true) (hk : (decide (k < 30) && !(TX1 k).2.2.2) = true) (hn : narrow (tyX1 k) (.int x) = .int x) (hfit : fits (tyX1 k) (.int x) = true) (hset : (stF ad f).set k (.int x) = stF ad (upd f q x)) (ho : stO q = 0) (hp : stOk q) (hdg : decode cc pc = .ok (.putfield index, 3))
    (kk : ∀ (M1 : mh) (H1 : Heap) (locs1 : List Loc), mW G A s M1 H1 locs1 → Sta G ad np ng M0 M1 (upd f q x) → W p l e R s m args below meth c H1 locs1 cells slots Q (F0 m (pc + 3) ls rest)) : W p l e R s m args below meth c H locs cells slots Q (F0 m pc ls (.int x :: .ref (ad 0) :: rest)) := by
  simp only [Bool.and_eq_true, decide_eq_true_eq, Bool.not_eq_true'] at hk
  refine mx_putN X w in_X1 tyX1 tyX1_ok nmX1 (ci := 1) rfl k hk.1 hlink (fun y hy => by rw [show "FieldPumps$Station" = (TX1 k).1 from stOwn k]; exact hy) hk.2 hn hfit hM.st (show k < 30 from hk.1) hdg fun H1 locs1 w1 => kk _ H1 locs1 w1 (hM.put (by decide) (by decide) (by decide) (by decide) ho hp fun nn b9 bx => ?_)
  rw [hset]
  rfl
theorem st_putq (X : CallFix p m c cc nL s args lw_all own) (w : mW G A s M H locs) (hM : Sta G ad np ng M0 M f) {index : Nat} {x : Int32} (k q : Nat) (hlink : Cond.fieldLink own index "java/util/PriorityQueue" (TJ5 k).2.1 (TJ5 k).2.2.1 ∈ lw_all) (hk : (decide (k < 4) && !(TJ5 k).2.2.2 && decide ((TJ5 k).1 = "java/util/PriorityQueue")) = true) (hty : tyJ5 k = .int) (hset : ([.ref (ad 18), .int (f 176), .ref (ad 19), .int (f 175)] : List Value).set k (.int x) = [.ref (ad 18), .int (upd f q x 176), .ref (ad 19), .int (upd f q x 175)]) (ho : stO q = 17) (hp : stOk q) (hdg : decode cc pc = .ok (.putfield index, 3))
    (kk : ∀ (M1 : mh) (H1 : Heap) (locs1 : List Loc), mW G A s M1 H1 locs1 → Sta G ad np ng M0 M1 (upd f q x) → W p l e R s m args below meth c H1 locs1 cells slots Q (F0 m (pc + 3) ls rest)) : W p l e R s m args below meth c H locs cells slots Q (F0 m pc ls (.int x :: .ref (ad 17) :: rest)) := by
  simp only [Bool.and_eq_true, decide_eq_true_eq, Bool.not_eq_true'] at hk
  refine mx_put X w in_J5 tyJ5 tyJ5_ok nmJ5 (ci := 10) rfl k hk.1.1 hlink (fun y hy => by rw [← hk.2]; exact hy) hk.1.2 (by rw [hty]; rfl) (by rw [hty]; rfl) hM.q17 (show k < 4 from hk.1.1) hdg fun H1 locs1 w1 => kk _ H1 locs1 w1 (hM.put (by decide) (by decide) (by decide) (by decide) ho hp fun nn b9 bx => ?_)
  rw [hset]
  rfl
/-- a pump's kind, by cases -/
theorem Sta.pmK (hM : Sta G ad np ng M0 M f) {k : Nat} (hk : k < np) : (M (ad (20 + k)) = some (.inr (4, pmF f k)) ∧ f (39 + (8 * k)) = 0) ∨ (M (ad (20 + k)) = some (.inr (5, pmF f k)) ∧ f (39 + (8 * k)) = 1) ∨ (M (ad (20 + k)) = some (.inr (6, pmF f k)) ∧ f (39 + (8 * k)) = 2) := by
  obtain ⟨h, h2⟩ := hM.pm hk
  have h3 := (rg_n (hM.kd hk) (by decide)).1
  obtain e | e | e : tN (f (39 + (8 * k))) = 0 ∨ tN (f (39 + (8 * k))) = 1 ∨ tN (f (39 + (8 * k))) = 2 := by omega
  · rw [e] at h h3
    exact Or.inl ⟨h, h3⟩
  · rw [e] at h h3
    exact Or.inr (Or.inl ⟨h, h3⟩)
  · rw [e] at h h3
    exact Or.inr (Or.inr ⟨h, h3⟩)
theorem st_getP (X : CallFix p m c cc nL s args lw_all own) (w : mW G A s M H locs) (hM : Sta G ad np ng M0 M f) {index k : Nat} (hk : k < np) (j : Nat) (hj : j < 8) (hlink : Cond.fieldLink own index "FieldPumps$Pump" (TX8 j).2.1 (TX8 j).2.2.1 ∈ lw_all) {v : Value} (hv : (pmF f k)[j]? = some v) (hdg : decode cc pc = .ok (.getfield index, 3))
    (kk : W p l e R s m args below meth c H locs cells slots Q (F0 m (pc + 3) ls (v :: rest))) : W p l e R s m args below meth c H locs cells slots Q (F0 m pc ls (.ref (ad (20 + k)) :: rest)) := by
  rcases hM.pmK hk with h | h | h
  · exact mx_get X w in_X8 (ci := 4) rfl j hj hlink (fun y hy => by rw [show "FieldPumps$Pump" = (TX8 j).1 from pmOwn j]; exact hy) h.1 hv hdg kk
  · exact mx_get (T := TX6) X w in_X6 (ci := 5) rfl j hj hlink (fun y hy => by rw [show "FieldPumps$Pump" = (TX8 j).1 from pmOwn j]; exact hy) h.1 hv hdg kk
  · exact mx_get (T := TX7) X w in_X7 (ci := 6) rfl j hj hlink (fun y hy => by rw [show "FieldPumps$Pump" = (TX8 j).1 from pmOwn j]; exact hy) h.1 hv hdg kk
theorem st_getPN (X : CallFix p m c cc nL s args lw_all own) (w : mW G A s M H locs) (hM : Sta G ad np ng M0 M f) {index k : Nat} {host : String} (hk : k < np) (j : Nat) (hj : j < 8) (hq : Cond.fieldLinkNest own index "FieldPumps$Pump" (TX8 j).2.1 (TX8 j).2.2.1 host ∈ lw_tbl) {v : Value} (hv : (pmF f k)[j]? = some v) (hdg : decode cc pc = .ok (.getfield index, 3))
    (kk : W p l e R s m args below meth c H locs cells slots Q (F0 m (pc + 3) ls (v :: rest))) : W p l e R s m args below meth c H locs cells slots Q (F0 m pc ls (.ref (ad (20 + k)) :: rest)) := by
  have hlink : (Cond.fieldLinkNest own index "FieldPumps$Pump" (TX8 j).2.1 (TX8 j).2.2.1 host).before args s = true := w.tblB hq rfl rfl
  rcases hM.pmK hk with h | h | h
  · exact mx_getN X w in_X8 (ci := 4) rfl j hj hlink (fun y hy => by rw [show "FieldPumps$Pump" = (TX8 j).1 from pmOwn j]; exact hy) h.1 hv hdg kk
  · exact mx_getN (T := TX6) X w in_X6 (ci := 5) rfl j hj hlink (fun y hy => by rw [show "FieldPumps$Pump" = (TX8 j).1 from pmOwn j]; exact hy) h.1 hv hdg kk
  · exact mx_getN (T := TX7) X w in_X7 (ci := 6) rfl j hj hlink (fun y hy => by rw [show "FieldPumps$Pump" = (TX8 j).1 from pmOwn j]; exact hy) h.1 hv hdg kk
theorem st_putP (X : CallFix p m c cc nL s args lw_all own) (w : mW G A s M H locs) (hM : Sta G ad np ng M0 M f) {index k : Nat} {x y : Int32} (hk : k < np) (j : Nat) (hj : (decide (j < 8) && decide (3 ≤ j) && !(TX8 j).2.2.2) = true) (hlink : Cond.fieldLink own index "FieldPumps$Pump" (TX8 j).2.1 (TX8 j).2.2.1 ∈ lw_all) (hn : narrow (tyX8 j) (.int y) = .int y) (hfit : fits (tyX8 j) (.int y) = true) (hset : (pmF f k).set j (.int y) = pmF (upd f (39 + (8 * k) + j) x) k) (hdg : decode cc pc = .ok (.putfield index, 3))
    (kk : ∀ (M1 : mh) (H1 : Heap) (locs1 : List Loc), mW G A s M1 H1 locs1 → Sta G ad np ng M0 M1 (upd f (39 + (8 * k) + j) x) → W p l e R s m args below meth c H1 locs1 cells slots Q (F0 m (pc + 3) ls rest)) : W p l e R s m args below meth c H locs cells slots Q (F0 m pc ls (.int y :: .ref (ad (20 + k)) :: rest)) := by
  simp only [Bool.and_eq_true, decide_eq_true_eq, Bool.not_eq_true'] at hj
  have key := fun fs (hf : fs = pmF (upd f (39 + (8 * k) + j) x) k) => hM.setP hk hj.1.2 hj.1.1 hf
  rcases hM.pmK hk with h | h | h
  · rw [h.2] at key
    exact mx_put X w in_X8 tyX8 tyX8_ok nmX8 (ci := 4) rfl j hj.1.1 hlink (fun y hy => by rw [show "FieldPumps$Pump" = (TX8 j).1 from pmOwn j]; exact hy) hj.2 hn hfit h.1 (show j < 8 from hj.1.1) hdg fun H1 locs1 w1 => kk _ H1 locs1 w1 (key _ hset)
  · rw [h.2] at key
    exact mx_put (T := TX6) X w in_X6 tyX6 tyX6_ok nmX6 (ci := 5) rfl j hj.1.1 hlink (fun y hy => by rw [show "FieldPumps$Pump" = (TX8 j).1 from pmOwn j]; exact hy) hj.2 hn hfit h.1 (show j < 8 from hj.1.1) hdg fun H1 locs1 w1 => kk _ H1 locs1 w1 (key _ hset)
  · rw [h.2] at key
    exact mx_put (T := TX7) X w in_X7 tyX7 tyX7_ok nmX7 (ci := 6) rfl j hj.1.1 hlink (fun y hy => by rw [show "FieldPumps$Pump" = (TX8 j).1 from pmOwn j]; exact hy) hj.2 hn hfit h.1 (show j < 8 from hj.1.1) hdg fun H1 locs1 w1 => kk _ H1 locs1 w1 (key _ hset)
theorem st_putPN (X : CallFix p m c cc nL s args lw_all own) (w : mW G A s M H locs) (hM : Sta G ad np ng M0 M f) {index k : Nat} {x y : Int32} {host : String} (hk : k < np) (j : Nat) (hj : (decide (j < 8) && decide (3 ≤ j) && !(TX8 j).2.2.2) = true) (hq : Cond.fieldLinkNest own index "FieldPumps$Pump" (TX8 j).2.1 (TX8 j).2.2.1 host ∈ lw_tbl) (hn : narrow (tyX8 j) (.int y) = .int y) (hfit : fits (tyX8 j) (.int y) = true) (hset : (pmF f k).set j (.int y) = pmF (upd f (39 + (8 * k) + j) x) k) (hdg : decode cc pc = .ok (.putfield index, 3))
    (kk : ∀ (M1 : mh) (H1 : Heap) (locs1 : List Loc), mW G A s M1 H1 locs1 → Sta G ad np ng M0 M1 (upd f (39 + (8 * k) + j) x) → W p l e R s m args below meth c H1 locs1 cells slots Q (F0 m (pc + 3) ls rest)) : W p l e R s m args below meth c H locs cells slots Q (F0 m pc ls (.int y :: .ref (ad (20 + k)) :: rest)) := by
  have hlink : (Cond.fieldLinkNest own index "FieldPumps$Pump" (TX8 j).2.1 (TX8 j).2.2.1 host).before args s = true := w.tblB hq rfl rfl
  simp only [Bool.and_eq_true, decide_eq_true_eq, Bool.not_eq_true'] at hj
  have key := fun fs (hf : fs = pmF (upd f (39 + (8 * k) + j) x) k) => hM.setP hk hj.1.2 hj.1.1 hf
  rcases hM.pmK hk with h | h | h
  · rw [h.2] at key
    exact mx_putN X w in_X8 tyX8 tyX8_ok nmX8 (ci := 4) rfl j hj.1.1 hlink (fun y hy => by rw [show "FieldPumps$Pump" = (TX8 j).1 from pmOwn j]; exact hy) hj.2 hn hfit h.1 (show j < 8 from hj.1.1) hdg fun H1 locs1 w1 => kk _ H1 locs1 w1 (key _ hset)
  · rw [h.2] at key
    exact mx_putN (T := TX6) X w in_X6 tyX6 tyX6_ok nmX6 (ci := 5) rfl j hj.1.1 hlink (fun y hy => by rw [show "FieldPumps$Pump" = (TX8 j).1 from pmOwn j]; exact hy) hj.2 hn hfit h.1 (show j < 8 from hj.1.1) hdg fun H1 locs1 w1 => kk _ H1 locs1 w1 (key _ hset)
  · rw [h.2] at key
    exact mx_putN (T := TX7) X w in_X7 tyX7 tyX7_ok nmX7 (ci := 6) rfl j hj.1.1 hlink (fun y hy => by rw [show "FieldPumps$Pump" = (TX8 j).1 from pmOwn j]; exact hy) hj.2 hn hfit h.1 (show j < 8 from hj.1.1) hdg fun H1 locs1 w1 => kk _ H1 locs1 w1 (key _ hset)
theorem st_castP (X : CallFix p m c cc nL s args lw_all own) (w : mW G A s M H locs) (hM : Sta G ad np ng M0 M f) {index k : Nat} (hk : k < np) (hlink : Cond.classLink own index "FieldPumps$Pump" ∈ lw_all) (hdg : decode cc pc = .ok (.checkcast index, 3))
    (kk : W p l e R s m args below meth c H locs cells slots Q (F0 m (pc + 3) ls (.ref (ad (20 + k)) :: rest))) : W p l e R s m args below meth c H locs cells slots Q (F0 m pc ls (.ref (ad (20 + k)) :: rest)) := by
  rcases hM.pmK hk with h | h | h
  · exact mx_castU X w hlink (ci := 4) rfl q2411 h.1 hdg kk
  · exact mx_castU X w hlink (ci := 5) rfl q2413 h.1 hdg kk
  · exact mx_castU X w hlink (ci := 6) rfl q2412 h.1 hdg kk
theorem st_instV (X : CallFix p m c cc nL s args lw_all own) (w : mW G A s M H locs) (hM : Sta G ad np ng M0 M f) {index k : Nat} (hk : k < np) (hlink : Cond.classLink own index "FieldPumps$Variable" ∈ lw_all) (hdg : decode cc pc = .ok (.instanceof index, 3))
    (kk : W p l e R s m args below meth c H locs cells slots Q (F0 m (pc + 3) ls (.int (bI (isVar f k)) :: rest))) : W p l e R s m args below meth c H locs cells slots Q (F0 m pc ls (.ref (ad (20 + k)) :: rest)) := by
  unfold isVar at kk
  rcases hM.pmK hk with h | h | h
  · rw [h.2] at kk
    exact mx_instN X w hlink (C := "FieldPumps$Fixed") (ci := 4) rfl (by simp [kcNo]) h.1 hdg kk
  · rw [h.2] at kk
    exact mx_instS X w hlink (ci := 5) rfl h.1 hdg kk
  · rw [h.2] at kk
    exact mx_instU X w hlink (ci := 6) rfl q2414 h.1 hdg kk
theorem st_instJ (X : CallFix p m c cc nL s args lw_all own) (w : mW G A s M H locs) (hM : Sta G ad np ng M0 M f) {index k : Nat} (hk : k < np) (hlink : Cond.classLink own index "FieldPumps$Jockey" ∈ lw_all) (hdg : decode cc pc = .ok (.instanceof index, 3))
    (kk : W p l e R s m args below meth c H locs cells slots Q (F0 m (pc + 3) ls (.int (bI (isJo f k)) :: rest))) : W p l e R s m args below meth c H locs cells slots Q (F0 m pc ls (.ref (ad (20 + k)) :: rest)) := by
  unfold isJo at kk
  rcases hM.pmK hk with h | h | h
  · rw [h.2] at kk
    exact mx_instN X w hlink (C := "FieldPumps$Fixed") (ci := 4) rfl (by simp [kcNo]) h.1 hdg kk
  · rw [h.2] at kk
    exact mx_instN X w hlink (C := "FieldPumps$Variable") (ci := 5) rfl (by simp [kcNo]) h.1 hdg kk
  · rw [h.2] at kk
    exact mx_instS X w hlink (ci := 6) rfl h.1 hdg kk
/-- a call of a pump's method that its kinds inherit -/
theorem st_callP {y : MethodName} {bytes : ByteArray} {maxL mc ms n index k : Nat} {ret : Option FieldType} {ws : List Cond} {rm : Room} {As : List Value} {P : mh → Prop} {Qc : Array Value → State → Outcome → State → Prop} {free : Addr → Prop} {owner : String} {x : MethodName} {g : JFrame}
    (X : CallFix p m c cc nL s args lw_all own) (w : mW G A s M H locs) (hM : Sta G ad np ng M0 M f) (hk : k < np) (hMet : Met l y ws rm (va_Pc (.ref (ad (20 + k)) :: As) (mU G A P)) Qc mc ms free)
    (c1 : va_CU R s args own "FieldPumps$Fixed" owner index x y bytes maxL ret ws rm mc ms n) (c2 : va_CU R s args own "FieldPumps$Variable" owner index x y bytes maxL ret ws rm mc ms n) (c3 : va_CU R s args own "FieldPumps$Jockey" owner index x y bytes maxL ret ws rm mc ms n) (hP : P M)
    (hg : g.method = m) (hn : As.length = n) (hsize : g.locals.size = nL) (hstack : g.stack = As.reverse ++ .ref (ad (20 + k)) :: rest) (hW : 2 * g.monitorRoom + (rest.map fun v => v.category).sum ≤ 8) (hdg : decode cc g.pc = .ok (.invokevirtual index, 3)) (hf : cells + mc ≤ R.cells ∧ slots + ms ≤ R.slots) :
    va_Run p l e R s m args below meth c H locs cells slots mc ms g rest (Qc (Value.ref (ad (20 + k)) :: As).toArray) free := by
  rcases hM.pmK hk with h | h | h
  · exact va_runU X hMet c1 (mx_preV w hP h.1 rfl) hg hn hsize hstack hW hdg hf
  · exact va_runU X hMet c2 (mx_preV w hP h.1 rfl) hg hn hsize hstack hW hdg hf
  · exact va_runU X hMet c3 (mx_preV w hP h.1 rfl) hg hn hsize hstack hW hdg hf
end ROW
