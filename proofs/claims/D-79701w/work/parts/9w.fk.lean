set_option maxRecDepth 100000
/-! FP: what the component's own methods need -/
section FPL
variable {G : mg} {ad : Nat → Nat} {np ng n : Nat} {M0 M : mh} {f : Nat → Int32} {v : Nat → Nat → Int32} {T nz fo : Nat} {x : Int32} {e : va_E}
theorem Sta.foo (h : Sta G ad np ng M0 M f) (hf : M0 fo = some e) (hn : ∀ r, r < 32 → ad r ≠ fo) : M fo = some e := by
  obtain ⟨nn, b9, bx, h⟩ := h
  exact (h.2.2.2.2.2.2.1 fo (by rw [hf]; exact fun z => by cases z) hn).trans hf
theorem btw_in (a b d : Int64) : cf_isBetween a b d = mf_in a b d := rfl
theorem pred_lN (h : n ≤ 8) : (nI n - (1 : Int32)).toInt64 = (nI n).toInt64 - (1 : Int64) := by
  obtain rfl | rfl | rfl | rfl | rfl | rfl | rfl | rfl | rfl : n = 0 ∨ n = 1 ∨ n = 2 ∨ n = 3 ∨ n = 4 ∨ n = 5 ∨ n = 6 ∨ n = 7 ∨ n = 8 := by omega
  all_goals rfl
theorem isPump_eq (e : f 14 = nI n) (hn : n ≤ 6) (ev : v 1 14 = f 14) : cf_isPump f x = mf_isPump v x := by
  have en : nC f 14 = n := nC_of e (by omega)
  rw [cf_isPump, mf_isPump, btw_in, en, ev, e, pred_lN (by omega)]
theorem isZone_eq (e : f 15 = nI n) (hn : n ≤ 8) (ev : v 1 15 = f 15) : cf_isZone f x = mf_isZone v x := by
  rw [cf_isZone, mf_isZone, btw_in, ev, e, pred_lN (by omega)]
theorem isPumpC (h : Sta G ad np ng M0 M f) (c : cf_isPump f x = true) : x = nI (tN x) ∧ tN x < np :=
  isPump_n (v := fun _ => f) (n := np) h.f14 h.n6 (by rw [← isPump_eq (n := np) h.f14 h.n6 rfl]; exact c)
theorem isZoneC (h : SI T np nz ng f) (c : cf_isZone f x = true) : x = nI (tN x) ∧ tN x < nz := by
  have e : f 15 = nI nz := h.ip.enz
  exact isZone_n (v := fun _ => f) (n := nz) e h.ip.z8 (by rw [← isZone_eq (n := nz) e h.ip.z8 rfl]; exact c)
theorem SI.cvAt (h : SI T np nz ng f) {k : Nat} (hk : k < np) {s q : Int32} (h1 : cf_isBetween s.toInt64 (300 : Int64) (1000 : Int64) = true) (h2 : cf_isBetween q.toInt64 (0 : Int64) (2000 : Int64) = true) : CvOk (f (39 + (8 * k) + 1)) (f (39 + (8 * k) + 2)) s q := by
  have n6 := h.n6
  obtain ⟨a, b, d, d', e1, e2, e3, e4, e5, -⟩ := cv_all h.ip k hk
  obtain ⟨s1, -, s2⟩ := in_n (a := 300) (b := 1000) (by decide) h1
  obtain ⟨q1, -, q2⟩ := in_n (a := 0) (b := 2000) (by decide) h2
  exact ⟨a, b, tN s, tN q, e1, e2, e3, e4, e5, s1, s2, q1, q2⟩
theorem SI.evN (h : SI T np nz ng f) {i : Int32} (c1 : ¬ i < 0) (c2 : i < f 19) : i = nI (tN i) ∧ tN i < 12 := by
  obtain ⟨j, j1, j2⟩ := h.ne
  rw [j2] at c2
  obtain ⟨k1, k2⟩ := lt_n c1 c2 (by omega)
  exact ⟨k1, by omega⟩
end FPL
set_option maxHeartbeats 4000000 in
set_option maxRecDepth 100000 in
theorem jt_kindF (l : Launch) (G : mg) (A : Nat → Prop) (M1 : mh) (b : Nat) (nb : Int32) (sh : Int32) (st : Int32) (ou : Int32) (sp : Int32) (ru : Int32) (rn : Int32) (sa : Int32) (h_b : M1 b = some (.inr (4, [.int nb, .int sh, .int st, .int ou, .int sp, .int ru, .int rn, .int sa])))   : Met l yX8_kind (ws_ yX8_kind cX8_kind 1 (some .int)) ({ frames := 0, cells := 0, slots := 0, locals := 0 }) (va_Pc [.ref b] (mU G A (fun M => M = M1))) (mQi G A (fun r M => r = (0 : Int32) ∧ M = M1)) 0 0 A := by
  refine mx_ofi (by decide) (Nat.le_of_ble_eq_true rfl) ?_
  intro p e R s m av below meth c M H Q ls X hRf hRl hRc hRs hin eM w fin hl
  subst M
  have X : CallFix p m c cX8_kind 1 s av lw_all "FieldPumps$Fixed" := X
  have hx := X.1
  have hb := X.2.1
  have hl : lv_has ls 1 [(0, .ref b)] := hl
  have hRf : R.frames = 0 := hRf
  have hRl : R.locals = 0 := hRl
  have hRc : R.cells = 0 := hRc
  have hRs : R.slots = 0 := hRs
  generalize ([] : List Loc) = locs at w ⊢
  refine lv_iconst (v := (0 : Int32)) hx hb dX8_kind_0 (by decide) ?_
  exact fin (0 : Int32) _ H locs ls 1 dX8_kind_1 ⟨rfl, rfl⟩ w
set_option maxHeartbeats 4000000 in
set_option maxRecDepth 100000 in
theorem jt_kindV (l : Launch) (G : mg) (A : Nat → Prop) (M1 : mh) (b : Nat) (nb : Int32) (sh : Int32) (st : Int32) (ou : Int32) (sp : Int32) (ru : Int32) (rn : Int32) (sa : Int32) (h_b : M1 b = some (.inr (5, [.int nb, .int sh, .int st, .int ou, .int sp, .int ru, .int rn, .int sa])))   : Met l yX6_kind (ws_ yX6_kind cX6_kind 1 (some .int)) ({ frames := 0, cells := 0, slots := 0, locals := 0 }) (va_Pc [.ref b] (mU G A (fun M => M = M1))) (mQi G A (fun r M => r = (1 : Int32) ∧ M = M1)) 0 0 A := by
  refine mx_ofi (by decide) (Nat.le_of_ble_eq_true rfl) ?_
  intro p e R s m av below meth c M H Q ls X hRf hRl hRc hRs hin eM w fin hl
  subst M
  have X : CallFix p m c cX6_kind 1 s av lw_all "FieldPumps$Variable" := X
  have hx := X.1
  have hb := X.2.1
  have hl : lv_has ls 1 [(0, .ref b)] := hl
  have hRf : R.frames = 0 := hRf
  have hRl : R.locals = 0 := hRl
  have hRc : R.cells = 0 := hRc
  have hRs : R.slots = 0 := hRs
  generalize ([] : List Loc) = locs at w ⊢
  refine lv_iconst (v := (1 : Int32)) hx hb dX6_kind_0 (by decide) ?_
  exact fin (1 : Int32) _ H locs ls 1 dX6_kind_1 ⟨rfl, rfl⟩ w
set_option maxHeartbeats 4000000 in
set_option maxRecDepth 100000 in
theorem jt_kindVJ (l : Launch) (G : mg) (A : Nat → Prop) (M1 : mh) (b : Nat) (nb : Int32) (sh : Int32) (st : Int32) (ou : Int32) (sp : Int32) (ru : Int32) (rn : Int32) (sa : Int32) (h_b : M1 b = some (.inr (6, [.int nb, .int sh, .int st, .int ou, .int sp, .int ru, .int rn, .int sa])))   : Met l yX6_kind (ws_ yX6_kind cX6_kind 1 (some .int)) ({ frames := 0, cells := 0, slots := 0, locals := 0 }) (va_Pc [.ref b] (mU G A (fun M => M = M1))) (mQi G A (fun r M => r = (1 : Int32) ∧ M = M1)) 0 0 A := by
  refine mx_ofi (by decide) (Nat.le_of_ble_eq_true rfl) ?_
  intro p e R s m av below meth c M H Q ls X hRf hRl hRc hRs hin eM w fin hl
  subst M
  have X : CallFix p m c cX6_kind 1 s av lw_all "FieldPumps$Variable" := X
  have hx := X.1
  have hb := X.2.1
  have hl : lv_has ls 1 [(0, .ref b)] := hl
  have hRf : R.frames = 0 := hRf
  have hRl : R.locals = 0 := hRl
  have hRc : R.cells = 0 := hRc
  have hRs : R.slots = 0 := hRs
  generalize ([] : List Loc) = locs at w ⊢
  refine lv_iconst (v := (1 : Int32)) hx hb dX6_kind_0 (by decide) ?_
  exact fin (1 : Int32) _ H locs ls 1 dX6_kind_1 ⟨rfl, rfl⟩ w
set_option maxHeartbeats 4000000 in
set_option maxRecDepth 100000 in
theorem jt_kindJ (l : Launch) (G : mg) (A : Nat → Prop) (M1 : mh) (b : Nat) (nb : Int32) (sh : Int32) (st : Int32) (ou : Int32) (sp : Int32) (ru : Int32) (rn : Int32) (sa : Int32) (h_b : M1 b = some (.inr (6, [.int nb, .int sh, .int st, .int ou, .int sp, .int ru, .int rn, .int sa])))   : Met l yX7_kind (ws_ yX7_kind cX7_kind 1 (some .int)) ({ frames := 1, cells := 0, slots := 0, locals := 20 }) (va_Pc [.ref b] (mU G A (fun M => M = M1))) (mQi G A (fun r M => r = (2 : Int32) ∧ M = M1)) 0 0 A := by
  refine mx_ofi (by decide) (Nat.le_of_ble_eq_true rfl) ?_
  intro p e R s m av below meth c M H Q ls X hRf hRl hRc hRs hin eM w fin hl
  subst M
  have X : CallFix p m c cX7_kind 1 s av lw_all "FieldPumps$Jockey" := X
  have hx := X.1
  have hb := X.2.1
  have hl : lv_has ls 1 [(0, .ref b)] := hl
  have hRf : R.frames = 1 := hRf
  have hRl : R.locals = 20 := hRl
  have hRc : R.cells = 0 := hRc
  have hRs : R.slots = 0 := hRs
  generalize ([] : List Loc) = locs at w ⊢
  refine lv_aload_n hx hb dX7_kind_0 rfl (lv_at hl 0 rfl) ?_
  refine mx_bi w (va_runSU (As := []) (rest := []) (w.cls0 (ci := 6) rfl).choose_spec X (jt_kindVJ l G A M1 b nb sh st ou sp ru rn sa h_b ) (va_cwSU 0 X.2.2.2.2 (lw_SU q1562 q2396 q625 q1563 q116 q1564) rfl rfl rfl (by decide +kernel) ⟨by rw [hRf]; decide, by rw [hRl]; decide⟩) (mx_preV w rfl h_b rfl) rfl rfl hl.1 rfl (lv_room (Nat.le_of_ble_eq_true rfl)) dX7_kind_1 ⟨Nat.zero_le _, Nat.zero_le _⟩) (fun r M9 H locs hp w => ?_)
  obtain ⟨eR, eM⟩ := hp; subst M9; subst eR
  refine lv_iconst (v := (1 : Int32)) hx hb dX7_kind_4 (by decide) ?_
  refine lv_iadd hx hb dX7_kind_5 ?_
  refine mx_cast (z := (2 : Int32)) (by decide) ?_
  exact fin (2 : Int32) _ H locs ls 6 dX7_kind_6 ⟨rfl, rfl⟩ w
/-! FK: a pump's kind, by its class -/
section FK
variable {p : Program} {l : Launch} {e : Env} {R : Room} {s : State} {m : MethodId} {args : Array Value} {below : List Frame} {meth : Method} {c : Code} {H : Heap} {locs : List Loc} {cells slots pc nL a b : Nat} {ls : Array Slot} {rest : List Value} {Q : State → Prop} {cc : ByteArray} {own : String} {G : mg} {A : Nat → Prop} {M M0 : mh} {ad : Nat → Nat} {np ng : Nat} {f : Nat → Int32}
theorem mx_cwK (X : CallFix p m c cc nL s args lw_all own) (w : mW G A s M H locs) {C owner : String} {index maxL mc ms : Nat} {x y : MethodName} {bytes : ByteArray} {ret : Option FieldType} {rm : Room} (n : Nat) (hlink : Cond.methodLink own index x ∈ lw_all) (hsame : Cond.sameMethod x.cls owner x.name x.desc ∈ lw_all) (hdec : Cond.declares ⟨owner, x.name, x.desc⟩ ∈ lw_tbl) (hsel : Cond.selects C x y ∈ lw_all) (hinst : Cond.instanceMethod y ∈ lw_all) (hini : Cond.initialized y.cls ∈ lw_all) (hcode : Cond.code y bytes maxL ret ∈ lw_all) (hrc : rm.cells = mc) (hrs : rm.slots = ms)
    (hd : owner ≠ "java/lang/invoke/MethodHandle" ∧ owner ≠ "java/lang/invoke/VarHandle" ∧ (parseMethodDescriptor x.desc).map (fun d => d.parameters.length) = some n) (hR : rm.frames + 1 ≤ R.frames ∧ 8 + (maxL + 11) + rm.locals ≤ R.locals) : va_CU R s args own C owner index x y bytes maxL ret (ws_ y bytes maxL ret) rm mc ms n := by
  have hG := lw_meth hcode
  have hc : Cond.code y bytes maxL ret ∈ ws_ y bytes maxL ret := List.mem_cons_self
  refine ⟨⟨hrc, hrs, hR.1, hR.2, pay_in X.2.2.2.2 hG, hc⟩, X.2.2.2.2 _ hcode, X.2.2.2.2 _ hini, ⟨hd.1, hd.2.1⟩, fun sig h => ?_, X.2.2.2.2 _ hlink, X.2.2.2.2 _ hsame, va_Decl.abs (w.tbl hdec rfl), X.2.2.2.2 _ hsel, X.2.2.2.2 _ hinst⟩
  have h2 := hd.2.2
  rw [h] at h2
  exact (Option.some.inj h2).symm
set_option maxHeartbeats 4000000 in
theorem st_kind (X : CallFix p m c cc nL s args lw_all "FieldPumps") (w : mW G A s M H locs) (hM : Sta G ad np ng M0 M f) {k : Nat} (hk : k < np)
    (hfr : 1 + 1 ≤ R.frames) (hlo : 8 + (1 + 11) + 20 ≤ R.locals) (hls : ls.size = nL) (hW : (rest.map fun v => v.category).sum ≤ 8) (hc : cells ≤ R.cells) (hs : slots ≤ R.slots) (hdg : decode cc pc = .ok (.invokevirtual 148, 3))
    (kk : ∀ (H1 : Heap) (locs1 : List Loc), mW G A s M H1 locs1 → W p l e R s m args below meth c H1 locs1 cells slots Q (F0 m (pc + 3) ls (.int (f (39 + (8 * k))) :: rest))) :
    W p l e R s m args below meth c H locs cells slots Q (F0 m pc ls (.ref (ad (20 + k)) :: rest)) := by
  rcases hM.pmK hk with ⟨h, h2⟩ | ⟨h, h2⟩ | ⟨h, h2⟩
  · have h9 : M (ad (20 + k)) = some (.inr (4, [.int (nI k), .int (f (39 + (8 * k) + 1)), .int (f (39 + (8 * k) + 2)), .int (1 - f (39 + (8 * k) + 3)), .int (f (39 + (8 * k) + 4)), .int (f (39 + (8 * k) + 5)), .int (f (39 + (8 * k) + 6)), .int (f (39 + (8 * k) + 7))])) := h
    refine mx_bi w (va_runU (As := []) (rest := rest) X (jt_kindF l G A M (ad (20 + k)) _ _ _ _ _ _ _ _ h9) (mx_cwK X w (C := "FieldPumps$Fixed") (owner := "FieldPumps$Pump") 0 q1553 q1555 q1554 q1556 q1557 q118 q1558 rfl rfl (by decide +kernel) ⟨Nat.le_trans (by decide) hfr, Nat.le_trans (by decide) hlo⟩) (mx_preV w rfl h9 rfl) rfl rfl hls rfl (by show 2 * 0 + (rest.map fun v => v.category).sum ≤ 8; omega) hdg ⟨hc, hs⟩) (fun r M9 H9 locs9 hp w9 => ?_)
    obtain ⟨eR, eM⟩ := hp
    rw [eM] at w9
    rw [show r = f (39 + (8 * k)) from eR.trans h2.symm]
    exact kk _ _ w9
  · have h9 : M (ad (20 + k)) = some (.inr (5, [.int (nI k), .int (f (39 + (8 * k) + 1)), .int (f (39 + (8 * k) + 2)), .int (1 - f (39 + (8 * k) + 3)), .int (f (39 + (8 * k) + 4)), .int (f (39 + (8 * k) + 5)), .int (f (39 + (8 * k) + 6)), .int (f (39 + (8 * k) + 7))])) := h
    refine mx_bi w (va_runU (As := []) (rest := rest) X (jt_kindV l G A M (ad (20 + k)) _ _ _ _ _ _ _ _ h9) (mx_cwK X w (C := "FieldPumps$Variable") (owner := "FieldPumps$Pump") 0 q1553 q1555 q1554 q1565 q1563 q116 q1564 rfl rfl (by decide +kernel) ⟨Nat.le_trans (by decide) hfr, Nat.le_trans (by decide) hlo⟩) (mx_preV w rfl h9 rfl) rfl rfl hls rfl (by show 2 * 0 + (rest.map fun v => v.category).sum ≤ 8; omega) hdg ⟨hc, hs⟩) (fun r M9 H9 locs9 hp w9 => ?_)
    obtain ⟨eR, eM⟩ := hp
    rw [eM] at w9
    rw [show r = f (39 + (8 * k)) from eR.trans h2.symm]
    exact kk _ _ w9
  · have h9 : M (ad (20 + k)) = some (.inr (6, [.int (nI k), .int (f (39 + (8 * k) + 1)), .int (f (39 + (8 * k) + 2)), .int (1 - f (39 + (8 * k) + 3)), .int (f (39 + (8 * k) + 4)), .int (f (39 + (8 * k) + 5)), .int (f (39 + (8 * k) + 6)), .int (f (39 + (8 * k) + 7))])) := h
    refine mx_bi w (va_runU (As := []) (rest := rest) X (jt_kindJ l G A M (ad (20 + k)) _ _ _ _ _ _ _ _ h9) (mx_cwK X w (C := "FieldPumps$Jockey") (owner := "FieldPumps$Pump") 0 q1553 q1555 q1554 q1559 q1560 q117 q1561 rfl rfl (by decide +kernel) ⟨Nat.le_trans (by decide) hfr, Nat.le_trans (by decide) hlo⟩) (mx_preV w rfl h9 rfl) rfl rfl hls rfl (by show 2 * 0 + (rest.map fun v => v.category).sum ≤ 8; omega) hdg ⟨hc, hs⟩) (fun r M9 H9 locs9 hp w9 => ?_)
    obtain ⟨eR, eM⟩ := hp
    rw [eM] at w9
    rw [show r = f (39 + (8 * k)) from eR.trans h2.symm]
    exact kk _ _ w9
end FK

