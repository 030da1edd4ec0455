set_option maxRecDepth 100000
/-! TM: a TreeMap and its entries: the map at ad 0, entry k at ad (20 + k); f k 0 left, 1 right, 2 parent, 3 colour (some: black), 4 key, 5 value (addresses); f 0 6 the root -/
abbrev tT : Type := Nat → Nat → Option Nat
def t2 (f : tT) (k j : Nat) (x : Option Nat) : tT := fun a b => if a = k then (if b = j then x else f a b) else f a b
theorem t2_s {f : tT} {k j : Nat} {x : Option Nat} : t2 f k j x k j = x := by simp [t2]
theorem t2_j {f : tT} {k j a b : Nat} {x : Option Nat} (h : b ≠ j) : t2 f k j x a b = f a b := by simp [t2, h]
theorem t2_k {f : tT} {k j a b : Nat} {x : Option Nat} (h : a ≠ k) : t2 f k j x a b = f a b := by simp [t2, h]
def bO (b : Bool) : Option Nat := if b then some 1 else none
theorem bO_s (b : Bool) : (bO b).isSome = b := by cases b <;> rfl
def tnF (ad : Nat → Nat) (f : tT) (k : Nat) : List Value := [va_rf (f k 4), va_rf (f k 5), va_rf ((f k 0).map fun k => ad (20 + k)), va_rf ((f k 1).map fun k => ad (20 + k)), va_rf ((f k 2).map fun k => ad (20 + k)), .int (bI (f k 3).isSome)]
def tmF (ad : Nat → Nat) (f : tT) (sz md : Int32) : List Value := [.null, .null, .null, va_rf ((f 0 6).map fun k => ad (20 + k)), .int sz, .int md, .null, .null, .null]
def Tm (G : mg) (ad : Nat → Nat) (np : Nat) (M0 M : mh) (f : tT) : Prop :=
  (∀ i j, ad (20 + i) = ad (20 + j) → i = j) ∧ (∃ sz md : Int32, M (ad 0) = some (.inr (15, tmF ad f sz md))) ∧ (∀ k, k < np → M (ad (20 + k)) = some (.inr (16, tnF ad f k))) ∧
  (∀ q, q ≠ ad 0 → (∀ k, k < np → q ≠ ad (20 + k)) → M q = M0 q)
theorem tnF_j {ad : Nat → Nat} {f g : tT} {k : Nat} (h : ∀ j, j < 6 → g k j = f k j) : tnF ad g k = tnF ad f k := by
  unfold tnF
  rw [h 0 (by decide), h 1 (by decide), h 2 (by decide), h 3 (by decide), h 4 (by decide), h 5 (by decide)]
section TM
variable {p : Program} {l : Launch} {e : Env} {R : Room} {s : State} {m : MethodId} {args : Array Value} {below : List Frame} {meth : Method} {c : Code} {H : Heap} {locs : List Loc} {cells slots : Nat} {Q : State → Prop}
variable {G : mg} {A : Nat → Prop} {M M0 : mh} {cc : ByteArray} {nL pc a : Nat} {ls : Array Slot} {rest : List Value} {own : String} {ad : Nat → Nat} {np : Nat} {f : tT}
theorem Tm.inj (h : Tm G ad np M0 M f) {i j : Nat} (e : ad (20 + i) = ad (20 + j)) : i = j := h.1 i j e
theorem Tm.nd (h : Tm G ad np M0 M f) {k : Nat} (hk : k < np) : M (ad (20 + k)) = some (.inr (16, tnF ad f k)) := h.2.2.1 k hk
theorem Tm.ne (h : Tm G ad np M0 M f) {k : Nat} (hk : k < np) : ad (20 + k) ≠ ad 0 := fun e => by
  obtain ⟨sz, md, h0⟩ := h.2.1
  have := h.nd hk
  rw [e, h0] at this
  cases this
theorem Tm.mapj (h : Tm G ad np M0 M f) {a b : Option Nat} : a.map (fun k => ad (20 + k)) = b.map (fun k => ad (20 + k)) ↔ a = b := by
  constructor
  · cases a <;> cases b <;> simp
    exact fun e => h.inj e
  · rintro rfl; rfl
theorem Tm.set (h : Tm G ad np M0 M f) {k j : Nat} (hk : k < np) (hj : j < 6) {o : Option Nat} {fs : List Value} (hf : fs = tnF ad (t2 f k j o) k) : Tm G ad np M0 (va_up M (ad (20 + k)) (some (.inr (16, fs)))) (t2 f k j o) := by
  obtain ⟨h1, ⟨sz, md, h2⟩, h3, h4⟩ := h
  have hne : ad 0 ≠ ad (20 + k) := fun e => by
    have := h3 k hk
    rw [← e, h2] at this
    cases this
  refine ⟨h1, ⟨sz, md, ?_⟩, fun i hi => ?_, fun q q0 q1 => ?_⟩
  · rw [va_up_k hne, h2]
    unfold tmF
    rw [t2_j (show 6 ≠ j by omega)]
  · by_cases e : i = k
    · subst e
      rw [va_up_s, hf]
    · rw [va_up_k (fun q => e (h1 _ _ q)), h3 i hi]
      exact congrArg (fun z => some (Sum.inr (16, z))) (tnF_j fun j' _ => t2_k e).symm
  · rw [va_up_k (q1 k hk)]
    exact h4 q q0 q1
theorem Tm.setR (h : Tm G ad np M0 M f) {o : Option Nat} {sz md : Int32} {fs : List Value} (hf : fs = tmF ad (t2 f 0 6 o) sz md) : Tm G ad np M0 (va_up M (ad 0) (some (.inr (15, fs)))) (t2 f 0 6 o) := by
  have hne := fun k (hk : k < np) => h.ne hk
  obtain ⟨h1, -, h3, h4⟩ := h
  refine ⟨h1, ⟨sz, md, by rw [va_up_s, hf]⟩, fun i hi => ?_, fun q q0 q1 => ?_⟩
  · rw [va_up_k (hne i hi), h3 i hi]
    exact congrArg (fun z => some (Sum.inr (16, z))) (tnF_j fun j' hj => t2_j (by omega)).symm
  · rw [va_up_k q0]
    exact h4 q q0 q1
theorem Tm.setI (h : Tm G ad np M0 M f) {sz md : Int32} {fs : List Value} (hf : fs = tmF ad f sz md) : Tm G ad np M0 (va_up M (ad 0) (some (.inr (15, fs)))) f := by
  have hne := fun k (hk : k < np) => h.ne hk
  obtain ⟨h1, -, h3, h4⟩ := h
  refine ⟨h1, ⟨sz, md, by rw [va_up_s, hf]⟩, fun i hi => ?_, fun q q0 q1 => ?_⟩
  · rw [va_up_k (hne i hi), h3 i hi]
  · rw [va_up_k q0]
    exact h4 q q0 q1
theorem rf_nar (C : String) (o : Option Nat) : narrow (.object C) (va_rf o) = va_rf o := by cases o <;> rfl
theorem rf_fit (C : String) (o : Option Nat) : fits (.object C) (va_rf o) = true := by cases o <;> rfl
theorem teOwn (k : Nat) : "java/util/TreeMap$Entry" = (TJ24 k).1 := by unfold TJ24; split <;> rfl
/-- an entry's field is read -/
theorem tm_get (X : CallFix p m c cc nL s args lw_all own) (w : mW G A s M H locs) (hM : Tm G ad np M0 M f) {index k : Nat} (hk : k < np) (j : Nat) (hj : j < 6) (hlink : Cond.fieldLink own index "java/util/TreeMap$Entry" (TJ24 j).2.1 (TJ24 j).2.2.1 ∈ lw_all) {v : Value} (hv : (tnF ad f k)[j]? = some v) (hdg : decode cc pc = .ok (.getfield index, 3))
    (kk : W p l e R s m args below meth c H locs cells slots Q (F0 m (pc + 3) ls (v :: rest))) : W p l e R s m args below meth c H locs cells slots Q (F0 m pc ls (.ref (ad (20 + k)) :: rest)) :=
  mx_get X w in_J24 (ci := 16) rfl j hj hlink (fun y hy => by rw [show "java/util/TreeMap$Entry" = (TJ24 j).1 from teOwn j]; exact hy) (hM.nd hk) hv hdg kk
theorem tm_put (X : CallFix p m c cc nL s args lw_all own) (w : mW G A s M H locs) (hM : Tm G ad np M0 M f) {index k : Nat} {v : Value} {o : Option Nat} (hk : k < np) (j jj : Nat) (hj : (decide (j < 6) && !(TJ24 j).2.2.2) = true) (hjj : jj < 6) (hlink : Cond.fieldLink own index "java/util/TreeMap$Entry" (TJ24 j).2.1 (TJ24 j).2.2.1 ∈ lw_all) (hn : narrow (tyJ24 j) v = v) (hfit : fits (tyJ24 j) v = true) (hset : (tnF ad f k).set j v = tnF ad (t2 f k jj o) k) (hdg : decode cc pc = .ok (.putfield index, 3))
    (kk : ∀ (M1 : mh) (H1 : Heap) (locs1 : List Loc), mW G A s M1 H1 locs1 → Tm G ad np M0 M1 (t2 f k jj o) → W p l e R s m args below meth c H1 locs1 cells slots Q (F0 m (pc + 3) ls rest)) : W p l e R s m args below meth c H locs cells slots Q (F0 m pc ls (v :: .ref (ad (20 + k)) :: rest)) := by
  simp only [Bool.and_eq_true, decide_eq_true_eq, Bool.not_eq_true'] at hj
  exact mx_put X w in_J24 tyJ24 tyJ24_ok nmJ24 (ci := 16) rfl j hj.1 hlink (fun y hy => by rw [show "java/util/TreeMap$Entry" = (TJ24 j).1 from teOwn j]; exact hy) hj.2 hn hfit (hM.nd hk) (show j < 6 from hj.1) hdg fun H1 locs1 w1 => kk _ H1 locs1 w1 (hM.set hk hjj hset)
theorem tm_putL (X : CallFix p m c cc nL s args lw_all own) (w : mW G A s M H locs) (hM : Tm G ad np M0 M f) {index k : Nat} {o : Option Nat} (hk : k < np) (jj : Nat) (hjj : jj < 3) (hlink : Cond.fieldLink own index "java/util/TreeMap$Entry" (TJ24 (2 + jj)).2.1 (TJ24 (2 + jj)).2.2.1 ∈ lw_all) (hdg : decode cc pc = .ok (.putfield index, 3))
    (kk : ∀ (M1 : mh) (H1 : Heap) (locs1 : List Loc), mW G A s M1 H1 locs1 → Tm G ad np M0 M1 (t2 f k jj o) → W p l e R s m args below meth c H1 locs1 cells slots Q (F0 m (pc + 3) ls rest)) : W p l e R s m args below meth c H locs cells slots Q (F0 m pc ls (va_rf (o.map fun k => ad (20 + k)) :: .ref (ad (20 + k)) :: rest)) := by
  obtain rfl | rfl | rfl : jj = 0 ∨ jj = 1 ∨ jj = 2 := by omega
  · exact tm_put X w hM hk 2 0 rfl (by decide) hlink (rf_nar _ _) (rf_fit _ _) (by simp [tnF, t2]) hdg kk
  · exact tm_put X w hM hk 3 1 rfl (by decide) hlink (rf_nar _ _) (rf_fit _ _) (by simp [tnF, t2]) hdg kk
  · exact tm_put X w hM hk 4 2 rfl (by decide) hlink (rf_nar _ _) (rf_fit _ _) (by simp [tnF, t2]) hdg kk
theorem tm_putC (X : CallFix p m c cc nL s args lw_all own) (w : mW G A s M H locs) (hM : Tm G ad np M0 M f) {index k : Nat} {b : Bool} (hk : k < np) (hlink : Cond.fieldLink own index "java/util/TreeMap$Entry" "color" "Z" ∈ lw_all) (hdg : decode cc pc = .ok (.putfield index, 3))
    (kk : ∀ (M1 : mh) (H1 : Heap) (locs1 : List Loc), mW G A s M1 H1 locs1 → Tm G ad np M0 M1 (t2 f k 3 (bO b)) → W p l e R s m args below meth c H1 locs1 cells slots Q (F0 m (pc + 3) ls rest)) : W p l e R s m args below meth c H locs cells slots Q (F0 m pc ls (.int (bI b) :: .ref (ad (20 + k)) :: rest)) :=
  tm_put X w hM hk 5 3 rfl (by decide) hlink (bI_z _) (bI_f _) (by simp [tnF, t2, bO_s]) hdg kk
theorem tm_putQ (X : CallFix p m c cc nL s args lw_all own) (w : mW G A s M H locs) (hM : Tm G ad np M0 M f) {index k : Nat} {o : Option Nat} (hk : k < np) (jj : Nat) (hjj : jj < 2) (hlink : Cond.fieldLink own index "java/util/TreeMap$Entry" (TJ24 jj).2.1 (TJ24 jj).2.2.1 ∈ lw_all) (hdg : decode cc pc = .ok (.putfield index, 3))
    (kk : ∀ (M1 : mh) (H1 : Heap) (locs1 : List Loc), mW G A s M1 H1 locs1 → Tm G ad np M0 M1 (t2 f k (4 + jj) o) → W p l e R s m args below meth c H1 locs1 cells slots Q (F0 m (pc + 3) ls rest)) : W p l e R s m args below meth c H locs cells slots Q (F0 m pc ls (va_rf o :: .ref (ad (20 + k)) :: rest)) := by
  obtain rfl | rfl : jj = 0 ∨ jj = 1 := by omega
  · exact tm_put X w hM hk 0 4 rfl (by decide) hlink (rf_nar _ _) (rf_fit _ _) (by simp [tnF, t2]) hdg kk
  · exact tm_put X w hM hk 1 5 rfl (by decide) hlink (rf_nar _ _) (rf_fit _ _) (by simp [tnF, t2]) hdg kk
/-- the map's own fields -/
theorem tm_root (X : CallFix p m c cc nL s args lw_all own) (w : mW G A s M H locs) (hM : Tm G ad np M0 M f) {index : Nat} (hlink : Cond.fieldLink own index "java/util/TreeMap" "root" "Ljava/util/TreeMap$Entry;" ∈ lw_all) (hdg : decode cc pc = .ok (.getfield index, 3))
    (kk : W p l e R s m args below meth c H locs cells slots Q (F0 m (pc + 3) ls (va_rf ((f 0 6).map fun k => ad (20 + k)) :: rest))) : W p l e R s m args below meth c H locs cells slots Q (F0 m pc ls (.ref (ad 0) :: rest)) := by
  obtain ⟨sz, md, h0⟩ := hM.2.1
  exact mx_get X w in_J20 (ci := 15) rfl 3 (by decide) hlink (fun _ h => h) h0 rfl hdg kk
theorem tm_cmp (X : CallFix p m c cc nL s args lw_all own) (w : mW G A s M H locs) (hM : Tm G ad np M0 M f) {index : Nat} (hlink : Cond.fieldLink own index "java/util/TreeMap" "comparator" "Ljava/util/Comparator;" ∈ lw_all) (hdg : decode cc pc = .ok (.getfield index, 3))
    (kk : W p l e R s m args below meth c H locs cells slots Q (F0 m (pc + 3) ls (.null :: rest))) : W p l e R s m args below meth c H locs cells slots Q (F0 m pc ls (.ref (ad 0) :: rest)) := by
  obtain ⟨sz, md, h0⟩ := hM.2.1
  exact mx_get X w in_J20 (ci := 15) rfl 2 (by decide) hlink (fun _ h => h) h0 rfl hdg kk
theorem tm_size (X : CallFix p m c cc nL s args lw_all own) (w : mW G A s M H locs) (hM : Tm G ad np M0 M f) {index : Nat} (j : Nat) (hj : j = 4 ∨ j = 5) (hlink : Cond.fieldLink own index "java/util/TreeMap" (TJ20 j).2.1 (TJ20 j).2.2.1 ∈ lw_all) (hdg : decode cc pc = .ok (.getfield index, 3))
    (kk : ∀ x : Int32, W p l e R s m args below meth c H locs cells slots Q (F0 m (pc + 3) ls (.int x :: rest))) : W p l e R s m args below meth c H locs cells slots Q (F0 m pc ls (.ref (ad 0) :: rest)) := by
  obtain ⟨sz, md, h0⟩ := hM.2.1
  rcases hj with rfl | rfl
  · exact mx_get X w in_J20 (ci := 15) rfl 4 (by decide) hlink (fun _ h => h) h0 rfl hdg (kk sz)
  · exact mx_get X w in_J20 (ci := 15) rfl 5 (by decide) hlink (fun _ h => h) h0 rfl hdg (kk md)
theorem tm_putI (X : CallFix p m c cc nL s args lw_all own) (w : mW G A s M H locs) (hM : Tm G ad np M0 M f) {index : Nat} {x : Int32} (j : Nat) (hj : j = 4 ∨ j = 5) (hlink : Cond.fieldLink own index "java/util/TreeMap" (TJ20 j).2.1 (TJ20 j).2.2.1 ∈ lw_all) (hdg : decode cc pc = .ok (.putfield index, 3))
    (kk : ∀ (M1 : mh) (H1 : Heap) (locs1 : List Loc), mW G A s M1 H1 locs1 → Tm G ad np M0 M1 f → W p l e R s m args below meth c H1 locs1 cells slots Q (F0 m (pc + 3) ls rest)) : W p l e R s m args below meth c H locs cells slots Q (F0 m pc ls (.int x :: .ref (ad 0) :: rest)) := by
  obtain ⟨sz, md, h0⟩ := hM.2.1
  rcases hj with rfl | rfl
  · exact mx_put X w in_J20 tyJ20 tyJ20_ok nmJ20 (ci := 15) rfl 4 (by decide) hlink (fun _ h => h) rfl rfl rfl h0 (show 4 < 9 by decide) hdg fun H1 locs1 w1 => kk _ H1 locs1 w1 (hM.setI (sz := x) (md := md) rfl)
  · exact mx_put X w in_J20 tyJ20 tyJ20_ok nmJ20 (ci := 15) rfl 5 (by decide) hlink (fun _ h => h) rfl rfl rfl h0 (show 5 < 9 by decide) hdg fun H1 locs1 w1 => kk _ H1 locs1 w1 (hM.setI (sz := sz) (md := x) rfl)
theorem tm_putR (X : CallFix p m c cc nL s args lw_all own) (w : mW G A s M H locs) (hM : Tm G ad np M0 M f) {index : Nat} {o : Option Nat} (hlink : Cond.fieldLink own index "java/util/TreeMap" "root" "Ljava/util/TreeMap$Entry;" ∈ lw_all) (hdg : decode cc pc = .ok (.putfield index, 3))
    (kk : ∀ (M1 : mh) (H1 : Heap) (locs1 : List Loc), mW G A s M1 H1 locs1 → Tm G ad np M0 M1 (t2 f 0 6 o) → W p l e R s m args below meth c H1 locs1 cells slots Q (F0 m (pc + 3) ls rest)) : W p l e R s m args below meth c H locs cells slots Q (F0 m pc ls (va_rf (o.map fun k => ad (20 + k)) :: .ref (ad 0) :: rest)) := by
  obtain ⟨sz, md, h0⟩ := hM.2.1
  exact mx_put X w in_J20 tyJ20 tyJ20_ok nmJ20 (ci := 15) rfl 3 (by decide) hlink (fun _ h => h) rfl (rf_nar _ _) (rf_fit _ _) h0 (show 3 < 9 by decide) hdg fun H1 locs1 w1 => kk _ H1 locs1 w1 (hM.setR (sz := sz) (md := md) (by simp [tmF, t2]))
theorem tm_acmp_eq (hM : Tm G ad np M0 M f) (hx : p.tables.exec = Jvm.exec) (hb : c.code = cc) {rx ry : Option Nat} {off : Int} {tgt : Nat} (hdg : decode cc pc = .ok (.if_acmp .eq off, 3)) (ht : (pc : Int) + off = (tgt : Int))
    (kt : rx = ry → W p l e R s m args below meth c H locs cells slots Q (F0 m tgt ls rest)) (kf : ¬ rx = ry → W p l e R s m args below meth c H locs cells slots Q (F0 m (pc + 3) ls rest)) : W p l e R s m args below meth c H locs cells slots Q (F0 m pc ls (va_rf (ry.map fun k => ad (20 + k)) :: va_rf (rx.map fun k => ad (20 + k)) :: rest)) :=
  lv_acmp_eq hx hb hdg ht (fun h => kt (hM.mapj.mp h)) (fun h => kf fun q => h (hM.mapj.mpr q))
theorem tm_acmp_ne (hM : Tm G ad np M0 M f) (hx : p.tables.exec = Jvm.exec) (hb : c.code = cc) {rx ry : Option Nat} {off : Int} {tgt : Nat} (hdg : decode cc pc = .ok (.if_acmp .ne off, 3)) (ht : (pc : Int) + off = (tgt : Int))
    (kt : ¬ rx = ry → W p l e R s m args below meth c H locs cells slots Q (F0 m tgt ls rest)) (kf : rx = ry → W p l e R s m args below meth c H locs cells slots Q (F0 m (pc + 3) ls rest)) : W p l e R s m args below meth c H locs cells slots Q (F0 m pc ls (va_rf (ry.map fun k => ad (20 + k)) :: va_rf (rx.map fun k => ad (20 + k)) :: rest)) :=
  lv_acmp_ne hx hb hdg ht (fun h => kt fun q => h (hM.mapj.mpr q)) (fun h => kf (hM.mapj.mp h))
end TM

