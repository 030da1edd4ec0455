set_option maxRecDepth 100000
/-! CR: rows at the station's own address; a pump copied, whichever its kind -/
section CR
variable {p : Program} {l : Launch} {e : Env} {R : Room} {s : State} {m : MethodId} {args : Array Value} {below : List Frame} {meth : Method} {c : Code} {H : Heap} {locs : List Loc} {cells slots : Nat} {Q : State → Prop}
variable {G : mg} {A : Nat → Prop} {M M0 : mh} {cc : ByteArray} {nL pc a o : Nat} {ls : Array Slot} {rest : List Value} {own : String} {ad : Nat → Nat} {np ng : Nat} {f : Nat → Int32}
theorem st_putO (X : CallFix p m c cc nL s args lw_all own) (w : mW G A s M H locs) (hM : Sta G ad np ng M0 M f) (e0 : ad 0 = o) {index : Nat} {x : Int32} (k q : Nat) (hlink : Cond.fieldLink own index "FieldPumps$Station" (TX1 k).2.1 (TX1 k).2.2.1 ∈ lw_all) (hk : (decide (k < 30) && !(TX1 k).2.2.2) = true) (hn : narrow (tyX1 k) (.int x) = .int x) (hfit : fits (tyX1 k) (.int x) = true) (hset : (stF ad f).set k (.int x) = stF ad (upd f q x)) (ho : stO q = 0) (hp : stOk q) (hdg : decode cc pc = .ok (.putfield index, 3))
    (kk : ∀ (M1 : mh) (H1 : Heap) (locs1 : List Loc), mW G A s M1 H1 locs1 → Sta G ad np ng M0 M1 (upd f q x) → W p l e R s m args below meth c H1 locs1 cells slots Q (F0 m (pc + 3) ls rest)) : W p l e R s m args below meth c H locs cells slots Q (F0 m pc ls (.int x :: .ref o :: rest)) := by
  subst e0
  exact st_put X w hM k q hlink hk hn hfit hset ho hp hdg kk
theorem mx_castP3 (X : CallFix p m c cc nL s args lw_all own) (w : mW G A s M H locs) {index j : Nat} (hj : j ≤ 2) {fs : List Value} (hM : M a = some (.inr (4 + j, fs))) (hlink : Cond.classLink own index "FieldPumps$Pump" ∈ lw_all) (hdg : decode cc pc = .ok (.checkcast index, 3))
    (kk : W p l e R s m args below meth c H locs cells slots Q (F0 m (pc + 3) ls (.ref a :: rest))) : W p l e R s m args below meth c H locs cells slots Q (F0 m pc ls (.ref a :: rest)) := by
  obtain rfl | rfl | rfl : j = 0 ∨ j = 1 ∨ j = 2 := by omega
  · exact mx_castU X w hlink (ci := 4) rfl q2411 hM hdg kk
  · exact mx_castU X w hlink (ci := 5) rfl q2413 hM hdg kk
  · exact mx_castU X w hlink (ci := 6) rfl q2412 hM hdg kk
end CR
theorem ct_copyP (l : Launch) (G : mg) (A : Nat → Prop) (M1 : mh) (b : Nat) (nb : Int32) (x : Nat → Int32) (hx0 : rg (x 0) 2) (hx3 : rg (x 3) 1) (hb : M1 b = some (.inr (4 + tN (x 0), [.int nb, .int (x 1), .int (x 2), .int (1 - x 3), .int (x 4), .int (x 5), .int (x 6), .int (x 7)]))) : Met l yX0_copyOf (ws_ yX0_copyOf cX0_copyOf 1 (some (.object "FieldPumps$Pump"))) ({ frames := 5, cells := 1, slots := 8, locals := 98 }) (va_Pc [.ref b] (mU G A (fun M => M = M1))) (mQq G A (fun r M => ∃ q : Nat, M1 q = none ∧ r = some q ∧ M q = some (.inr (4 + tN (x 0), [.int nb, .int (x 1), .int (x 2), .int (1 - x 3), .int (x 4), .int (x 5), .int (x 6), .int (x 7)])) ∧ ∀ a, a ≠ q → M a = M1 a)) 1 8 A := by
  obtain ⟨j, hj, ej⟩ := hx0
  have tj : tN (x 0) = j := by rw [ej, tN_nI (by omega)]
  obtain ⟨ou, eo⟩ : ∃ b : Bool, 1 - x 3 = bI b := by
    obtain ⟨i, hi, ei⟩ := hx3
    obtain rfl | rfl : i = 0 ∨ i = 1 := by omega
    · exact ⟨true, by rw [ei]; rfl⟩
    · exact ⟨false, by rw [ei]; rfl⟩
  rw [tj, eo] at hb
  rw [tj, eo]
  obtain rfl | rfl | rfl : j = 0 ∨ j = 1 ∨ j = 2 := by omega
  · refine Met_q (Met_room (jt_copyF l G A M1 b nb (x 1) (x 2) ou (x 4) (x 5) (x 6) (x 7) hb) (by decide) (by decide) (by decide) (by decide) (by decide) (by decide)) fun r M hp => ?_
    obtain ⟨q, zq, eR, eM⟩ := hp
    exact ⟨q, zq, eR, by rw [eM, va_up_s], fun a ha => by rw [eM, va_up_k ha, va_up_k ha, va_up_k ha, va_up_k ha, va_up_k ha, va_up_k ha, va_up_k ha, va_up_k ha, va_up_k ha]⟩
  · refine Met_q (Met_room (jt_copyV l G A M1 b nb (x 1) (x 2) ou (x 4) (x 5) (x 6) (x 7) hb) (by decide) (by decide) (by decide) (by decide) (by decide) (by decide)) fun r M hp => ?_
    obtain ⟨q, zq, eR, eM⟩ := hp
    exact ⟨q, zq, eR, by rw [eM, va_up_s], fun a ha => by rw [eM, va_up_k ha, va_up_k ha, va_up_k ha, va_up_k ha, va_up_k ha, va_up_k ha, va_up_k ha, va_up_k ha, va_up_k ha]⟩
  · refine Met_q (Met_room (jt_copyJ l G A M1 b nb (x 1) (x 2) ou (x 4) (x 5) (x 6) (x 7) hb) (by decide) (by decide) (by decide) (by decide) (by decide) (by decide)) fun r M hp => ?_
    obtain ⟨q, zq, eR, eM⟩ := hp
    exact ⟨q, zq, eR, by rw [eM, va_up_s], fun a ha => by rw [eM, va_up_k ha, va_up_k ha, va_up_k ha, va_up_k ha, va_up_k ha, va_up_k ha, va_up_k ha, va_up_k ha, va_up_k ha]⟩

