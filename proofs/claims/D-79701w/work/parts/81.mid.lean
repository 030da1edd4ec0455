set_option maxRecDepth 100000
/-! MID: Station.middle -/
section MID
variable {p : Program} {l : Launch} {e : Env} {R : Room} {s : State} {m : MethodId} {args : Array Value} {below : List Frame} {meth : Method} {c : Code} {H : Heap} {locs : List Loc} {cells slots : Nat} {Q : State → Prop}
variable {G : mg} {A : Nat → Prop} {M00 : mh} {ta it y : Nat} {cnt : Int32 → Nat} {b : Bool}
theorem md_gen2 {M2 : mh} {g : JFrame} {e0 : va_E} {v : Int32} (w : mW G A s M2 H locs) (h : MapP G M00 M2 ta cnt b) (hI : M2 it = some e0) (hb : boxAt G M2 y v) (kk : ∀ M : mh, mW G A s M H locs → MapP G M00 M ta cnt b → M it = some e0 → boxAt G M y v → W p l e R s m args below meth c H locs cells slots Q g) : W p l e R s m args below meth c H locs cells slots Q g := kk M2 w h hI hb
theorem md_gen3 {M2 : mh} {g : JFrame} {e0 : va_E} (w : mW G A s M2 H locs) (h : MapP G M00 M2 ta cnt b) (hI : M2 it = some e0) (kk : ∀ M : mh, mW G A s M H locs → MapP G M00 M ta cnt b → M it = some e0 → W p l e R s m args below meth c H locs cells slots Q g) : W p l e R s m args below meth c H locs cells slots Q g := kk M2 w h hI
end MID
theorem ct_has (l : Launch) (G : mg) (A : Nat → Prop) (M1 : mh) (it k : Nat) (lr : Int32) (a : Nat) (md : Int32) (ea n : Nat) (h_it : M1 it = some (.inr (13, [.int (nI k), .int lr, .int md, .ref a]))) (h_a : M1 a = some (.inr (9, [.int md, .ref ea, .int (nI n)]))) (hk : k ≤ n) (hn : n < 2 ^ 31) : Met l yJ13_hasNext (ws_ yJ13_hasNext cJ13_hasNext 1 (some .boolean)) ({ frames := 0, cells := 0, slots := 0, locals := 0 }) (va_Pc [.ref it] (mU G A (fun M => M = M1))) (mQi G A (fun r M => r = bI (decide (k < n)) ∧ M = M1)) 0 0 A := by
  by_cases c : k < n
  · rw [decide_eq_true c]
    exact jt_it_has1 l G A M1 it k lr a md ea n h_it h_a c hn
  · rw [decide_eq_false c]
    exact jt_it_has0 l G A M1 it k lr a md ea n h_it h_a (by omega) hn
set_option maxHeartbeats 4000000 in
set_option maxRecDepth 100000 in
theorem ct_middle (l : Launch) (G : mg) (A : Nat → Prop) (M1 : mh) (sa la ea nn : Nat) (fs : List Value) (md : Int32) (g : Nat → Option Nat) (nv : Nat → Int32) (hst : M1 sa = some (.inr (1, fs))) (hfs : fs[6]? = some (.ref la)) (hla : M1 la = some (.inr (9, [.int md, .ref ea, .int (nI nn)]))) (hea : M1 ea = some (mRc (G.1.1 103) 10 g)) (hn1 : 1 ≤ nn) (hn8 : nn ≤ 8) (hg : ∀ k, k < nn → ∃ y, g k = some y ∧ boxAt G M1 y (nv k)) : Met l yX1_middle (ws_ yX1_middle cX1_middle 5 (some .int)) ({ frames := 7, cells := 64, slots := 160, locals := 158 }) (va_Pc [.ref sa] (mU G A (fun M => M = M1))) (mQi G A (fun r M => MidOk nv nn r ∧ ∀ q, M1 q ≠ none → M q = M1 q)) 64 160 A := by
  refine mx_ofi (by decide) (Nat.le_of_ble_eq_true rfl) ?_
  intro p e R s m av below meth c M H Q ls X hRf hRl hRc hRs hin eM w fin hl
  subst M
  have X : CallFix p m c cX1_middle 5 s av lw_all "FieldPumps$Station" := X
  have hx := X.1
  have hb := X.2.1
  have hl : lv_has ls 5 [(0, .ref sa)] := hl
  have hRf : R.frames = 7 := hRf
  have hRl : R.locals = 158 := hRl
  have hRc : R.cells = 64 := hRc
  have hRs : R.slots = 160 := hRs
  generalize ([] : List Loc) = locs at w ⊢
  refine mx_new (T := TJ20) X w in_J20 tyJ20 tyJ20_ok q917 q918 q127 (ci := 15) rfl (fs := [.null, .null, .null, .null, .int 0, .int 0, .null, .null, .null]) (fun j hj => vz_J20 j hj) (by rw [hRc]; omega) (by rw [hRs]; omega) dX1_middle_0 (fun ta H nta w => ?_)
  refine lv_dup hx hb dX1_middle_3 rfl ?_
  refine mx_bv w (va_runI (As := []) (rest := [.ref ta]) X (jt_tm_init l G A _ ta va_up_s) (cwI 0 X.2.2.2.2 (lw_meth q921) rfl rfl rfl (X.2.2.2.2 _ q127) (X.2.2.2.2 _ q919) (X.2.2.2.2 _ q920) rfl (by decide +kernel) ⟨by rw [hRf]; decide, by rw [hRl]; decide⟩) (mx_preS w rfl) rfl rfl hl.1 rfl (lv_room (Nat.le_of_ble_eq_true rfl)) dX1_middle_4 ⟨by rw [hRc]; omega, by rw [hRs]; omega⟩) (fun M9 H locs hp w => ?_)
  have eM := hp; subst M9
  refine md_gen w (MapP.new nta (by simp only [va_up_up])) (fun M w hMp => ?_)
  refine lv_astore_n (lv' := [(1, .ref ta), (0, .ref sa)]) hx hb dX1_middle_7 rfl hl (by decide) rfl (fun ls hl => ?_)
  refine lv_aload_n hx hb dX1_middle_8 rfl (lv_at hl 1 rfl) ?_
  refine mx_get (T := TX1) (v := .ref la) X w in_X1 (ci := 1) rfl 6 (by decide) q299 (fun _ h => h) (hMp.at hst) hfs dX1_middle_9 ?_
  refine mx_bq w (va_runV (As := []) (rest := []) X (jt_al_iter l G A _ la md ea nn (hMp.at hla)) (cwV 0 X.2.2.2.2 (lw_V q518 q519 q520 q100 q521) rfl rfl rfl (by decide +kernel) ⟨by rw [hRf]; decide, by rw [hRl]; decide⟩) (mx_preV w rfl (hMp.at hla) rfl) rfl rfl hl.1 rfl (lv_room (Nat.le_of_ble_eq_true rfl)) dX1_middle_12 ⟨by rw [hRc]; omega, by rw [hRs]; omega⟩) (fun r M9 H locs hp w => ?_)
  obtain ⟨it, zit, eR, eM⟩ := hp; subst M9; subst eR
  have zit1 : M1 it = none := by
    cases hz : M1 it with
    | none => rfl
    | some x => rw [hMp.at hz] at zit; cases zit
  have hMp := hMp.ext (up4 zit (some (.inr (13, [.int 0, .int 0, .int 0, .null]))) (some (.inr (13, [.int 0, .int 0, .int 0, .ref la]))) (some (.inr (13, [.int 0, .int (-1), .int 0, .ref la]))) (some (.inr (13, [.int 0, .int (-1), .int md, .ref la]))))
  refine md_gen3 w hMp (it := it) va_up_s (fun M w hMp hIt => ?_)
  refine lv_astore_n (lv' := [(2, .ref it), (1, .ref ta), (0, .ref sa)]) hx hb dX1_middle_15 rfl hl (by decide) rfl (fun ls hl => ?_)
  have L16 : ∀ (n_16 : Nat) (kk_16 : Nat) (M : mh) (H : Heap) (locs : List Loc) (ls : Array Slot), (hK16 : kk_16 ≤ nn) → (hMp : MapP G M1 M ta (cntN nv kk_16) true) → (hIt16 : ∃ lr : Int32, M it = some (Sum.inr (13, [Value.int (nI kk_16), Value.int lr, Value.int md, Value.ref la]))) → (hF16 : nn < kk_16 + n_16) → lv_has ls 5 [(2, .ref it), (1, .ref ta), (0, .ref sa)] → mW G A s M H locs → True → W p l e R s m av below meth c H locs (2 + 4 * kk_16) (13 + 9 * kk_16) Q (F0 m 16 ls []) := by
    intro n_16
    induction n_16 with
    | zero =>
      intro kk_16 M H locs ls hK16 hMp hIt16 hF16 hl w _hT
      exfalso; omega
    | succ n_16 ih_16 =>
      intro kk_16 M H locs ls hK16 hMp hIt16 hF16 hl w _hT
      refine lv_aload_n hx hb dX1_middle_16 rfl (lv_at hl 0 rfl) ?_
      obtain ⟨lr, hIt⟩ := hIt16
      refine mx_biF w (va_runF (As := []) (rest := []) (w.cls0 (ci := 13) rfl).choose_spec X (ct_has l G A _ it kk_16 lr la md ea nn hIt (hMp.at hla) hK16 (by omega)) (va_cwF 0 X.2.2.2.2 (lw_F q542 q546 q548 q114 q550) rfl rfl rfl (va_Fw.of (w.tblB (args := av) q544 rfl rfl) (w.tblB (args := av) q543 rfl rfl) (w.tblB (args := av) q549 rfl rfl) (w.tblB (args := av) q547 rfl rfl) (w.tblB (args := av) q545 rfl rfl)) (by decide +kernel) ⟨by rw [hRf]; decide, by rw [hRl]; decide⟩) (mx_preV w rfl hIt rfl) rfl rfl hl.1 rfl (lv_room (Nat.le_of_ble_eq_true rfl)) dX1_middle_17 ⟨by rw [hRc]; omega, by rw [hRs]; omega⟩) (fun r M9 H locs hp w => ?_)
      obtain ⟨eR, eM⟩ := hp; subst M9; subst eR
      refine mx_beq (tgt := 86) hx hb dX1_middle_22 (by decide) (fun c_22 => ?_) (fun c_22 => ?_)
      · skip
        have hkn : kk_16 = nn := by have z9 : ¬ kk_16 < nn := fun z => c_22 (decide_eq_true z); omega
        rw [hkn] at hMp
        refine lv_aload_n hx hb dX1_middle_86 rfl (lv_at hl 2 rfl) ?_
        refine mx_get (T := TX1) (v := .ref la) X w in_X1 (ci := 1) rfl 6 (by decide) q299 (fun _ h => h) (hMp.at hst) hfs dX1_middle_87 ?_
        refine mx_bi w (va_runV (As := []) (rest := []) X (jt_al_size l G A _ la md ea nn (hMp.at hla)) (cwV 0 X.2.2.2.2 (lw_V q274 q275 q276 q100 q277) rfl rfl rfl (by decide +kernel) ⟨by rw [hRf]; decide, by rw [hRl]; decide⟩) (mx_preV w rfl (hMp.at hla) rfl) rfl rfl hl.1 rfl (lv_room (Nat.le_of_ble_eq_true rfl)) dX1_middle_90 ⟨by rw [hRc]; omega, by rw [hRs]; omega⟩) (fun r M9 H locs hp w => ?_)
        obtain ⟨eR, eM⟩ := hp; subst M9; subst eR
        refine lv_iconst (v := (1 : Int32)) hx hb dX1_middle_93 (by decide) ?_
        refine mx_nsub (u := nn) (v := 1) hx hb rfl rfl (hn1) dX1_middle_94 ?_
        refine lv_iconst (v := (2 : Int32)) hx hb dX1_middle_95 (by decide) ?_
        refine mx_ndiv (u := nn - 1) (v := 2) hx hb rfl rfl (by omega) (by omega) (by omega) dX1_middle_96 ?_
        refine lv_istore_n (lv' := [(2, .int (nI ((nn - 1) / 2))), (1, .ref ta), (0, .ref sa)]) hx hb dX1_middle_97 rfl hl (by decide) rfl (fun ls hl => ?_)
        have L98 : ∀ (n_98 : Nat) (n2_98 : Nat) (cc_98 : (Int32 → Nat)) (M : mh) (H : Heap) (locs : List Loc) (ls : Array Slot), (hMp98 : MapP G M1 M ta cc_98 false) → (hL98 : PollI nv nn cc_98 n2_98) → (hF98 : nn < zc cc_98 nv nn + n_98) → lv_has ls 5 [(1, .ref ta), (2, .int (nI n2_98))] → mW G A s M H locs → True → W p l e R s m av below meth c H locs (34 + 2 * zc cc_98 nv nn) (85 + 4 * zc cc_98 nv nn) Q (F0 m 98 ls []) := by
          intro n_98
          induction n_98 with
          | zero =>
            intro n2_98 cc_98 M H locs ls hMp98 hL98 hF98 hl w _hT
            exfalso; have := nct_le (fun k => decide (cc_98 (nv k) = 0)) nn; unfold zc at hF98; omega
          | succ n_98 ih_98 =>
            intro n2_98 cc_98 M H locs ls hMp98 hL98 hF98 hl w _hT
            have hz98 := hL98.2.2
            have hzl : zc cc_98 nv nn ≤ nn := nct_le _ _
            refine lv_aload_n hx hb dX1_middle_98 rfl (lv_at hl 0 rfl) ?_
            refine mx_bq w (va_runV (As := []) (rest := []) X (ct_Mfirst l G A _ M1 ta cc_98 false hMp98 (hL98.ex hn1)) (cwV 0 X.2.2.2.2 (lw_V q1327 q1328 q1329 q127 q1330) rfl rfl rfl (by decide +kernel) ⟨by rw [hRf]; decide, by rw [hRl]; decide⟩) (mx_preV w rfl hMp98.cell.choose_spec rfl) rfl rfl hl.1 rfl (lv_room (Nat.le_of_ble_eq_true rfl)) dX1_middle_99 ⟨by rw [hRc]; omega, by rw [hRs]; omega⟩) (fun r M9 H locs hp w => ?_)
            obtain ⟨q99, a99, K99, k99, eR, hq99, hb99, hc99, hm99, hMp, he99⟩ := hp; subst eR
            refine mx_bqF w (va_runF (As := []) (rest := []) (w.cls0 (ci := 17) rfl).choose_spec X (jt_si_val l G A _ q99 k99 (some a99) hq99) (va_cwF 0 X.2.2.2.2 (lw_F q1382 q1364 q1366 q133 q1368) rfl rfl rfl (va_Fw.of (w.tblB (args := av) q1363 rfl rfl) (w.tblB (args := av) q1362 rfl rfl) (w.tblB (args := av) q1367 rfl rfl) (w.tblB (args := av) q1365 rfl rfl) (w.tblB (args := av) q1348 rfl rfl)) (by decide +kernel) ⟨by rw [hRf]; decide, by rw [hRl]; decide⟩) (mx_preV w rfl hq99 rfl) rfl rfl hl.1 rfl (lv_room (Nat.le_of_ble_eq_true rfl)) dX1_middle_102 ⟨by rw [hRc]; omega, by rw [hRs]; omega⟩) (fun r M9 H locs hp w => ?_)
            obtain ⟨eR, eM⟩ := hp; subst M9; subst eR
            refine mx_boxcast X w q738 hb99 dX1_middle_107 ?_
            refine mx_bi w (va_runV (As := []) (rest := []) X (ct_intV l G A _ a99 (nI (cc_98 K99)) hb99) (cwV 0 X.2.2.2.2 (lw_V q739 q740 q741 q124 q742) rfl rfl rfl (by decide +kernel) ⟨by rw [hRf]; decide, by rw [hRl]; decide⟩) (mx_preVB w rfl hb99) rfl rfl hl.1 rfl (lv_room (Nat.le_of_ble_eq_true rfl)) dX1_middle_110 ⟨by rw [hRc]; omega, by rw [hRs]; omega⟩) (fun r M9 H locs hp w => ?_)
            obtain ⟨eR, eM⟩ := hp; subst M9
            have eR : r = (nI (cc_98 K99)) := eR
            rw [eR]
            refine lv_iload_n hx hb dX1_middle_113 rfl (lv_at hl 1 rfl) ?_
            refine mx_ngt (u := (cc_98 K99)) (v := n2_98) (tgt := 138) hx hb rfl rfl (by have := hL98.le K99; omega) (by have := hL98.2.2; omega) dX1_middle_114 (by decide) (fun c_114 => ?_) (fun c_114 => ?_)
            · skip
              refine lv_aload_n hx hb dX1_middle_138 rfl (lv_at hl 0 rfl) ?_
              refine mx_bq w (va_runV (As := []) (rest := []) X (ct_Mkey l G A _ M1 ta cc_98 false hMp (hL98.ex hn1)) (cwV 0 X.2.2.2.2 (lw_V q1398 q1399 q1400 q127 q1401) rfl rfl rfl (by decide +kernel) ⟨by rw [hRf]; decide, by rw [hRl]; decide⟩) (mx_preV w rfl hMp.cell.choose_spec rfl) rfl rfl hl.1 rfl (lv_room (Nat.le_of_ble_eq_true rfl)) dX1_middle_139 ⟨by rw [hRc]; omega, by rw [hRs]; omega⟩) (fun r M9 H locs hp w => ?_)
              obtain ⟨a139, K139, eR, hb139, hc139, hm139, eM⟩ := hp; subst M9; subst eR
              refine mx_boxcast X w q738 hb139 dX1_middle_142 ?_
              refine mx_bi w (va_runV (As := []) (rest := []) X (ct_intV l G A _ a139 K139 hb139) (cwV 0 X.2.2.2.2 (lw_V q739 q740 q741 q124 q742) rfl rfl rfl (by decide +kernel) ⟨by rw [hRf]; decide, by rw [hRl]; decide⟩) (mx_preVB w rfl hb139) rfl rfl hl.1 rfl (lv_room (Nat.le_of_ble_eq_true rfl)) dX1_middle_145 ⟨by rw [hRc]; omega, by rw [hRs]; omega⟩) (fun r M9 H locs hp w => ?_)
              obtain ⟨eR, eM⟩ := hp; subst M9
              have eR : r = K139 := eR
              rw [eR]
              refine W.widen (k := 64) (n := 160) (by omega) (by omega) ?_
              exact fin K139 _ H locs ls 148 dX1_middle_148 (⟨hL98.fin hc139 hm139 (by have e139 : K139 = K99 := Int32.le_antisymm (hm139 _ hc99) (hm99 _ hc139); rw [e139]; omega), hMp.old⟩) w
            · skip
              refine lv_iload_n hx hb dX1_middle_117 rfl (lv_at hl 1 rfl) ?_
              refine lv_aload_n hx hb dX1_middle_118 rfl (lv_at hl 0 rfl) ?_
              refine mx_bq w (va_runV (As := []) (rest := [.int (nI n2_98)]) X (ct_Mpoll l G A _ M1 ta cc_98 false hMp (hL98.ex hn1)) (cwV 0 X.2.2.2.2 (lw_V q1383 q1384 q1385 q127 q1386) rfl rfl rfl (by decide +kernel) ⟨by rw [hRf]; decide, by rw [hRl]; decide⟩) (mx_preV w rfl hMp.cell.choose_spec rfl) rfl rfl hl.1 rfl (lv_room (Nat.le_of_ble_eq_true rfl)) dX1_middle_119 ⟨by rw [hRc]; omega, by rw [hRs]; omega⟩) (fun r M9 H locs hp w => ?_)
              obtain ⟨q119, a119, K119, k119, eR, hq119, hb119, hc119, hm119, hMp⟩ := hp; subst eR
              have e119 : K119 = K99 := Int32.le_antisymm (hm119 _ hc99) (hm99 _ hc119)
              have hle : cc_98 K119 ≤ n2_98 := by rw [e119]; omega
              obtain ⟨hL2, hz2⟩ := hL98.step hc119 hm119 hle
              refine mx_bqF w (va_runF (As := []) (rest := [.int (nI n2_98)]) (w.cls0 (ci := 17) rfl).choose_spec X (jt_si_val l G A _ q119 k119 (some a119) hq119) (va_cwF 0 X.2.2.2.2 (lw_F q1382 q1364 q1366 q133 q1368) rfl rfl rfl (va_Fw.of (w.tblB (args := av) q1363 rfl rfl) (w.tblB (args := av) q1362 rfl rfl) (w.tblB (args := av) q1367 rfl rfl) (w.tblB (args := av) q1365 rfl rfl) (w.tblB (args := av) q1348 rfl rfl)) (by decide +kernel) ⟨by rw [hRf]; decide, by rw [hRl]; decide⟩) (mx_preV w rfl hq119 rfl) rfl rfl hl.1 rfl (lv_room (Nat.le_of_ble_eq_true rfl)) dX1_middle_122 ⟨by rw [hRc]; omega, by rw [hRs]; omega⟩) (fun r M9 H locs hp w => ?_)
              obtain ⟨eR, eM⟩ := hp; subst M9; subst eR
              refine mx_boxcast X w q738 hb119 dX1_middle_127 ?_
              refine mx_bi w (va_runV (As := []) (rest := [.int (nI n2_98)]) X (ct_intV l G A _ a119 (nI (cc_98 K119)) hb119) (cwV 0 X.2.2.2.2 (lw_V q739 q740 q741 q124 q742) rfl rfl rfl (by decide +kernel) ⟨by rw [hRf]; decide, by rw [hRl]; decide⟩) (mx_preVB w rfl hb119) rfl rfl hl.1 rfl (lv_room (Nat.le_of_ble_eq_true rfl)) dX1_middle_130 ⟨by rw [hRc]; omega, by rw [hRs]; omega⟩) (fun r M9 H locs hp w => ?_)
              obtain ⟨eR, eM⟩ := hp; subst M9
              have eR : r = (nI (cc_98 K119)) := eR
              rw [eR]
              refine mx_nsub (u := n2_98) (v := (cc_98 K119)) hx hb rfl rfl (hle) dX1_middle_133 ?_
              refine lv_istore_n (lv' := [(2, .int (nI (n2_98 - (cc_98 K119)))), (1, .ref ta)]) hx hb dX1_middle_134 rfl hl (by decide) rfl (fun ls hl => ?_)
              refine lv_goto (tgt := 98) hx hb dX1_middle_135 (by decide) ?_
              refine W.widen (k := (34 + 2 * zc (cset cc_98 K119 0) nv nn)) (n := (85 + 4 * zc (cset cc_98 K119 0) nv nn)) (by omega) (by omega) ?_
              exact ih_98 (n2_98 - (cc_98 K119)) (cset cc_98 K119 0) _ H locs ls (by first | omega | assumption | exact hMp) (by first | omega | assumption | exact hL2) (by first | omega | assumption | exact (by omega)) (lv_sub hl [1, 0] rfl) w trivial
        refine W.widen (k := (34 + 2 * zc (cntN nv nn) nv nn)) (n := (85 + 4 * zc (cntN nv nn) nv nn)) (by omega) (by omega) ?_
        exact L98 (nn + 1) ((nn - 1) / 2) (cntN nv nn) _ H locs ls (by first | omega | assumption | exact hMp.weak) (by first | omega | assumption | exact PollI.init) (by first | omega | assumption | exact (by omega)) (lv_sub hl [1, 0] rfl) w trivial
      · skip
        have hlt : kk_16 < nn := of_decide_eq_true c_22
        refine lv_aload_n hx hb dX1_middle_25 rfl (lv_at hl 0 rfl) ?_
        refine mx_bqF w (va_runF (As := []) (rest := []) (w.cls0 (ci := 13) rfl).choose_spec X (jt_it_next l G A _ it kk_16 lr la md ea nn 10 g hIt (hMp.at hla) (hMp.at hea) hlt (by omega) (by decide)) (va_cwF 0 X.2.2.2.2 (lw_F q552 q555 q557 q114 q559) rfl rfl rfl (va_Fw.of (w.tblB (args := av) q554 rfl rfl) (w.tblB (args := av) q553 rfl rfl) (w.tblB (args := av) q558 rfl rfl) (w.tblB (args := av) q556 rfl rfl) (w.tblB (args := av) q545 rfl rfl)) (by decide +kernel) ⟨by rw [hRf]; decide, by rw [hRl]; decide⟩) (mx_preV w rfl hIt rfl) rfl rfl hl.1 rfl (lv_room (Nat.le_of_ble_eq_true rfl)) dX1_middle_26 ⟨by rw [hRc]; omega, by rw [hRs]; omega⟩) (fun r M9 H locs hp w => ?_)
        obtain ⟨eR, eM⟩ := hp; subst M9
        obtain ⟨y, ey, hby0⟩ := hg kk_16 hlt
        rw [eR, ey]
        have hMp := (hMp.oth hIt (fun fs e => by cases e) (fun fs e => by cases e) (fun fs e => by cases e) zit1 (e' := .inr (13, [.int (nI (kk_16 + 1)), .int lr, .int md, .ref la]))).oth va_up_s (fun fs e => by cases e) (fun fs e => by cases e) (fun fs e => by cases e) zit1 (e' := .inr (13, [.int (nI (kk_16 + 1)), .int (nI kk_16), .int md, .ref la]))
        have hby := hby0.ext hMp.old
        refine md_gen2 w hMp (it := it) (e0 := Sum.inr (13, [.int (nI (kk_16 + 1)), .int (nI kk_16), .int md, .ref la])) va_up_s hby (fun M w hMp hIt hby => ?_)
        refine mx_boxcast X w q738 hby dX1_middle_31 ?_
        refine mx_bi w (va_runV (As := []) (rest := []) X (ct_intV l G A _ y (nv kk_16) hby) (cwV 0 X.2.2.2.2 (lw_V q739 q740 q741 q124 q742) rfl rfl rfl (by decide +kernel) ⟨by rw [hRf]; decide, by rw [hRl]; decide⟩) (mx_preVB w rfl hby) rfl rfl hl.1 rfl (lv_room (Nat.le_of_ble_eq_true rfl)) dX1_middle_34 ⟨by rw [hRc]; omega, by rw [hRs]; omega⟩) (fun r M9 H locs hp w => ?_)
        obtain ⟨eR, eM⟩ := hp; subst M9
        have eR : r = (nv kk_16) := eR
        rw [eR]
        refine lv_istore_n (lv' := [(3, .int (nv kk_16)), (2, .ref it), (1, .ref ta), (0, .ref sa)]) hx hb dX1_middle_37 rfl hl (by decide) rfl (fun ls hl => ?_)
        refine lv_aload_n hx hb dX1_middle_38 rfl (lv_at hl 2 rfl) ?_
        refine lv_iload_n hx hb dX1_middle_39 rfl (lv_at hl 0 rfl) ?_
        refine mx_bq w (va_runS (As := [.int (nv kk_16)]) (rest := [.ref ta]) X (ct_valueOf l G A _ (nv kk_16)) (va_cwS 1 X.2.2.2.2 (lw_S q743 q744 q124 q745) rfl rfl rfl (by decide +kernel) ⟨by rw [hRf]; decide, by rw [hRl]; decide⟩) (mx_preS w rfl) rfl rfl hl.1 rfl (lv_room (Nat.le_of_ble_eq_true rfl)) dX1_middle_40 ⟨by rw [hRc]; omega, by rw [hRs]; omega⟩) (fun r M9 H locs hp w => ?_)
        obtain ⟨q40, eR, hb40, he40⟩ := hp; subst eR
        have hMp := hMp.ext he40
        have hIt := (he40 _ (by rw [hIt]; exact fun e => by cases e)).trans hIt
        refine mx_bq w (va_runV (As := [.ref q40]) (rest := []) X (ct_Mget l G A _ M1 ta (cntN nv kk_16) true q40 (nv kk_16) hMp hb40) (cwV 1 X.2.2.2.2 (lw_V q949 q950 q951 q127 q952) rfl rfl rfl (by decide +kernel) ⟨by rw [hRf]; decide, by rw [hRl]; decide⟩) (mx_preV w rfl hMp.cell.choose_spec rfl) rfl rfl hl.1 rfl (lv_room (Nat.le_of_ble_eq_true rfl)) dX1_middle_43 ⟨by rw [hRc]; omega, by rw [hRs]; omega⟩) (fun r43 M9 H locs hp w => ?_)
        obtain ⟨hr43, eM⟩ := hp; subst M9
        refine mx_boxcastQ X w q738 (hr43.imp (fun z => z.2) (fun ⟨a, e, h, _⟩ => ⟨a, e, _, h⟩)) dX1_middle_46 ?_
        refine mx_astoreQ (lv' := [(4, va_rf r43), (3, .int (nv kk_16)), (2, .ref it), (1, .ref ta), (0, .ref sa)]) hx hb dX1_middle_49 hl (by decide) (by first | rfl | (simp only [List.filter, va_rf_cat]; rfl)) (fun ls hl => ?_)
        refine lv_aload_n hx hb dX1_middle_51 rfl (lv_at hl 3 rfl) ?_
        refine lv_iload_n hx hb dX1_middle_52 rfl (lv_at hl 1 rfl) ?_
        refine mx_bq w (va_runS (As := [.int (nv kk_16)]) (rest := [.ref ta]) X (ct_valueOf l G A _ (nv kk_16)) (va_cwS 1 X.2.2.2.2 (lw_S q743 q744 q124 q745) rfl rfl rfl (by decide +kernel) ⟨by rw [hRf]; decide, by rw [hRl]; decide⟩) (mx_preS w rfl) rfl rfl hl.1 rfl (lv_room (Nat.le_of_ble_eq_true rfl)) dX1_middle_53 ⟨by rw [hRc]; omega, by rw [hRs]; omega⟩) (fun r M9 H locs hp w => ?_)
        obtain ⟨q53, eR, hb53, he53⟩ := hp; subst eR
        have hMp := hMp.ext he53
        have hIt := (he53 _ (by rw [hIt]; exact fun e => by cases e)).trans hIt
        have hr43 := hr43.imp id (fun ⟨a, e, h, z⟩ => (⟨a, e, h.ext he53, z⟩ : ∃ a, r43 = some a ∧ boxAt G _ a (nI (cntN nv kk_16 (nv kk_16))) ∧ cntN nv kk_16 (nv kk_16) ≠ 0))
        refine mx_aloadQ hx hb dX1_middle_56 (lv_at hl 0 rfl) ?_
        refine mx_ifnonnull (tgt := 65) hx hb dX1_middle_58 (by decide) (fun c_58 => ?_) (fun c_58 => ?_)
        · skip
          refine mx_aloadQ hx hb dX1_middle_65 (lv_at hl 0 rfl) ?_
          obtain ⟨a67, ea67, hb67, hc67⟩ := hr43.resolve_left (fun z => c_58 z.2)
          rw [ea67]
          refine mx_bi w (va_runV (As := []) (rest := [.ref q53, .ref ta]) X (ct_intV l G A _ a67 (nI (cntN nv kk_16 (nv kk_16))) hb67) (cwV 0 X.2.2.2.2 (lw_V q739 q740 q741 q124 q742) rfl rfl rfl (by decide +kernel) ⟨by rw [hRf]; decide, by rw [hRl]; decide⟩) (mx_preVB w rfl hb67) rfl rfl hl.1 rfl (lv_room (Nat.le_of_ble_eq_true rfl)) dX1_middle_67 ⟨by rw [hRc]; omega, by rw [hRs]; omega⟩) (fun r M9 H locs hp w => ?_)
          obtain ⟨eR, eM⟩ := hp; subst M9
          have eR : r = (nI (cntN nv kk_16 (nv kk_16))) := eR
          rw [eR]
          refine lv_iconst (v := (1 : Int32)) hx hb dX1_middle_70 (by decide) ?_
          refine mx_nadd (u := (cntN nv kk_16 (nv kk_16))) (v := 1) hx hb rfl rfl dX1_middle_71 ?_
          refine mx_bq w (va_runS (As := [.int (nI ((cntN nv kk_16 (nv kk_16)) + 1))]) (rest := [.ref q53, .ref ta]) X (ct_valueOf l G A _ (nI ((cntN nv kk_16 (nv kk_16)) + 1))) (va_cwS 1 X.2.2.2.2 (lw_S q743 q744 q124 q745) rfl rfl rfl (by decide +kernel) ⟨by rw [hRf]; decide, by rw [hRl]; decide⟩) (mx_preS w rfl) rfl rfl hl.1 rfl (lv_room (Nat.le_of_ble_eq_true rfl)) dX1_middle_72 ⟨by rw [hRc]; omega, by rw [hRs]; omega⟩) (fun r M9 H locs hp w => ?_)
          obtain ⟨q72, eR, hb72, he72⟩ := hp; subst eR
          have hMp := hMp.ext he72
          have hIt := (he72 _ (by rw [hIt]; exact fun e => by cases e)).trans hIt
          have hb53 := hb53.ext he72
          have hbv := hb72
          rw [show (nI ((cntN nv kk_16 (nv kk_16)) + 1)) = nI (cntN nv kk_16 (nv kk_16) + 1) from by first | rfl | exact nI_add _ 1 | (rw [show cntN nv kk_16 (nv kk_16) = 0 from by rcases hr43 with z | ⟨a, z, _⟩; exact z.1; rw [c_58] at z; cases z]; rfl)] at hbv
          refine mx_bq w (va_runV (As := [.ref q53, .ref q72]) (rest := []) X (ct_Mput l G A _ M1 ta (cntN nv kk_16) q53 q72 (cntN nv kk_16 (nv kk_16) + 1) (nv kk_16) hMp hb53 hbv (by omega)) (cwV 2 X.2.2.2.2 (lw_V q1251 q1252 q1253 q127 q1254) rfl rfl rfl (by decide +kernel) ⟨by rw [hRf]; decide, by rw [hRl]; decide⟩) (mx_preV w rfl hMp.cell.choose_spec rfl) rfl rfl hl.1 rfl (lv_room (Nat.le_of_ble_eq_true rfl)) dX1_middle_75 ⟨by rw [hRc]; omega, by rw [hRs]; omega⟩) (fun r75 M9 H locs hp w => ?_)
          obtain ⟨hMp, hKe, hr75⟩ := hp
          rw [cntN_s] at hMp
          have hIt := hKe _ _ hIt (fun fs e => by cases e) (fun fs e => by cases e)
          refine mx_boxcastQ X w q738 hr75 dX1_middle_78 ?_
          refine mx_astoreQ (lv' := [(4, va_rf r75), (3, .int (nv kk_16)), (2, .ref it), (1, .ref ta), (0, .ref sa)]) hx hb dX1_middle_81 hl (by decide) (by first | rfl | (simp only [List.filter, va_rf_cat]; rfl)) (fun ls hl => ?_)
          refine lv_goto (tgt := 16) hx hb dX1_middle_83 (by decide) ?_
          refine W.widen (k := (2 + 4 * (kk_16 + 1))) (n := (13 + 9 * (kk_16 + 1))) (by omega) (by omega) ?_
          exact ih_16 (kk_16 + 1) _ H locs ls (by first | omega | assumption | exact hlt) (by first | omega | assumption | exact hMp) (by first | omega | assumption | exact ⟨_, hIt⟩) (by first | omega | assumption) (lv_sub hl [2, 3, 4] rfl) w trivial
        · skip
          refine lv_iconst (v := (1 : Int32)) hx hb dX1_middle_61 (by decide) ?_
          refine lv_goto (tgt := 72) hx hb dX1_middle_62 (by decide) ?_
          refine mx_bq w (va_runS (As := [.int (1 : Int32)]) (rest := [.ref q53, .ref ta]) X (ct_valueOf l G A _ (1 : Int32)) (va_cwS 1 X.2.2.2.2 (lw_S q743 q744 q124 q745) rfl rfl rfl (by decide +kernel) ⟨by rw [hRf]; decide, by rw [hRl]; decide⟩) (mx_preS w rfl) rfl rfl hl.1 rfl (lv_room (Nat.le_of_ble_eq_true rfl)) dX1_middle_72 ⟨by rw [hRc]; omega, by rw [hRs]; omega⟩) (fun r M9 H locs hp w => ?_)
          obtain ⟨q72, eR, hb72, he72⟩ := hp; subst eR
          have hMp := hMp.ext he72
          have hIt := (he72 _ (by rw [hIt]; exact fun e => by cases e)).trans hIt
          have hb53 := hb53.ext he72
          have hbv := hb72
          rw [show (1 : Int32) = nI (cntN nv kk_16 (nv kk_16) + 1) from by first | rfl | exact nI_add _ 1 | (rw [show cntN nv kk_16 (nv kk_16) = 0 from by rcases hr43 with z | ⟨a, z, _⟩; exact z.1; rw [c_58] at z; cases z]; rfl)] at hbv
          refine mx_bq w (va_runV (As := [.ref q53, .ref q72]) (rest := []) X (ct_Mput l G A _ M1 ta (cntN nv kk_16) q53 q72 (cntN nv kk_16 (nv kk_16) + 1) (nv kk_16) hMp hb53 hbv (by omega)) (cwV 2 X.2.2.2.2 (lw_V q1251 q1252 q1253 q127 q1254) rfl rfl rfl (by decide +kernel) ⟨by rw [hRf]; decide, by rw [hRl]; decide⟩) (mx_preV w rfl hMp.cell.choose_spec rfl) rfl rfl hl.1 rfl (lv_room (Nat.le_of_ble_eq_true rfl)) dX1_middle_75 ⟨by rw [hRc]; omega, by rw [hRs]; omega⟩) (fun r75 M9 H locs hp w => ?_)
          obtain ⟨hMp, hKe, hr75⟩ := hp
          rw [cntN_s] at hMp
          have hIt := hKe _ _ hIt (fun fs e => by cases e) (fun fs e => by cases e)
          refine mx_boxcastQ X w q738 hr75 dX1_middle_78 ?_
          refine mx_astoreQ (lv' := [(4, va_rf r75), (3, .int (nv kk_16)), (2, .ref it), (1, .ref ta), (0, .ref sa)]) hx hb dX1_middle_81 hl (by decide) (by first | rfl | (simp only [List.filter, va_rf_cat]; rfl)) (fun ls hl => ?_)
          refine lv_goto (tgt := 16) hx hb dX1_middle_83 (by decide) ?_
          refine W.widen (k := (2 + 4 * (kk_16 + 1))) (n := (13 + 9 * (kk_16 + 1))) (by omega) (by omega) ?_
          exact ih_16 (kk_16 + 1) _ H locs ls (by first | omega | assumption | exact hlt) (by first | omega | assumption | exact hMp) (by first | omega | assumption | exact ⟨_, hIt⟩) (by first | omega | assumption) (lv_sub hl [2, 3, 4] rfl) w trivial
  exact L16 (nn + 1) 0 _ H locs ls (by first | omega | assumption | exact (Nat.zero_le _)) (by first | omega | assumption | exact hMp) (by first | omega | assumption | exact ⟨-1, hIt⟩) (by first | omega | assumption) (lv_sub hl [0, 1, 2] rfl) w trivial
