set_option maxRecDepth 100000
/-! WT: the stages walked, as claims of the walk alone -/
set_option maxHeartbeats 4000000 in
set_option maxRecDepth 100000 in
theorem wt_go1 (l : Launch) (G : mg) (A : Nat → Prop) (ad : Nat → Nat) (np ng : Nat) (M0 : mh) (f : Nat → Int32)  (T nz : Nat) (hz0 : zOk ng f) : mxB l yX12_go cX12_go 5 ({ frames := 3, cells := 0, slots := 0, locals := 64 }) (fun M => Sta G ad np ng M0 M f) [.ref (G.2 (10 + 0)), .ref (ad 0)] G A (fun p e R s m av below meth c Q => ∀ (M : mh) (H : Heap) (locs : List Loc) (ls : Array Slot) (pc : Nat), decode cX12_go pc = .ok (.return_, 1) → (fun M => Sta G ad np ng M0 M (cf_go1 f)) M → mW G A s M H locs → W p l e R s m av below meth c H locs 0 0 Q (F0 m pc ls [])) := by
  intro p e R s m av below meth c M H Q ls X hRf hRl hRc hRs hin hM w fin hl
  have X : CallFix p m c cX12_go 5 s av lw_all "FieldPumps$Stage$1" := X
  have hx := X.1
  have hb := X.2.1
  have hl : lv_has ls 5 [(0, .ref (G.2 (10 + 0))), (1, .ref (ad 0))] := hl
  have hRf : R.frames = 3 := hRf
  have hRl : R.locals = 64 := hRl
  have hRc : R.cells = 0 := hRc
  have hRs : R.slots = 0 := hRs
  have hcp := hM.cnp
  have hn6 := hM.n6
  have hg8 := hM.g8
  have hcg := hM.cng
  generalize ([] : List Loc) = locs at w ⊢
  generalize E : cf_go1 f = z at fin
  rw [cf_go1] at E
  refine lv_aload_n hx hb dX12_go_0 rfl (lv_at hl 1 rfl) ?_
  refine lv_dup hx hb dX12_go_1 rfl ?_
  refine mx_getN (v := .int (f 0)) X w in_X1 (ci := 1) rfl 18 (by decide) (w.tblB q325 rfl rfl) (fun _ h => h) hM.st rfl dX12_go_2 ?_
  refine lv_iconst (v := (1 : Int32)) hx hb dX12_go_5 (by decide) ?_
  refine lv_iadd hx hb dX12_go_6 ?_
  refine st_putN (x := ((f 0) + (1 : Int32))) X w hM 18 0 (w.tblB q325 rfl rfl) rfl rfl rfl rfl rfl (stOk_lit rfl) dX12_go_7 (fun M H locs w hM => ?_)
  refine lv_aload_n hx hb dX12_go_10 rfl (lv_at hl 1 rfl) ?_
  refine mx_getN (v := .int ((upd f 0 ((f 0) + (1 : Int32))) 0)) X w in_X1 (ci := 1) rfl 18 (by decide) (w.tblB q325 rfl rfl) (fun _ h => h) hM.st rfl dX12_go_11 ?_
  refine lv_sipush (v := (1440 : Int32)) hx hb dX12_go_14 (by decide) ?_
  refine lv_irem hx hb dX12_go_17 (by decide) ?_
  refine lv_istore_n (lv' := [(2, .int (((upd f 0 ((f 0) + (1 : Int32))) 0) - ((upd f 0 ((f 0) + (1 : Int32))) 0) / (1440 : Int32) * (1440 : Int32))), (0, .ref (G.2 (10 + 0))), (1, .ref (ad 0))]) hx hb dX12_go_18 rfl hl (by decide) rfl (fun ls hl => ?_)
  refine lv_iconst (v := (0 : Int32)) hx hb dX12_go_19 (by decide) ?_
  refine lv_istore_n (lv' := [(3, .int (0 : Int32)), (2, .int (((upd f 0 ((f 0) + (1 : Int32))) 0) - ((upd f 0 ((f 0) + (1 : Int32))) 0) / (1440 : Int32) * (1440 : Int32))), (0, .ref (G.2 (10 + 0))), (1, .ref (ad 0))]) hx hb dX12_go_20 rfl hl (by decide) rfl (fun ls hl => ?_)
  have L21 : ∀ (n_21 : Nat) (n3_21 : Nat) (f_21 : (Nat → Int32)) (M : mh) (H : Heap) (locs : List Loc) (ls : Array Slot), (hz : zOk ng f_21) → (hi : n3_21 ≤ ng) → (hm : ng < n3_21 + n_21) → cf_go1_21 f n_21 n3_21 f_21 = z → lv_has ls 5 [(2, .int (((upd f 0 ((f 0) + (1 : Int32))) 0) - ((upd f 0 ((f 0) + (1 : Int32))) 0) / (1440 : Int32) * (1440 : Int32))), (1, .ref (ad 0)), (3, .int (nI n3_21))] → mW G A s M H locs → Sta G ad np ng M0 M f_21 → W p l e R s m av below meth c H locs 0 0 Q (F0 m 21 ls []) := by
    intro n_21
    induction n_21 with
    | zero =>
      intro n3_21 f_21 M H locs ls hz hi hm E hl w hM
      have hcp := hM.cnp
      have hcg := hM.cng
      exfalso; omega
    | succ n_21 ih_21 =>
      intro n3_21 f_21 M H locs ls hz hi hm E hl w hM
      have hcp := hM.cnp
      have hcg := hM.cng
      rw [cf_go1_21] at E
      refine lv_iload_n hx hb dX12_go_21 rfl (lv_at hl 2 rfl) ?_
      refine lv_aload_n hx hb dX12_go_22 rfl (lv_at hl 1 rfl) ?_
      refine mx_getN (v := .ref (ad 3)) X w in_X1 (ci := 1) rfl 1 (by decide) (w.tblB q289 rfl rfl) (fun _ h => h) hM.st rfl dX12_go_23 ?_
      refine mx_bi w (va_runV (As := []) (rest := [.int (nI n3_21)]) X (ct_gsize l G A ad np ng M0 M f_21  hM ) (cwV 0 X.2.2.2.2 (lw_V q871 q275 q276 q100 q277) rfl rfl rfl (by decide +kernel) ⟨by rw [hRf]; decide, by rw [hRl]; decide⟩) (mx_preV w rfl hM.gl rfl) rfl rfl hl.1 rfl (lv_room (Nat.le_of_ble_eq_true rfl)) dX12_go_26 ⟨Nat.zero_le _, Nat.zero_le _⟩) (fun r M9 H locs hp w => ?_)
      obtain ⟨rfl, eM⟩ := hp; subst M9
      refine mx_nge (u := n3_21) (v := (nC f_21 16)) (tgt := 93) hx hb rfl rfl (by omega) (by omega) dX12_go_29 (by decide) (fun c_29 => ?_) (fun c_29 => ?_)
      · rw [if_pos c_29] at E
        exact fin M H locs ls 93 dX12_go_93 (by rw [← E]; exact hM) w
      · rw [if_neg c_29] at E
        refine lv_aload_n hx hb dX12_go_32 rfl (lv_at hl 1 rfl) ?_
        refine mx_getN (v := .ref (ad 3)) X w in_X1 (ci := 1) rfl 1 (by decide) (w.tblB q289 rfl rfl) (fun _ h => h) hM.st rfl dX12_go_33 ?_
        refine lv_iload_n hx hb dX12_go_36 rfl (lv_at hl 2 rfl) ?_
        refine mx_bq w (va_runV (As := [.int (nI n3_21)]) (rest := []) X (ct_gget l G A ad np ng M0 M f_21 n3_21 hM (by first | omega | assumption)) (cwV 1 X.2.2.2.2 (lw_V q872 q248 q249 q100 q250) rfl rfl rfl (by decide +kernel) ⟨by rw [hRf]; decide, by rw [hRl]; decide⟩) (mx_preV w rfl hM.gl rfl) rfl rfl hl.1 rfl (lv_room (Nat.le_of_ble_eq_true rfl)) dX12_go_37 ⟨Nat.zero_le _, Nat.zero_le _⟩) (fun r M9 H locs hp w => ?_)
        obtain ⟨rfl, eM⟩ := hp; subst M9
        refine mx_castM X w (ci := 7) q873 rfl (hM.pg (by first | omega | assumption)) dX12_go_40 ?_
        refine lv_astore (lv' := [(4, .ref (ad (32 + n3_21))), (2, .int (((upd f 0 ((f 0) + (1 : Int32))) 0) - ((upd f 0 ((f 0) + (1 : Int32))) 0) / (1440 : Int32) * (1440 : Int32))), (1, .ref (ad 0)), (3, .int (nI n3_21))]) hx hb dX12_go_43 hl (by decide) rfl (fun ls hl => ?_)
        refine lv_aload hx hb dX12_go_45 (lv_at hl 0 rfl) ?_
        refine mx_getN (v := .int (f_21 (103 + (3 * n3_21) + 1))) X w in_X9 (ci := 7) rfl 1 (by decide) (w.tblB q1643 rfl rfl) (fun _ h => h) (hM.pg (by first | omega | assumption)) rfl dX12_go_47 ?_
        refine lv_iload_n hx hb dX12_go_50 rfl (lv_at hl 1 rfl) ?_
        have J87 : ∀ (f_87 : (Nat → Int32)) (M : mh) (H : Heap) (locs : List Loc) (ls : Array Slot), (hz87 : zOk ng f_87) → cf_go1_87 f (cf_go1_21 f n_21) n3_21 f_21 f_87 = z → lv_has ls 5 [(2, .int (((upd f 0 ((f 0) + (1 : Int32))) 0) - ((upd f 0 ((f 0) + (1 : Int32))) 0) / (1440 : Int32) * (1440 : Int32))), (1, .ref (ad 0)), (3, .int (nI n3_21))] → mW G A s M H locs → Sta G ad np ng M0 M f_87 → W p l e R s m av below meth c H locs 0 0 Q (F0 m 87 ls []) := by
          intro f_87 M H locs ls hz87 E hl w hM
          have hcp := hM.cnp
          have hcg := hM.cng
          rw [cf_go1_87] at E
          refine lv_iinc (v := (nI (n3_21 + 1))) (lv' := [(3, .int (nI (n3_21 + 1))), (2, .int (((upd f 0 ((f 0) + (1 : Int32))) 0) - ((upd f 0 ((f 0) + (1 : Int32))) 0) / (1440 : Int32) * (1440 : Int32))), (1, .ref (ad 0))]) hx hb dX12_go_87 hl (k := 2) rfl (nI_incr _ 1) (by decide) rfl (fun ls hl => ?_)
          refine lv_goto (tgt := 21) hx hb dX12_go_90 (by decide) ?_
          exact ih_21 (n3_21 + 1) f_87 M H locs ls (by first | omega | assumption | exact hz87) (by first | omega | assumption) (by first | omega | assumption) E (lv_sub hl [1, 2, 0] rfl) w hM
        have J63 : ∀  (M : mh) (H : Heap) (locs : List Loc) (ls : Array Slot), cf_go1_63 f (cf_go1_21 f n_21) n3_21 f_21  = z → lv_has ls 5 [(4, .ref (ad (32 + n3_21))), (2, .int (((upd f 0 ((f 0) + (1 : Int32))) 0) - ((upd f 0 ((f 0) + (1 : Int32))) 0) / (1440 : Int32) * (1440 : Int32))), (1, .ref (ad 0)), (3, .int (nI n3_21))] → mW G A s M H locs → Sta G ad np ng M0 M f_21 → W p l e R s m av below meth c H locs 0 0 Q (F0 m 63 ls []) := by
          intro  M H locs ls  E hl w hM
          have hcp := hM.cnp
          have hcg := hM.cng
          rw [cf_go1_63] at E
          refine lv_aload_n hx hb dX12_go_63 rfl (lv_at hl 2 rfl) ?_
          refine mx_getN (v := .ref (ad 12)) X w in_X1 (ci := 1) rfl 9 (by decide) (w.tblB q305 rfl rfl) (fun _ h => h) hM.st rfl dX12_go_64 ?_
          refine lv_aload hx hb dX12_go_67 (lv_at hl 0 rfl) ?_
          refine mx_getN (v := .int (f_21 (103 + (3 * n3_21)))) X w in_X9 (ci := 7) rfl 0 (by decide) (w.tblB q1640 rfl rfl) (fun _ h => h) (hM.pg (by first | omega | assumption)) rfl dX12_go_69 ?_
          refine mx_cast (z := nI ((tN (f_21 (103 + (3 * n3_21)))))) (ze (hz _ (by omega))) ?_
          refine lv_aload hx hb dX12_go_72 (lv_at hl 0 rfl) ?_
          refine mx_getN (v := .int (f_21 (103 + (3 * n3_21) + 1))) X w in_X9 (ci := 7) rfl 1 (by decide) (w.tblB q1643 rfl rfl) (fun _ h => h) (hM.pg (by first | omega | assumption)) rfl dX12_go_74 ?_
          refine lv_iload_n hx hb dX12_go_77 rfl (lv_at hl 1 rfl) ?_
          have J86 : ∀ (bs0_86 : Bool) (M : mh) (H : Heap) (locs : List Loc) (ls : Array Slot), cf_go1_86 f (cf_go1_21 f n_21) n3_21 f_21 bs0_86 = z → lv_has ls 5 [(2, .int (((upd f 0 ((f 0) + (1 : Int32))) 0) - ((upd f 0 ((f 0) + (1 : Int32))) 0) / (1440 : Int32) * (1440 : Int32))), (1, .ref (ad 0)), (3, .int (nI n3_21))] → mW G A s M H locs → Sta G ad np ng M0 M f_21 → W p l e R s m av below meth c H locs 0 0 Q (F0 m 86 ls [.int (bI bs0_86), .int (nI (tN (f_21 (103 + (3 * n3_21))))), .ref (ad 12)]) := by
            intro bs0_86 M H locs ls  E hl w hM
            have hcp := hM.cnp
            have hcg := hM.cng
            rw [cf_go1_86] at E
            refine mx_zast (x := (bI bs0_86)) X w hM.a12 (tN (f_21 (103 + (3 * n3_21)))) (show (tN (f_21 (103 + (3 * n3_21)))) < 8 from zl (hz _ (by omega))) (by decide) (bI_v _) dX12_go_86 (fun H locs w => ?_)
            have hM : Sta G ad np ng M0 _ (upd f_21 (87 + (2 * (tN (f_21 (103 + (3 * n3_21))))) + 1) (bI bs0_86)) := hM.set12 (show (tN (f_21 (103 + (3 * n3_21)))) < 8 from zl (hz _ (by omega))) (bI bs0_86)
            refine st_gen w hM (fun M w hM => ?_)
            exact J87 (upd f_21 (87 + (2 * (tN (f_21 (103 + (3 * n3_21))))) + 1) (bI bs0_86)) M H locs ls (by first | exact hz.up (by have := zl (hz _ (show n3_21 < ng by omega)); omega) | exact hz) E (lv_sub hl [0, 1, 2] rfl) w hM
          refine lv_icmp_ne (tgt := 85) hx hb dX12_go_78 (by decide) (fun c_78 => ?_) (fun c_78 => ?_)
          · rw [if_neg c_78] at E
            refine lv_iconst (v := (0 : Int32)) hx hb dX12_go_85 (by decide) ?_
            exact J86 false M H locs ls E (lv_sub hl [1, 2, 3] rfl) w hM
          · rw [if_pos c_78] at E
            refine lv_iconst (v := (1 : Int32)) hx hb dX12_go_81 (by decide) ?_
            refine lv_goto (tgt := 86) hx hb dX12_go_82 (by decide) ?_
            exact J86 true M H locs ls E (lv_sub hl [1, 2, 3] rfl) w hM
        refine lv_icmp_eq (tgt := 63) hx hb dX12_go_51 (by decide) (fun c_51 => ?_) (fun c_51 => ?_)
        · rw [if_pos c_51] at E
          exact J63  M H locs ls E (lv_sub hl [0, 1, 2, 3] rfl) w hM
        · rw [if_neg c_51] at E
          refine lv_aload hx hb dX12_go_54 (lv_at hl 0 rfl) ?_
          refine mx_getN (v := .int (f_21 (103 + (3 * n3_21) + 2))) X w in_X9 (ci := 7) rfl 2 (by decide) (w.tblB q1645 rfl rfl) (fun _ h => h) (hM.pg (by first | omega | assumption)) rfl dX12_go_56 ?_
          refine lv_iload_n hx hb dX12_go_59 rfl (lv_at hl 1 rfl) ?_
          refine lv_icmp_ne (tgt := 87) hx hb dX12_go_60 (by decide) (fun c_60 => ?_) (fun c_60 => ?_)
          · rw [if_neg c_60] at E
            exact J87 f_21 M H locs ls (by first | exact hz.up (by have := zl (hz _ (show n3_21 < ng by omega)); omega) | exact hz) E (lv_sub hl [1, 2, 3] rfl) w hM
          · rw [if_pos c_60] at E
            exact J63  M H locs ls E (lv_sub hl [0, 1, 2, 3] rfl) w hM
  exact L21 9 0 (upd f 0 ((f 0) + (1 : Int32))) M H locs ls (by first | omega | assumption | exact (hz0.up (by decide))) (by first | omega | assumption) (by first | omega | assumption) E (lv_sub hl [1, 3, 0] rfl) w hM
set_option maxHeartbeats 4000000 in
set_option maxRecDepth 100000 in
theorem wt_go2 (l : Launch) (G : mg) (A : Nat → Prop) (ad : Nat → Nat) (np ng : Nat) (M0 : mh) (f : Nat → Int32)  (T nz : Nat) (hS : SI T np nz ng f) : mxB l yX15_go cX15_go 4 ({ frames := 5, cells := 0, slots := 0, locals := 112 }) (fun M => Sta G ad np ng M0 M f) [.ref (G.2 (10 + 1)), .ref (ad 0)] G A (fun p e R s m av below meth c Q => ∀ (M : mh) (H : Heap) (locs : List Loc) (ls : Array Slot) (pc : Nat), decode cX15_go pc = .ok (.return_, 1) → (fun M => Sta G ad np ng M0 M (cf_go2 f)) M → mW G A s M H locs → W p l e R s m av below meth c H locs 0 0 Q (F0 m pc ls [])) := by
  intro p e R s m av below meth c M H Q ls X hRf hRl hRc hRs hin hM w fin hl
  have X : CallFix p m c cX15_go 4 s av lw_all "FieldPumps$Stage$2" := X
  have hx := X.1
  have hb := X.2.1
  have hl : lv_has ls 4 [(0, .ref (G.2 (10 + 1))), (1, .ref (ad 0))] := hl
  have hRf : R.frames = 5 := hRf
  have hRl : R.locals = 112 := hRl
  have hRc : R.cells = 0 := hRc
  have hRs : R.slots = 0 := hRs
  have hcp := hM.cnp
  have hn6 := hM.n6
  have hg8 := hM.g8
  generalize ([] : List Loc) = locs at w ⊢
  generalize E : cf_go2 f = z at fin
  rw [cf_go2] at E
  refine lv_aload_n hx hb dX15_go_0 rfl (lv_at hl 1 rfl) ?_
  refine mx_getN (v := .int (f 1)) X w in_X1 (ci := 1) rfl 19 (by decide) (w.tblB q328 rfl rfl) (fun _ h => h) hM.st rfl dX15_go_1 ?_
  refine lv_istore_n (lv' := [(2, .int (f 1)), (0, .ref (G.2 (10 + 1))), (1, .ref (ad 0))]) hx hb dX15_go_4 rfl hl (by decide) rfl (fun ls hl => ?_)
  refine lv_aload_n hx hb dX15_go_5 rfl (lv_at hl 2 rfl) ?_
  refine lv_aload_n hx hb dX15_go_6 rfl (lv_at hl 2 rfl) ?_
  refine mx_getN (v := .int (f 2)) X w in_X1 (ci := 1) rfl 20 (by decide) (w.tblB q332 rfl rfl) (fun _ h => h) hM.st rfl dX15_go_7 ?_
  refine lv_aload_n hx hb dX15_go_10 rfl (lv_at hl 2 rfl) ?_
  refine mx_bi w (va_runVN (As := []) (rest := [.int (f 2), .ref (ad 0)]) X (ct_flow l G A ad np ng M0 M f  hM (cv_all hS.ip)) ⟨va_cnB 0 X.2.2.2.2 (lw_meth q880) rfl rfl rfl (w.tbl q877 rfl) (X.2.2.2.2 _ q97) (by decide +kernel) ⟨by rw [hRf]; decide, by rw [hRl]; decide⟩, X.2.2.2.2 _ q879, X.2.2.2.2 _ qs10⟩ (mx_preV w rfl hM.st rfl) rfl rfl hl.1 rfl (lv_room (Nat.le_of_ble_eq_true rfl)) dX15_go_11 ⟨Nat.zero_le _, Nat.zero_le _⟩) (fun r M9 H locs hp w => ?_)
  obtain ⟨rfl, eM⟩ := hp; subst M9
  refine va_mmin hx hb (X.2.2.1.trans hl.1.symm) X.2.2.2.1 (X.2.2.2.2 _ q889) (X.2.2.2.2 _ q729) (X.2.2.2.2 _ q120) (X.2.2.2.2 _ q730) (by rw [hRf]; decide) (by rw [hRl]; exact Nat.le_of_ble_eq_true rfl) (Nat.zero_le _) (Nat.zero_le _) dX15_go_14 ?_
  refine mx_cast (z := (jmin (f 2) (cf_flow f ))) rfl ?_
  refine st_putN (x := (jmin (f 2) (cf_flow f ))) X w hM 23 3 (w.tblB q339 rfl rfl) rfl rfl rfl rfl rfl (stOk_lit rfl) dX15_go_17 (fun M H locs w hM => ?_)
  refine lv_aload_n hx hb dX15_go_20 rfl (lv_at hl 2 rfl) ?_
  refine lv_dup hx hb dX15_go_21 rfl ?_
  refine mx_getN (v := .int ((upd f 3 (jmin (f 2) (cf_flow f ))) 13)) X w in_X1 (ci := 1) rfl 24 (by decide) (w.tblB q343 rfl rfl) (fun _ h => h) hM.st rfl dX15_go_22 ?_
  refine lv_aload_n hx hb dX15_go_25 rfl (lv_at hl 2 rfl) ?_
  refine mx_getN (v := .int ((upd f 3 (jmin (f 2) (cf_flow f ))) 3)) X w in_X1 (ci := 1) rfl 23 (by decide) (w.tblB q339 rfl rfl) (fun _ h => h) hM.st rfl dX15_go_26 ?_
  refine lv_iadd hx hb dX15_go_29 ?_
  refine st_putN (x := (((upd f 3 (jmin (f 2) (cf_flow f ))) 13) + ((upd f 3 (jmin (f 2) (cf_flow f ))) 3))) X w hM 24 13 (w.tblB q343 rfl rfl) rfl rfl rfl rfl rfl (stOk_lit rfl) dX15_go_30 (fun M H locs w hM => ?_)
  refine lv_aload_n hx hb dX15_go_33 rfl (lv_at hl 2 rfl) ?_
  refine lv_sipush (v := (20000 : Int32)) hx hb dX15_go_34 (by decide) ?_
  refine lv_aload_n hx hb dX15_go_37 rfl (lv_at hl 2 rfl) ?_
  refine mx_getN (v := .int ((upd (upd f 3 (jmin (f 2) (cf_flow f ))) 13 (((upd f 3 (jmin (f 2) (cf_flow f ))) 13) + ((upd f 3 (jmin (f 2) (cf_flow f ))) 3))) 2)) X w in_X1 (ci := 1) rfl 20 (by decide) (w.tblB q332 rfl rfl) (fun _ h => h) hM.st rfl dX15_go_38 ?_
  refine lv_aload_n hx hb dX15_go_41 rfl (lv_at hl 2 rfl) ?_
  refine mx_getN (v := .int ((upd (upd f 3 (jmin (f 2) (cf_flow f ))) 13 (((upd f 3 (jmin (f 2) (cf_flow f ))) 13) + ((upd f 3 (jmin (f 2) (cf_flow f ))) 3))) 3)) X w in_X1 (ci := 1) rfl 23 (by decide) (w.tblB q339 rfl rfl) (fun _ h => h) hM.st rfl dX15_go_42 ?_
  refine lv_isub hx hb dX15_go_45 ?_
  refine lv_aload_n hx hb dX15_go_46 rfl (lv_at hl 2 rfl) ?_
  refine mx_getN (v := .ref (ad 13)) X w in_X1 (ci := 1) rfl 10 (by decide) (w.tblB q310 rfl rfl) (fun _ h => h) hM.st rfl dX15_go_47 ?_
  refine lv_bipush (v := (14 : Int32)) hx hb dX15_go_50 (by decide) ?_
  refine mx_iald2 X w hM.a13 14 (show 14 < 19 from by decide) (by decide) (if_pos (show 14 < 19 from by decide)) dX15_go_52 ?_
  refine lv_iadd hx hb dX15_go_53 ?_
  refine va_mmin hx hb (X.2.2.1.trans hl.1.symm) X.2.2.2.1 (X.2.2.2.2 _ q889) (X.2.2.2.2 _ q729) (X.2.2.2.2 _ q120) (X.2.2.2.2 _ q730) (by rw [hRf]; decide) (by rw [hRl]; exact Nat.le_of_ble_eq_true rfl) (Nat.zero_le _) (Nat.zero_le _) dX15_go_54 ?_
  refine mx_cast (z := (jmin (20000 : Int32) ((((upd (upd f 3 (jmin (f 2) (cf_flow f ))) 13 (((upd f 3 (jmin (f 2) (cf_flow f ))) 13) + ((upd f 3 (jmin (f 2) (cf_flow f ))) 3))) 2) - ((upd (upd f 3 (jmin (f 2) (cf_flow f ))) 13 (((upd f 3 (jmin (f 2) (cf_flow f ))) 13) + ((upd f 3 (jmin (f 2) (cf_flow f ))) 3))) 3)) + ((upd (upd f 3 (jmin (f 2) (cf_flow f ))) 13 (((upd f 3 (jmin (f 2) (cf_flow f ))) 13) + ((upd f 3 (jmin (f 2) (cf_flow f ))) 3))) 34)))) rfl ?_
  refine st_putN (x := (jmin (20000 : Int32) ((((upd (upd f 3 (jmin (f 2) (cf_flow f ))) 13 (((upd f 3 (jmin (f 2) (cf_flow f ))) 13) + ((upd f 3 (jmin (f 2) (cf_flow f ))) 3))) 2) - ((upd (upd f 3 (jmin (f 2) (cf_flow f ))) 13 (((upd f 3 (jmin (f 2) (cf_flow f ))) 13) + ((upd f 3 (jmin (f 2) (cf_flow f ))) 3))) 3)) + ((upd (upd f 3 (jmin (f 2) (cf_flow f ))) 13 (((upd f 3 (jmin (f 2) (cf_flow f ))) 13) + ((upd f 3 (jmin (f 2) (cf_flow f ))) 3))) 34)))) X w hM 20 2 (w.tblB q332 rfl rfl) rfl rfl rfl rfl rfl (stOk_lit rfl) dX15_go_57 (fun M H locs w hM => ?_)
  refine lv_aload_n hx hb dX15_go_60 rfl (lv_at hl 2 rfl) ?_
  refine mx_getN (v := .int ((upd (upd (upd f 3 (jmin (f 2) (cf_flow f ))) 13 (((upd f 3 (jmin (f 2) (cf_flow f ))) 13) + ((upd f 3 (jmin (f 2) (cf_flow f ))) 3))) 2 (jmin (20000 : Int32) ((((upd (upd f 3 (jmin (f 2) (cf_flow f ))) 13 (((upd f 3 (jmin (f 2) (cf_flow f ))) 13) + ((upd f 3 (jmin (f 2) (cf_flow f ))) 3))) 2) - ((upd (upd f 3 (jmin (f 2) (cf_flow f ))) 13 (((upd f 3 (jmin (f 2) (cf_flow f ))) 13) + ((upd f 3 (jmin (f 2) (cf_flow f ))) 3))) 3)) + ((upd (upd f 3 (jmin (f 2) (cf_flow f ))) 13 (((upd f 3 (jmin (f 2) (cf_flow f ))) 13) + ((upd f 3 (jmin (f 2) (cf_flow f ))) 3))) 34)))) 3)) X w in_X1 (ci := 1) rfl 23 (by decide) (w.tblB q339 rfl rfl) (fun _ h => h) hM.st rfl dX15_go_61 ?_
  refine lv_aload_n hx hb dX15_go_64 rfl (lv_at hl 2 rfl) ?_
  refine lv_iload_n hx hb dX15_go_65 rfl (lv_at hl 0 rfl) ?_
  refine mx_bi w (va_runV (As := [.int (f 1)]) (rest := [.int ((upd (upd (upd f 3 (jmin (f 2) (cf_flow f ))) 13 (((upd f 3 (jmin (f 2) (cf_flow f ))) 13) + ((upd f 3 (jmin (f 2) (cf_flow f ))) 3))) 2 (jmin (20000 : Int32) ((((upd (upd f 3 (jmin (f 2) (cf_flow f ))) 13 (((upd f 3 (jmin (f 2) (cf_flow f ))) 13) + ((upd f 3 (jmin (f 2) (cf_flow f ))) 3))) 2) - ((upd (upd f 3 (jmin (f 2) (cf_flow f ))) 13 (((upd f 3 (jmin (f 2) (cf_flow f ))) 13) + ((upd f 3 (jmin (f 2) (cf_flow f ))) 3))) 3)) + ((upd (upd f 3 (jmin (f 2) (cf_flow f ))) 13 (((upd f 3 (jmin (f 2) (cf_flow f ))) 13) + ((upd f 3 (jmin (f 2) (cf_flow f ))) 3))) 34)))) 3)]) X (ct_demand l G A ad np ng M0 M (upd (upd (upd f 3 (jmin (f 2) (cf_flow f ))) 13 (((upd f 3 (jmin (f 2) (cf_flow f ))) 13) + ((upd f 3 (jmin (f 2) (cf_flow f ))) 3))) 2 (jmin (20000 : Int32) ((((upd (upd f 3 (jmin (f 2) (cf_flow f ))) 13 (((upd f 3 (jmin (f 2) (cf_flow f ))) 13) + ((upd f 3 (jmin (f 2) (cf_flow f ))) 3))) 2) - ((upd (upd f 3 (jmin (f 2) (cf_flow f ))) 13 (((upd f 3 (jmin (f 2) (cf_flow f ))) 13) + ((upd f 3 (jmin (f 2) (cf_flow f ))) 3))) 3)) + ((upd (upd f 3 (jmin (f 2) (cf_flow f ))) 13 (((upd f 3 (jmin (f 2) (cf_flow f ))) 13) + ((upd f 3 (jmin (f 2) (cf_flow f ))) 3))) 34)))) (f 1) nz hM (by rw [pk_un (by decide), pk_un (by decide), pk_un (by decide)]; exact hS.ip.enz) (hS.ip.z8)) (cwV 1 X.2.2.2.2 (lw_V q890 q891 q892 q97 q893) rfl rfl rfl (by decide +kernel) ⟨by rw [hRf]; decide, by rw [hRl]; decide⟩) (mx_preV w rfl hM.st rfl) rfl rfl hl.1 rfl (lv_room (Nat.le_of_ble_eq_true rfl)) dX15_go_66 ⟨Nat.zero_le _, Nat.zero_le _⟩) (fun r M9 H locs hp w => ?_)
  obtain ⟨rfl, eM⟩ := hp; subst M9
  refine lv_isub hx hb dX15_go_69 ?_
  refine lv_aload_n hx hb dX15_go_70 rfl (lv_at hl 2 rfl) ?_
  refine mx_getN (v := .ref (ad 13)) X w in_X1 (ci := 1) rfl 10 (by decide) (w.tblB q310 rfl rfl) (fun _ h => h) hM.st rfl dX15_go_71 ?_
  refine lv_bipush (v := (10 : Int32)) hx hb dX15_go_74 (by decide) ?_
  refine mx_iald2 X w hM.a13 10 (show 10 < 19 from by decide) (by decide) (if_pos (show 10 < 19 from by decide)) dX15_go_76 ?_
  refine lv_idiv hx hb dX15_go_77 (by rw [pk_un (by decide), pk_un (by decide), pk_un (by decide)]; exact cap_nz hS.ip) ?_
  refine lv_istore_n (lv' := [(3, .int ((((upd (upd (upd f 3 (jmin (f 2) (cf_flow f ))) 13 (((upd f 3 (jmin (f 2) (cf_flow f ))) 13) + ((upd f 3 (jmin (f 2) (cf_flow f ))) 3))) 2 (jmin (20000 : Int32) ((((upd (upd f 3 (jmin (f 2) (cf_flow f ))) 13 (((upd f 3 (jmin (f 2) (cf_flow f ))) 13) + ((upd f 3 (jmin (f 2) (cf_flow f ))) 3))) 2) - ((upd (upd f 3 (jmin (f 2) (cf_flow f ))) 13 (((upd f 3 (jmin (f 2) (cf_flow f ))) 13) + ((upd f 3 (jmin (f 2) (cf_flow f ))) 3))) 3)) + ((upd (upd f 3 (jmin (f 2) (cf_flow f ))) 13 (((upd f 3 (jmin (f 2) (cf_flow f ))) 13) + ((upd f 3 (jmin (f 2) (cf_flow f ))) 3))) 34)))) 3) - (cf_demand (upd (upd (upd f 3 (jmin (f 2) (cf_flow f ))) 13 (((upd f 3 (jmin (f 2) (cf_flow f ))) 13) + ((upd f 3 (jmin (f 2) (cf_flow f ))) 3))) 2 (jmin (20000 : Int32) ((((upd (upd f 3 (jmin (f 2) (cf_flow f ))) 13 (((upd f 3 (jmin (f 2) (cf_flow f ))) 13) + ((upd f 3 (jmin (f 2) (cf_flow f ))) 3))) 2) - ((upd (upd f 3 (jmin (f 2) (cf_flow f ))) 13 (((upd f 3 (jmin (f 2) (cf_flow f ))) 13) + ((upd f 3 (jmin (f 2) (cf_flow f ))) 3))) 3)) + ((upd (upd f 3 (jmin (f 2) (cf_flow f ))) 13 (((upd f 3 (jmin (f 2) (cf_flow f ))) 13) + ((upd f 3 (jmin (f 2) (cf_flow f ))) 3))) 34)))) (f 1))) / ((upd (upd (upd f 3 (jmin (f 2) (cf_flow f ))) 13 (((upd f 3 (jmin (f 2) (cf_flow f ))) 13) + ((upd f 3 (jmin (f 2) (cf_flow f ))) 3))) 2 (jmin (20000 : Int32) ((((upd (upd f 3 (jmin (f 2) (cf_flow f ))) 13 (((upd f 3 (jmin (f 2) (cf_flow f ))) 13) + ((upd f 3 (jmin (f 2) (cf_flow f ))) 3))) 2) - ((upd (upd f 3 (jmin (f 2) (cf_flow f ))) 13 (((upd f 3 (jmin (f 2) (cf_flow f ))) 13) + ((upd f 3 (jmin (f 2) (cf_flow f ))) 3))) 3)) + ((upd (upd f 3 (jmin (f 2) (cf_flow f ))) 13 (((upd f 3 (jmin (f 2) (cf_flow f ))) 13) + ((upd f 3 (jmin (f 2) (cf_flow f ))) 3))) 34)))) 30))), (2, .int (f 1)), (0, .ref (G.2 (10 + 1))), (1, .ref (ad 0))]) hx hb dX15_go_78 rfl hl (by decide) rfl (fun ls hl => ?_)
  refine lv_aload_n hx hb dX15_go_79 rfl (lv_at hl 3 rfl) ?_
  refine lv_iconst (v := (0 : Int32)) hx hb dX15_go_80 (by decide) ?_
  refine lv_sipush (v := (2000 : Int32)) hx hb dX15_go_81 (by decide) ?_
  refine lv_iload_n hx hb dX15_go_84 rfl (lv_at hl 1 rfl) ?_
  refine lv_iload_n hx hb dX15_go_85 rfl (lv_at hl 0 rfl) ?_
  refine lv_iadd hx hb dX15_go_86 ?_
  refine va_mmin hx hb (X.2.2.1.trans hl.1.symm) X.2.2.2.1 (X.2.2.2.2 _ q889) (X.2.2.2.2 _ q729) (X.2.2.2.2 _ q120) (X.2.2.2.2 _ q730) (by rw [hRf]; decide) (by rw [hRl]; exact Nat.le_of_ble_eq_true rfl) (Nat.zero_le _) (Nat.zero_le _) dX15_go_87 ?_
  refine mx_cast (z := (jmin (2000 : Int32) ((f 1) + ((((upd (upd (upd f 3 (jmin (f 2) (cf_flow f ))) 13 (((upd f 3 (jmin (f 2) (cf_flow f ))) 13) + ((upd f 3 (jmin (f 2) (cf_flow f ))) 3))) 2 (jmin (20000 : Int32) ((((upd (upd f 3 (jmin (f 2) (cf_flow f ))) 13 (((upd f 3 (jmin (f 2) (cf_flow f ))) 13) + ((upd f 3 (jmin (f 2) (cf_flow f ))) 3))) 2) - ((upd (upd f 3 (jmin (f 2) (cf_flow f ))) 13 (((upd f 3 (jmin (f 2) (cf_flow f ))) 13) + ((upd f 3 (jmin (f 2) (cf_flow f ))) 3))) 3)) + ((upd (upd f 3 (jmin (f 2) (cf_flow f ))) 13 (((upd f 3 (jmin (f 2) (cf_flow f ))) 13) + ((upd f 3 (jmin (f 2) (cf_flow f ))) 3))) 34)))) 3) - (cf_demand (upd (upd (upd f 3 (jmin (f 2) (cf_flow f ))) 13 (((upd f 3 (jmin (f 2) (cf_flow f ))) 13) + ((upd f 3 (jmin (f 2) (cf_flow f ))) 3))) 2 (jmin (20000 : Int32) ((((upd (upd f 3 (jmin (f 2) (cf_flow f ))) 13 (((upd f 3 (jmin (f 2) (cf_flow f ))) 13) + ((upd f 3 (jmin (f 2) (cf_flow f ))) 3))) 2) - ((upd (upd f 3 (jmin (f 2) (cf_flow f ))) 13 (((upd f 3 (jmin (f 2) (cf_flow f ))) 13) + ((upd f 3 (jmin (f 2) (cf_flow f ))) 3))) 3)) + ((upd (upd f 3 (jmin (f 2) (cf_flow f ))) 13 (((upd f 3 (jmin (f 2) (cf_flow f ))) 13) + ((upd f 3 (jmin (f 2) (cf_flow f ))) 3))) 34)))) (f 1))) / ((upd (upd (upd f 3 (jmin (f 2) (cf_flow f ))) 13 (((upd f 3 (jmin (f 2) (cf_flow f ))) 13) + ((upd f 3 (jmin (f 2) (cf_flow f ))) 3))) 2 (jmin (20000 : Int32) ((((upd (upd f 3 (jmin (f 2) (cf_flow f ))) 13 (((upd f 3 (jmin (f 2) (cf_flow f ))) 13) + ((upd f 3 (jmin (f 2) (cf_flow f ))) 3))) 2) - ((upd (upd f 3 (jmin (f 2) (cf_flow f ))) 13 (((upd f 3 (jmin (f 2) (cf_flow f ))) 13) + ((upd f 3 (jmin (f 2) (cf_flow f ))) 3))) 3)) + ((upd (upd f 3 (jmin (f 2) (cf_flow f ))) 13 (((upd f 3 (jmin (f 2) (cf_flow f ))) 13) + ((upd f 3 (jmin (f 2) (cf_flow f ))) 3))) 34)))) 30))))) rfl ?_
  refine va_mmax hx hb (X.2.2.1.trans hl.1.symm) X.2.2.2.1 (X.2.2.2.2 _ q898) (X.2.2.2.2 _ q684) (X.2.2.2.2 _ q120) (X.2.2.2.2 _ q685) (by rw [hRf]; decide) (by rw [hRl]; exact Nat.le_of_ble_eq_true rfl) (Nat.zero_le _) (Nat.zero_le _) dX15_go_90 ?_
  refine mx_cast (z := (jmax (0 : Int32) (jmin (2000 : Int32) ((f 1) + ((((upd (upd (upd f 3 (jmin (f 2) (cf_flow f ))) 13 (((upd f 3 (jmin (f 2) (cf_flow f ))) 13) + ((upd f 3 (jmin (f 2) (cf_flow f ))) 3))) 2 (jmin (20000 : Int32) ((((upd (upd f 3 (jmin (f 2) (cf_flow f ))) 13 (((upd f 3 (jmin (f 2) (cf_flow f ))) 13) + ((upd f 3 (jmin (f 2) (cf_flow f ))) 3))) 2) - ((upd (upd f 3 (jmin (f 2) (cf_flow f ))) 13 (((upd f 3 (jmin (f 2) (cf_flow f ))) 13) + ((upd f 3 (jmin (f 2) (cf_flow f ))) 3))) 3)) + ((upd (upd f 3 (jmin (f 2) (cf_flow f ))) 13 (((upd f 3 (jmin (f 2) (cf_flow f ))) 13) + ((upd f 3 (jmin (f 2) (cf_flow f ))) 3))) 34)))) 3) - (cf_demand (upd (upd (upd f 3 (jmin (f 2) (cf_flow f ))) 13 (((upd f 3 (jmin (f 2) (cf_flow f ))) 13) + ((upd f 3 (jmin (f 2) (cf_flow f ))) 3))) 2 (jmin (20000 : Int32) ((((upd (upd f 3 (jmin (f 2) (cf_flow f ))) 13 (((upd f 3 (jmin (f 2) (cf_flow f ))) 13) + ((upd f 3 (jmin (f 2) (cf_flow f ))) 3))) 2) - ((upd (upd f 3 (jmin (f 2) (cf_flow f ))) 13 (((upd f 3 (jmin (f 2) (cf_flow f ))) 13) + ((upd f 3 (jmin (f 2) (cf_flow f ))) 3))) 3)) + ((upd (upd f 3 (jmin (f 2) (cf_flow f ))) 13 (((upd f 3 (jmin (f 2) (cf_flow f ))) 13) + ((upd f 3 (jmin (f 2) (cf_flow f ))) 3))) 34)))) (f 1))) / ((upd (upd (upd f 3 (jmin (f 2) (cf_flow f ))) 13 (((upd f 3 (jmin (f 2) (cf_flow f ))) 13) + ((upd f 3 (jmin (f 2) (cf_flow f ))) 3))) 2 (jmin (20000 : Int32) ((((upd (upd f 3 (jmin (f 2) (cf_flow f ))) 13 (((upd f 3 (jmin (f 2) (cf_flow f ))) 13) + ((upd f 3 (jmin (f 2) (cf_flow f ))) 3))) 2) - ((upd (upd f 3 (jmin (f 2) (cf_flow f ))) 13 (((upd f 3 (jmin (f 2) (cf_flow f ))) 13) + ((upd f 3 (jmin (f 2) (cf_flow f ))) 3))) 3)) + ((upd (upd f 3 (jmin (f 2) (cf_flow f ))) 13 (((upd f 3 (jmin (f 2) (cf_flow f ))) 13) + ((upd f 3 (jmin (f 2) (cf_flow f ))) 3))) 34)))) 30)))))) rfl ?_
  refine st_putN (x := (jmax (0 : Int32) (jmin (2000 : Int32) ((f 1) + ((((upd (upd (upd f 3 (jmin (f 2) (cf_flow f ))) 13 (((upd f 3 (jmin (f 2) (cf_flow f ))) 13) + ((upd f 3 (jmin (f 2) (cf_flow f ))) 3))) 2 (jmin (20000 : Int32) ((((upd (upd f 3 (jmin (f 2) (cf_flow f ))) 13 (((upd f 3 (jmin (f 2) (cf_flow f ))) 13) + ((upd f 3 (jmin (f 2) (cf_flow f ))) 3))) 2) - ((upd (upd f 3 (jmin (f 2) (cf_flow f ))) 13 (((upd f 3 (jmin (f 2) (cf_flow f ))) 13) + ((upd f 3 (jmin (f 2) (cf_flow f ))) 3))) 3)) + ((upd (upd f 3 (jmin (f 2) (cf_flow f ))) 13 (((upd f 3 (jmin (f 2) (cf_flow f ))) 13) + ((upd f 3 (jmin (f 2) (cf_flow f ))) 3))) 34)))) 3) - (cf_demand (upd (upd (upd f 3 (jmin (f 2) (cf_flow f ))) 13 (((upd f 3 (jmin (f 2) (cf_flow f ))) 13) + ((upd f 3 (jmin (f 2) (cf_flow f ))) 3))) 2 (jmin (20000 : Int32) ((((upd (upd f 3 (jmin (f 2) (cf_flow f ))) 13 (((upd f 3 (jmin (f 2) (cf_flow f ))) 13) + ((upd f 3 (jmin (f 2) (cf_flow f ))) 3))) 2) - ((upd (upd f 3 (jmin (f 2) (cf_flow f ))) 13 (((upd f 3 (jmin (f 2) (cf_flow f ))) 13) + ((upd f 3 (jmin (f 2) (cf_flow f ))) 3))) 3)) + ((upd (upd f 3 (jmin (f 2) (cf_flow f ))) 13 (((upd f 3 (jmin (f 2) (cf_flow f ))) 13) + ((upd f 3 (jmin (f 2) (cf_flow f ))) 3))) 34)))) (f 1))) / ((upd (upd (upd f 3 (jmin (f 2) (cf_flow f ))) 13 (((upd f 3 (jmin (f 2) (cf_flow f ))) 13) + ((upd f 3 (jmin (f 2) (cf_flow f ))) 3))) 2 (jmin (20000 : Int32) ((((upd (upd f 3 (jmin (f 2) (cf_flow f ))) 13 (((upd f 3 (jmin (f 2) (cf_flow f ))) 13) + ((upd f 3 (jmin (f 2) (cf_flow f ))) 3))) 2) - ((upd (upd f 3 (jmin (f 2) (cf_flow f ))) 13 (((upd f 3 (jmin (f 2) (cf_flow f ))) 13) + ((upd f 3 (jmin (f 2) (cf_flow f ))) 3))) 3)) + ((upd (upd f 3 (jmin (f 2) (cf_flow f ))) 13 (((upd f 3 (jmin (f 2) (cf_flow f ))) 13) + ((upd f 3 (jmin (f 2) (cf_flow f ))) 3))) 34)))) 30)))))) X w hM 19 1 (w.tblB q328 rfl rfl) rfl rfl rfl rfl rfl (stOk_lit rfl) dX15_go_93 (fun M H locs w hM => ?_)
  exact fin M H locs ls 96 dX15_go_96 (by rw [← E]; exact hM) w
set_option maxHeartbeats 4000000 in
set_option maxRecDepth 100000 in
theorem wt_go3 (l : Launch) (G : mg) (A : Nat → Prop) (ad : Nat → Nat) (np ng : Nat) (M0 : mh) (f : Nat → Int32)    : mxB l yX11_go cX11_go 4 ({ frames := 3, cells := 0, slots := 0, locals := 64 }) (fun M => Sta G ad np ng M0 M f) [.ref (G.2 (10 + 2)), .ref (ad 0)] G A (fun p e R s m av below meth c Q => ∀ (M : mh) (H : Heap) (locs : List Loc) (ls : Array Slot) (pc : Nat), decode cX11_go pc = .ok (.return_, 1) → (fun M => Sta G ad np ng M0 M (cf_go3 f)) M → mW G A s M H locs → W p l e R s m av below meth c H locs 0 0 Q (F0 m pc ls [])) := by
  intro p e R s m av below meth c M H Q ls X hRf hRl hRc hRs hin hM w fin hl
  have X : CallFix p m c cX11_go 4 s av lw_all "FieldPumps$Stage$3" := X
  have hx := X.1
  have hb := X.2.1
  have hl : lv_has ls 4 [(0, .ref (G.2 (10 + 2))), (1, .ref (ad 0))] := hl
  have hRf : R.frames = 3 := hRf
  have hRl : R.locals = 64 := hRl
  have hRc : R.cells = 0 := hRc
  have hRs : R.slots = 0 := hRs
  have hcp := hM.cnp
  have hn6 := hM.n6
  have hg8 := hM.g8
  generalize ([] : List Loc) = locs at w ⊢
  generalize E : cf_go3 f = z at fin
  rw [cf_go3] at E
  refine lv_iconst (v := (0 : Int32)) hx hb dX11_go_0 (by decide) ?_
  refine lv_istore_n (lv' := [(2, .int (0 : Int32)), (0, .ref (G.2 (10 + 2))), (1, .ref (ad 0))]) hx hb dX11_go_1 rfl hl (by decide) rfl (fun ls hl => ?_)
  have L2 : ∀ (n_2 : Nat) (n2_2 : Nat) (f_2 : (Nat → Int32)) (M : mh) (H : Heap) (locs : List Loc) (ls : Array Slot), (hi : n2_2 ≤ np) → (hm : np < n2_2 + n_2) → cf_go3_2 f n_2 n2_2 f_2 = z → lv_has ls 4 [(1, .ref (ad 0)), (2, .int (nI n2_2))] → mW G A s M H locs → Sta G ad np ng M0 M f_2 → W p l e R s m av below meth c H locs 0 0 Q (F0 m 2 ls []) := by
    intro n_2
    induction n_2 with
    | zero =>
      intro n2_2 f_2 M H locs ls hi hm E hl w hM
      have hcp := hM.cnp
      exfalso; omega
    | succ n_2 ih_2 =>
      intro n2_2 f_2 M H locs ls hi hm E hl w hM
      have hcp := hM.cnp
      rw [cf_go3_2] at E
      refine lv_iload_n hx hb dX11_go_2 rfl (lv_at hl 1 rfl) ?_
      refine lv_aload_n hx hb dX11_go_3 rfl (lv_at hl 0 rfl) ?_
      refine mx_getN (v := .ref (ad 1)) X w in_X1 (ci := 1) rfl 0 (by decide) (w.tblB q285 rfl rfl) (fun _ h => h) hM.st rfl dX11_go_4 ?_
      refine mx_bi w (va_runV (As := []) (rest := [.int (nI n2_2)]) X (ct_psize l G A ad np ng M0 M f_2  hM ) (cwV 0 X.2.2.2.2 (lw_V q902 q275 q276 q100 q277) rfl rfl rfl (by decide +kernel) ⟨by rw [hRf]; decide, by rw [hRl]; decide⟩) (mx_preV w rfl hM.pl rfl) rfl rfl hl.1 rfl (lv_room (Nat.le_of_ble_eq_true rfl)) dX11_go_7 ⟨Nat.zero_le _, Nat.zero_le _⟩) (fun r M9 H locs hp w => ?_)
      obtain ⟨rfl, eM⟩ := hp; subst M9
      refine mx_nge (u := n2_2) (v := (nC f_2 14)) (tgt := 73) hx hb rfl rfl (by omega) (by omega) dX11_go_10 (by decide) (fun c_10 => ?_) (fun c_10 => ?_)
      · rw [if_pos c_10] at E
        exact fin M H locs ls 73 dX11_go_73 (by rw [← E]; exact hM) w
      · rw [if_neg c_10] at E
        refine lv_aload_n hx hb dX11_go_13 rfl (lv_at hl 0 rfl) ?_
        refine mx_getN (v := .ref (ad 1)) X w in_X1 (ci := 1) rfl 0 (by decide) (w.tblB q285 rfl rfl) (fun _ h => h) hM.st rfl dX11_go_14 ?_
        refine lv_iload_n hx hb dX11_go_17 rfl (lv_at hl 1 rfl) ?_
        refine mx_bq w (va_runV (As := [.int (nI n2_2)]) (rest := []) X (ct_pget l G A ad np ng M0 M f_2 n2_2 hM (by first | omega | assumption)) (cwV 1 X.2.2.2.2 (lw_V q903 q248 q249 q100 q250) rfl rfl rfl (by decide +kernel) ⟨by rw [hRf]; decide, by rw [hRl]; decide⟩) (mx_preV w rfl hM.pl rfl) rfl rfl hl.1 rfl (lv_room (Nat.le_of_ble_eq_true rfl)) dX11_go_18 ⟨Nat.zero_le _, Nat.zero_le _⟩) (fun r M9 H locs hp w => ?_)
        obtain ⟨rfl, eM⟩ := hp; subst M9
        refine st_castP X w hM (by first | omega | assumption) q904 dX11_go_21 ?_
        refine lv_astore_n (lv' := [(3, .ref (ad (20 + n2_2))), (1, .ref (ad 0)), (2, .int (nI n2_2))]) hx hb dX11_go_24 rfl hl (by decide) rfl (fun ls hl => ?_)
        refine lv_aload_n hx hb dX11_go_25 rfl (lv_at hl 0 rfl) ?_
        refine lv_dup hx hb dX11_go_26 rfl ?_
        refine st_getPN (v := .int (f_2 (39 + (8 * n2_2) + 5))) X w hM (k := n2_2) (by first | omega | assumption) 5 (by decide) q598 rfl dX11_go_27 ?_
        refine lv_aload_n hx hb dX11_go_30 rfl (lv_at hl 0 rfl) ?_
        refine mx_bi w (st_callP (As := []) (rest := [.int (f_2 (39 + (8 * n2_2) + 5)), .ref (ad (20 + n2_2))]) X w hM (by first | omega | assumption) (ct_runs l G A ad np ng M0 M f_2 n2_2 hM (by first | omega | assumption)) (va_cwU 0 X.2.2.2.2 (lw_U q905 q280 q281 q279 q115 q284) rfl rfl rfl rfl (by decide +kernel) ⟨by rw [hRf]; decide, by rw [hRl]; decide⟩) (va_cwU 0 X.2.2.2.2 (lw_U q905 q280 q283 q279 q115 q284) rfl rfl rfl rfl (by decide +kernel) ⟨by rw [hRf]; decide, by rw [hRl]; decide⟩) (va_cwU 0 X.2.2.2.2 (lw_U q905 q280 q282 q279 q115 q284) rfl rfl rfl rfl (by decide +kernel) ⟨by rw [hRf]; decide, by rw [hRl]; decide⟩) rfl rfl rfl hl.1 rfl (lv_room (Nat.le_of_ble_eq_true rfl)) dX11_go_31 ⟨Nat.zero_le _, Nat.zero_le _⟩) (fun r M9 H locs hp w => ?_)
        obtain ⟨rfl, eM⟩ := hp; subst M9
        have J42 : ∀ (bs0_42 : Bool) (M : mh) (H : Heap) (locs : List Loc) (ls : Array Slot), cf_go3_42 f (cf_go3_2 f n_2) n2_2 f_2 bs0_42 = z → lv_has ls 4 [(3, .ref (ad (20 + n2_2))), (1, .ref (ad 0)), (2, .int (nI n2_2))] → mW G A s M H locs → Sta G ad np ng M0 M f_2 → W p l e R s m av below meth c H locs 0 0 Q (F0 m 42 ls [.int (bI bs0_42), .int (f_2 (39 + (8 * n2_2) + 5)), .ref (ad (20 + n2_2))]) := by
          intro bs0_42 M H locs ls  E hl w hM
          have hcp := hM.cnp
          rw [cf_go3_42] at E
          refine lv_iadd hx hb dX11_go_42 ?_
          refine st_putPN (x := ((f_2 (39 + (8 * n2_2) + 5)) + (bI bs0_42))) X w hM (k := n2_2) (by first | omega | assumption) 5 (by decide) q598 rfl rfl (by simp [pmF, upd]) dX11_go_43 (fun M H locs w hM => ?_)
          refine lv_aload_n hx hb dX11_go_46 rfl (lv_at hl 0 rfl) ?_
          refine lv_dup hx hb dX11_go_47 rfl ?_
          refine st_getPN (v := .int ((upd f_2 (39 + (8 * n2_2) + 5) ((f_2 (39 + (8 * n2_2) + 5)) + (bI bs0_42))) (39 + (8 * n2_2) + 6))) X w hM (k := n2_2) (by first | omega | assumption) 6 (by decide) q604 rfl dX11_go_48 ?_
          refine lv_aload_n hx hb dX11_go_51 rfl (lv_at hl 0 rfl) ?_
          refine mx_bi w (st_callP (As := []) (rest := [.int ((upd f_2 (39 + (8 * n2_2) + 5) ((f_2 (39 + (8 * n2_2) + 5)) + (bI bs0_42))) (39 + (8 * n2_2) + 6)), .ref (ad (20 + n2_2))]) X w hM (by first | omega | assumption) (ct_runs l G A ad np ng M0 M (upd f_2 (39 + (8 * n2_2) + 5) ((f_2 (39 + (8 * n2_2) + 5)) + (bI bs0_42))) n2_2 hM (by first | omega | assumption)) (va_cwU 0 X.2.2.2.2 (lw_U q905 q280 q281 q279 q115 q284) rfl rfl rfl rfl (by decide +kernel) ⟨by rw [hRf]; decide, by rw [hRl]; decide⟩) (va_cwU 0 X.2.2.2.2 (lw_U q905 q280 q283 q279 q115 q284) rfl rfl rfl rfl (by decide +kernel) ⟨by rw [hRf]; decide, by rw [hRl]; decide⟩) (va_cwU 0 X.2.2.2.2 (lw_U q905 q280 q282 q279 q115 q284) rfl rfl rfl rfl (by decide +kernel) ⟨by rw [hRf]; decide, by rw [hRl]; decide⟩) rfl rfl rfl hl.1 rfl (lv_room (Nat.le_of_ble_eq_true rfl)) dX11_go_52 ⟨Nat.zero_le _, Nat.zero_le _⟩) (fun r M9 H locs hp w => ?_)
          obtain ⟨rfl, eM⟩ := hp; subst M9
          have J63 : ∀ (bs0_63 : Bool) (M : mh) (H : Heap) (locs : List Loc) (ls : Array Slot), cf_go3_63 f (cf_go3_2 f n_2) n2_2 f_2 bs0_42 bs0_63 = z → lv_has ls 4 [(1, .ref (ad 0)), (2, .int (nI n2_2))] → mW G A s M H locs → Sta G ad np ng M0 M (upd f_2 (39 + (8 * n2_2) + 5) ((f_2 (39 + (8 * n2_2) + 5)) + (bI bs0_42))) → W p l e R s m av below meth c H locs 0 0 Q (F0 m 63 ls [.int (bI bs0_63), .int ((upd f_2 (39 + (8 * n2_2) + 5) ((f_2 (39 + (8 * n2_2) + 5)) + (bI bs0_42))) (39 + (8 * n2_2) + 6)), .ref (ad (20 + n2_2))]) := by
            intro bs0_63 M H locs ls  E hl w hM
            have hcp := hM.cnp
            rw [cf_go3_63] at E
            refine lv_iadd hx hb dX11_go_63 ?_
            refine st_putPN (x := (((upd f_2 (39 + (8 * n2_2) + 5) ((f_2 (39 + (8 * n2_2) + 5)) + (bI bs0_42))) (39 + (8 * n2_2) + 6)) + (bI bs0_63))) X w hM (k := n2_2) (by first | omega | assumption) 6 (by decide) q604 rfl rfl (by simp [pmF, upd]) dX11_go_64 (fun M H locs w hM => ?_)
            refine lv_iinc (v := (nI (n2_2 + 1))) (lv' := [(2, .int (nI (n2_2 + 1))), (1, .ref (ad 0))]) hx hb dX11_go_67 hl (k := 1) rfl (nI_incr _ 1) (by decide) rfl (fun ls hl => ?_)
            refine lv_goto (tgt := 2) hx hb dX11_go_70 (by decide) ?_
            exact ih_2 (n2_2 + 1) (upd (upd f_2 (39 + (8 * n2_2) + 5) ((f_2 (39 + (8 * n2_2) + 5)) + (bI bs0_42))) (39 + (8 * n2_2) + 6) (((upd f_2 (39 + (8 * n2_2) + 5) ((f_2 (39 + (8 * n2_2) + 5)) + (bI bs0_42))) (39 + (8 * n2_2) + 6)) + (bI bs0_63))) M H locs ls (by first | omega | assumption) (by first | omega | assumption) E (lv_sub hl [1, 0] rfl) w hM
          refine mx_beq (tgt := 62) hx hb dX11_go_55 (by decide) (fun c_55 => ?_) (fun c_55 => ?_)
          · rw [if_neg c_55] at E
            refine lv_iconst (v := (0 : Int32)) hx hb dX11_go_62 (by decide) ?_
            exact J63 false M H locs ls E (lv_sub hl [1, 2] rfl) w hM
          · rw [if_pos c_55] at E
            refine lv_iconst (v := (1 : Int32)) hx hb dX11_go_58 (by decide) ?_
            refine lv_goto (tgt := 63) hx hb dX11_go_59 (by decide) ?_
            exact J63 true M H locs ls E (lv_sub hl [1, 2] rfl) w hM
        refine mx_beq (tgt := 41) hx hb dX11_go_34 (by decide) (fun c_34 => ?_) (fun c_34 => ?_)
        · rw [if_neg c_34] at E
          refine lv_iconst (v := (0 : Int32)) hx hb dX11_go_41 (by decide) ?_
          exact J42 false M H locs ls E (lv_sub hl [0, 1, 2] rfl) w hM
        · rw [if_pos c_34] at E
          refine lv_iconst (v := (1 : Int32)) hx hb dX11_go_37 (by decide) ?_
          refine lv_goto (tgt := 42) hx hb dX11_go_38 (by decide) ?_
          exact J42 true M H locs ls E (lv_sub hl [0, 1, 2] rfl) w hM
  exact L2 7 0 f M H locs ls (by first | omega | assumption) (by first | omega | assumption) E (lv_sub hl [2, 0] rfl) w hM
set_option maxHeartbeats 4000000 in
set_option maxRecDepth 100000 in
theorem wt_go5 (l : Launch) (G : mg) (A : Nat → Prop) (ad : Nat → Nat) (np ng : Nat) (M0 : mh) (f : Nat → Int32)   (he : rg (f 19) 12) : mxB l yX13_go cX13_go 2 ({ frames := 4, cells := 0, slots := 0, locals := 86 }) (fun M => Sta G ad np ng M0 M f) [.ref (G.2 (10 + 4)), .ref (ad 0)] G A (fun p e R s m av below meth c Q => ∀ (M : mh) (H : Heap) (locs : List Loc) (ls : Array Slot) (pc : Nat), decode cX13_go pc = .ok (.return_, 1) → (fun M => Sta G ad np ng M0 M (cf_go5 f)) M → mW G A s M H locs → W p l e R s m av below meth c H locs 0 0 Q (F0 m pc ls [])) := by
  intro p e R s m av below meth c M H Q ls X hRf hRl hRc hRs hin hM w fin hl
  have X : CallFix p m c cX13_go 2 s av lw_all "FieldPumps$Stage$5" := X
  have hx := X.1
  have hb := X.2.1
  have hl : lv_has ls 2 [(0, .ref (G.2 (10 + 4))), (1, .ref (ad 0))] := hl
  have hRf : R.frames = 4 := hRf
  have hRl : R.locals = 86 := hRl
  have hRc : R.cells = 0 := hRc
  have hRs : R.slots = 0 := hRs
  have hcp := hM.cnp
  have hn6 := hM.n6
  have hg8 := hM.g8
  generalize ([] : List Loc) = locs at w ⊢
  generalize E : cf_go5 f = z at fin
  rw [cf_go5] at E
  refine lv_aload_n hx hb dX13_go_0 rfl (lv_at hl 1 rfl) ?_
  refine lv_aload_n hx hb dX13_go_1 rfl (lv_at hl 1 rfl) ?_
  refine mx_getN (v := .int (f 2)) X w in_X1 (ci := 1) rfl 20 (by decide) (w.tblB q331 rfl rfl) (fun _ h => h) hM.st rfl dX13_go_2 ?_
  refine lv_aload_n hx hb dX13_go_5 rfl (lv_at hl 1 rfl) ?_
  refine mx_getN (v := .ref (ad 13)) X w in_X1 (ci := 1) rfl 10 (by decide) (w.tblB q308 rfl rfl) (fun _ h => h) hM.st rfl dX13_go_6 ?_
  refine lv_bipush (v := (11 : Int32)) hx hb dX13_go_9 (by decide) ?_
  refine mx_iald2 X w hM.a13 11 (show 11 < 19 from by decide) (by decide) (if_pos (show 11 < 19 from by decide)) dX13_go_11 ?_
  have J25 : ∀ (is0_25 : Int32) (M : mh) (H : Heap) (locs : List Loc) (ls : Array Slot), cf_go5_25 f is0_25 = z → lv_has ls 2 [(1, .ref (ad 0))] → mW G A s M H locs → Sta G ad np ng M0 M f → W p l e R s m av below meth c H locs 0 0 Q (F0 m 25 ls [.int is0_25, .ref (ad 0)]) := by
    intro is0_25 M H locs ls  E hl w hM
    have hcp := hM.cnp
    rw [cf_go5_25] at E
    refine st_putN (x := is0_25) X w hM 27 7 (w.tblB q351 rfl rfl) rfl rfl rfl rfl rfl (stOk_lit rfl) dX13_go_25 (fun M H locs w hM => ?_)
    refine lv_aload_n hx hb dX13_go_28 rfl (lv_at hl 0 rfl) ?_
    refine mx_getN (v := .int ((upd f 7 is0_25) 7)) X w in_X1 (ci := 1) rfl 27 (by decide) (w.tblB q351 rfl rfl) (fun _ h => h) hM.st rfl dX13_go_29 ?_
    refine lv_aload_n hx hb dX13_go_32 rfl (lv_at hl 0 rfl) ?_
    refine mx_getN (v := .ref (ad 13)) X w in_X1 (ci := 1) rfl 10 (by decide) (w.tblB q308 rfl rfl) (fun _ h => h) hM.st rfl dX13_go_33 ?_
    refine lv_bipush (v := (13 : Int32)) hx hb dX13_go_36 (by decide) ?_
    refine mx_iald2 X w hM.a13 13 (show 13 < 19 from by decide) (by decide) (if_pos (show 13 < 19 from by decide)) dX13_go_38 ?_
    have J53 : ∀ (f_53 : (Nat → Int32)) (M : mh) (H : Heap) (locs : List Loc) (ls : Array Slot), (he53 : rg (f_53 19) 12) → cf_go5_53 f is0_25 f_53 = z → lv_has ls 2 [(1, .ref (ad 0))] → mW G A s M H locs → Sta G ad np ng M0 M f_53 → W p l e R s m av below meth c H locs 0 0 Q (F0 m 53 ls []) := by
      intro f_53 M H locs ls he53 E hl w hM
      have hcp := hM.cnp
      rw [cf_go5_53] at E
      refine lv_aload_n hx hb dX13_go_53 rfl (lv_at hl 0 rfl) ?_
      refine mx_bi w (va_runVN (As := []) (rest := []) X (ct_canGoOn l G A ad np ng M0 M f_53  hM ) ⟨va_cnB 0 X.2.2.2.2 (lw_meth q1428) rfl rfl rfl (w.tbl q1425 rfl) (X.2.2.2.2 _ q97) (by decide +kernel) ⟨by rw [hRf]; decide, by rw [hRl]; decide⟩, X.2.2.2.2 _ q1427, X.2.2.2.2 _ qs25⟩ (mx_preV w rfl hM.st rfl) rfl rfl hl.1 rfl (lv_room (Nat.le_of_ble_eq_true rfl)) dX13_go_54 ⟨Nat.zero_le _, Nat.zero_le _⟩) (fun r M9 H locs hp w => ?_)
      obtain ⟨rfl, eM⟩ := hp; subst M9
      have J72 : ∀ (f_72 : (Nat → Int32)) (M : mh) (H : Heap) (locs : List Loc) (ls : Array Slot), cf_go5_72 f is0_25 f_53 f_72 = z → lv_has ls 2 [] → mW G A s M H locs → Sta G ad np ng M0 M f_72 → W p l e R s m av below meth c H locs 0 0 Q (F0 m 72 ls []) := by
        intro f_72 M H locs ls  E hl w hM
        have hcp := hM.cnp
        rw [cf_go5_72] at E
        exact fin M H locs ls 72 dX13_go_72 (by rw [← E]; exact hM) w
      refine mx_beq (tgt := 72) hx hb dX13_go_57 (by decide) (fun c_57 => ?_) (fun c_57 => ?_)
      · rw [if_neg c_57] at E
        exact J72 f_53 M H locs ls E (lv_sub hl [] rfl) w hM
      · rw [if_pos c_57] at E
        refine lv_aload_n hx hb dX13_go_60 rfl (lv_at hl 0 rfl) ?_
        refine mx_getN (v := .int (f_53 6)) X w in_X1 (ci := 1) rfl 28 (by decide) (w.tblB q354 rfl rfl) (fun _ h => h) hM.st rfl dX13_go_61 ?_
        refine lv_iconst (v := (3 : Int32)) hx hb dX13_go_64 (by decide) ?_
        refine lv_icmp_ge (tgt := 72) hx hb dX13_go_65 (by decide) (fun c_65 => ?_) (fun c_65 => ?_)
        · rw [if_pos c_65] at E
          exact J72 f_53 M H locs ls E (lv_sub hl [] rfl) w hM
        · rw [if_neg c_65] at E
          refine lv_aload_n hx hb dX13_go_68 rfl (lv_at hl 0 rfl) ?_
          refine mx_bv w (va_runVN (As := []) (rest := []) X (ct_goOn l G A ad np ng M0 f_53   (he53)) ⟨va_cnB 0 X.2.2.2.2 (lw_meth q1432) rfl rfl rfl (w.tbl q1429 rfl) (X.2.2.2.2 _ q97) (by decide +kernel) ⟨by rw [hRf]; decide, by rw [hRl]; decide⟩, X.2.2.2.2 _ q1431, X.2.2.2.2 _ qs26⟩ (mx_preV w hM hM.st rfl) rfl rfl hl.1 rfl (lv_room (Nat.le_of_ble_eq_true rfl)) dX13_go_69 ⟨Nat.zero_le _, Nat.zero_le _⟩) (fun M H locs hM w => ?_)
          rw [cf_go5_c69] at E
          obtain ⟨f_69, ef_69⟩ : ∃ y, y = (cf_goOn f_53 ) := ⟨_, rfl⟩
          rw [← ef_69] at E hM
          exact J72 f_69 M H locs ls E (lv_sub hl [] rfl) w hM
    refine lv_icmp_lt (tgt := 53) hx hb dX13_go_39 (by decide) (fun c_39 => ?_) (fun c_39 => ?_)
    · rw [if_pos c_39] at E
      exact J53 (upd f 7 is0_25) M H locs ls (by first | (rw [ef_50]; exact trip_19 (by rw [pk_un (by decide)]; exact he)) | (rw [pk_un (by decide)]; exact he)) E (lv_sub hl [0] rfl) w hM
    · rw [if_neg c_39] at E
      refine lv_aload_n hx hb dX13_go_42 rfl (lv_at hl 0 rfl) ?_
      refine mx_getN (v := .int ((upd f 7 is0_25) 5)) X w in_X1 (ci := 1) rfl 29 (by decide) (w.tblB q358 rfl rfl) (fun _ h => h) hM.st rfl dX13_go_43 ?_
      refine lv_if_ne (tgt := 53) hx hb dX13_go_46 (by decide) (fun c_46 => ?_) (fun c_46 => ?_)
      · rw [if_neg c_46] at E
        exact J53 (upd f 7 is0_25) M H locs ls (by first | (rw [ef_50]; exact trip_19 (by rw [pk_un (by decide)]; exact he)) | (rw [pk_un (by decide)]; exact he)) E (lv_sub hl [0] rfl) w hM
      · rw [if_pos c_46] at E
        refine lv_aload_n hx hb dX13_go_49 rfl (lv_at hl 0 rfl) ?_
        refine mx_bv w (va_runVN (As := []) (rest := []) X (ct_trip l G A ad np ng M0 (upd f 7 is0_25)   (by rw [pk_un (by decide)]; exact he)) ⟨va_cnB 0 X.2.2.2.2 (lw_meth q1424) rfl rfl rfl (w.tbl q1421 rfl) (X.2.2.2.2 _ q97) (by decide +kernel) ⟨by rw [hRf]; decide, by rw [hRl]; decide⟩, X.2.2.2.2 _ q1423, X.2.2.2.2 _ qs24⟩ (mx_preV w hM hM.st rfl) rfl rfl hl.1 rfl (lv_room (Nat.le_of_ble_eq_true rfl)) dX13_go_50 ⟨Nat.zero_le _, Nat.zero_le _⟩) (fun M H locs hM w => ?_)
        rw [cf_go5_c50] at E
        obtain ⟨f_50, ef_50⟩ : ∃ y, y = (cf_trip (upd f 7 is0_25) ) := ⟨_, rfl⟩
        rw [← ef_50] at E hM
        exact J53 f_50 M H locs ls (by first | (rw [ef_50]; exact trip_19 (by rw [pk_un (by decide)]; exact he)) | (rw [pk_un (by decide)]; exact he)) E (lv_sub hl [0] rfl) w hM
  refine lv_icmp_ge (tgt := 24) hx hb dX13_go_12 (by decide) (fun c_12 => ?_) (fun c_12 => ?_)
  · rw [if_pos c_12] at E
    refine lv_iconst (v := (0 : Int32)) hx hb dX13_go_24 (by decide) ?_
    exact J25 (0 : Int32) M H locs ls E (lv_sub hl [1] rfl) w hM
  · rw [if_neg c_12] at E
    refine lv_aload_n hx hb dX13_go_15 rfl (lv_at hl 1 rfl) ?_
    refine mx_getN (v := .int (f 7)) X w in_X1 (ci := 1) rfl 27 (by decide) (w.tblB q351 rfl rfl) (fun _ h => h) hM.st rfl dX13_go_16 ?_
    refine lv_iconst (v := (1 : Int32)) hx hb dX13_go_19 (by decide) ?_
    refine lv_iadd hx hb dX13_go_20 ?_
    refine lv_goto (tgt := 25) hx hb dX13_go_21 (by decide) ?_
    exact J25 ((f 7) + (1 : Int32)) M H locs ls E (lv_sub hl [1] rfl) w hM
set_option maxHeartbeats 4000000 in
set_option maxRecDepth 100000 in
theorem wt_go6 (l : Launch) (G : mg) (A : Nat → Prop) (ad : Nat → Nat) (np ng : Nat) (M0 : mh) (f : Nat → Int32)  (T nz : Nat) (hS : SI T np nz ng f) : mxB l yX16_go cX16_go 2 ({ frames := 10, cells := 0, slots := 0, locals := 219 }) (fun M => Sta G ad np ng M0 M f) [.ref (G.2 (10 + 5)), .ref (ad 0)] G A (fun p e R s m av below meth c Q => ∀ (M : mh) (H : Heap) (locs : List Loc) (ls : Array Slot) (pc : Nat), decode cX16_go pc = .ok (.return_, 1) → (fun M => Sta G ad np ng M0 M (cf_go6 f)) M → mW G A s M H locs → W p l e R s m av below meth c H locs 0 0 Q (F0 m pc ls [])) := by
  intro p e R s m av below meth c M H Q ls X hRf hRl hRc hRs hin hM w fin hl
  have X : CallFix p m c cX16_go 2 s av lw_all "FieldPumps$Stage$6" := X
  have hx := X.1
  have hb := X.2.1
  have hl : lv_has ls 2 [(0, .ref (G.2 (10 + 5))), (1, .ref (ad 0))] := hl
  have hRf : R.frames = 10 := hRf
  have hRl : R.locals = 219 := hRl
  have hRc : R.cells = 0 := hRc
  have hRs : R.slots = 0 := hRs
  have hcp := hM.cnp
  have hn6 := hM.n6
  have hg8 := hM.g8
  generalize ([] : List Loc) = locs at w ⊢
  generalize E : cf_go6 f = z at fin
  rw [cf_go6] at E
  refine lv_aload_n hx hb dX16_go_0 rfl (lv_at hl 1 rfl) ?_
  refine mx_getN (v := .int (f 5)) X w in_X1 (ci := 1) rfl 29 (by decide) (w.tblB q357 rfl rfl) (fun _ h => h) hM.st rfl dX16_go_1 ?_
  have J18 : ∀ (f_18 : (Nat → Int32)) (M : mh) (H : Heap) (locs : List Loc) (ls : Array Slot), cf_go6_18 f f_18 = z → lv_has ls 2 [] → mW G A s M H locs → Sta G ad np ng M0 M f_18 → W p l e R s m av below meth c H locs 0 0 Q (F0 m 18 ls []) := by
    intro f_18 M H locs ls  E hl w hM
    have hcp := hM.cnp
    rw [cf_go6_18] at E
    exact fin M H locs ls 18 dX16_go_18 (by rw [← E]; exact hM) w
  refine lv_if_eq (tgt := 14) hx hb dX16_go_4 (by decide) (fun c_4 => ?_) (fun c_4 => ?_)
  · rw [if_pos c_4] at E
    refine lv_aload_n hx hb dX16_go_14 rfl (lv_at hl 1 rfl) ?_
    refine mx_bv w (va_runVN (As := []) (rest := []) X (ct_control l G A ad np ng M0 f  T nz (by first | omega | assumption)) ⟨va_cnB 0 X.2.2.2.2 (lw_meth q1443) rfl rfl rfl (w.tbl q1440 rfl) (X.2.2.2.2 _ q97) (by decide +kernel) ⟨by rw [hRf]; decide, by rw [hRl]; decide⟩, X.2.2.2.2 _ q1442, X.2.2.2.2 _ qs28⟩ (mx_preV w hM hM.st rfl) rfl rfl hl.1 rfl (lv_room (Nat.le_of_ble_eq_true rfl)) dX16_go_15 ⟨Nat.zero_le _, Nat.zero_le _⟩) (fun M H locs hM w => ?_)
    rw [cf_go6_c15] at E
    obtain ⟨f_15, ef_15⟩ : ∃ y, y = (cf_control f ) := ⟨_, rfl⟩
    rw [← ef_15] at E hM
    exact J18 f_15 M H locs ls E (lv_sub hl [] rfl) w hM
  · rw [if_neg c_4] at E
    refine lv_aload_n hx hb dX16_go_7 rfl (lv_at hl 1 rfl) ?_
    refine mx_bv w (va_runVN (As := []) (rest := []) X (ct_forget l G A ad np ng M0 f   ) ⟨va_cnB 0 X.2.2.2.2 (lw_meth q1439) rfl rfl rfl (w.tbl q1436 rfl) (X.2.2.2.2 _ q97) (by decide +kernel) ⟨by rw [hRf]; decide, by rw [hRl]; decide⟩, X.2.2.2.2 _ q1438, X.2.2.2.2 _ qs27⟩ (mx_preV w hM hM.st rfl) rfl rfl hl.1 rfl (lv_room (Nat.le_of_ble_eq_true rfl)) dX16_go_8 ⟨Nat.zero_le _, Nat.zero_le _⟩) (fun M H locs hM w => ?_)
    rw [cf_go6_c8] at E
    obtain ⟨f_8, ef_8⟩ : ∃ y, y = (cf_forget f ) := ⟨_, rfl⟩
    rw [← ef_8] at E hM
    refine lv_goto (tgt := 18) hx hb dX16_go_11 (by decide) ?_
    exact J18 f_8 M H locs ls E (lv_sub hl [] rfl) w hM
set_option maxHeartbeats 4000000 in
set_option maxRecDepth 100000 in
theorem wt_go4 (l : Launch) (G : mg) (A : Nat → Prop) (ad : Nat → Nat) (np ng : Nat) (M0 : mh) (f : Nat → Int32) (nn : Nat) (h18 : f 18 = nI nn) (hn7 : nn ≤ 7) (he : rg (f 19) 12) (mc ms : Nat) (hcost : n4 f = f 36 - (1 : Int32) → mc = 66 ∧ ms = 171) : mxB l yX14_go cX14_go 3 ({ frames := 9, cells := mc, slots := ms, locals := 203 }) (fun M => Sta G ad np ng M0 M f) [.ref (G.2 (10 + 3)), .ref (ad 0)] G A (fun p e R s m av below meth c Q => ∀ (M : mh) (H : Heap) (locs : List Loc) (ls : Array Slot) (pc : Nat), decode cX14_go pc = .ok (.return_, 1) → (fun M => ∃ g, Go4 f nn g ∧ Sta G ad np ng M0 M g) M → mW G A s M H locs → W p l e R s m av below meth c H locs mc ms Q (F0 m pc ls [])) := by
  intro p e R s m av below meth c M H Q ls X hRf hRl hRc hRs hin hPre w fin hl
  have X : CallFix p m c cX14_go 3 s av lw_all "FieldPumps$Stage$4" := X
  have hx := X.1
  have hb := X.2.1
  have hl : lv_has ls 3 [(0, .ref (G.2 (10 + 3))), (1, .ref (ad 0))] := hl
  have hRf : R.frames = 9 := hRf
  have hRl : R.locals = 203 := hRl
  have hRc : R.cells = mc := hRc
  have hRs : R.slots = ms := hRs
  generalize ([] : List Loc) = locs at w ⊢
  have hM := hPre
  refine lv_aload_n hx hb dX14_go_0 rfl (lv_at hl 1 rfl) ?_
  refine mx_getN (T := TX1) (v := .int (f 0)) X w in_X1 (ci := 1) rfl 18 (by decide) (w.tblB q324 rfl rfl) (fun _ h => h) hM.st rfl dX14_go_1 ?_
  refine lv_sipush (v := (1440 : Int32)) hx hb dX14_go_4 (by decide) ?_
  refine lv_irem hx hb dX14_go_7 (by decide) ?_
  refine lv_aload_n hx hb dX14_go_8 rfl (lv_at hl 1 rfl) ?_
  refine mx_getN (T := TX1) (v := .ref (ad 13)) X w in_X1 (ci := 1) rfl 10 (by decide) (w.tblB q309 rfl rfl) (fun _ h => h) hM.st rfl dX14_go_9 ?_
  refine lv_bipush (v := (15 : Int32)) hx hb dX14_go_12 (by decide) ?_
  refine mx_iald2 X w hM.a13 15 (show 15 < 19 by decide) (by decide) (x := f 35) (if_pos (show 15 < 19 by decide)) dX14_go_14 ?_
  refine lv_isub hx hb dX14_go_15 ?_
  refine lv_sipush (v := (1440 : Int32)) hx hb dX14_go_16 (by decide) ?_
  refine lv_iadd hx hb dX14_go_19 ?_
  refine lv_sipush (v := (1440 : Int32)) hx hb dX14_go_20 (by decide) ?_
  refine lv_irem hx hb dX14_go_23 (by decide) ?_
  refine lv_istore_n (lv' := [(2, .int (((((f 0) - (f 0) / (1440 : Int32) * (1440 : Int32)) - (f 35)) + (1440 : Int32)) - ((((f 0) - (f 0) / (1440 : Int32) * (1440 : Int32)) - (f 35)) + (1440 : Int32)) / (1440 : Int32) * (1440 : Int32))), (0, .ref (G.2 (10 + 3))), (1, .ref (ad 0))]) hx hb dX14_go_24 rfl hl (by decide) rfl (fun ls hl => ?_)
  refine lv_aload_n hx hb dX14_go_25 rfl (lv_at hl 2 rfl) ?_
  refine lv_dup hx hb dX14_go_26 rfl ?_
  refine mx_getN (T := TX1) (v := .int (f 8)) X w in_X1 (ci := 1) rfl 25 (by decide) (w.tblB q346 rfl rfl) (fun _ h => h) hM.st rfl dX14_go_27 ?_
  refine lv_iload_n hx hb dX14_go_30 rfl (lv_at hl 0 rfl) ?_
  refine lv_aload_n hx hb dX14_go_31 rfl (lv_at hl 2 rfl) ?_
  refine mx_getN (T := TX1) (v := .ref (ad 13)) X w in_X1 (ci := 1) rfl 10 (by decide) (w.tblB q309 rfl rfl) (fun _ h => h) hM.st rfl dX14_go_32 ?_
  refine lv_bipush (v := (16 : Int32)) hx hb dX14_go_35 (by decide) ?_
  refine mx_iald2 X w hM.a13 16 (show 16 < 19 by decide) (by decide) (x := f 36) (if_pos (show 16 < 19 by decide)) dX14_go_37 ?_
  refine lv_icmp_ge (tgt := 48) hx hb dX14_go_38 (by decide) (fun c_38 => ?_) (fun c_38 => ?_)
  · skip
    have c38 : ¬ n4 f < f 36 := Int32.not_lt.mpr c_38
    refine lv_iconst (v := (0 : Int32)) hx hb dX14_go_48 (by decide) ?_
    refine lv_iadd hx hb dX14_go_49 ?_
    refine st_putN (x := ((f 8) + (0 : Int32))) X w hM 25 8 (w.tblB q346 rfl rfl) rfl rfl rfl rfl rfl (stOk_lit rfl) dX14_go_50 (fun M H locs w hM => ?_)
    have e4 : f4 f = (upd f 8 ((f 8) + (0 : Int32))) := f4_of (by first | exact Or.inl ⟨c38, rfl⟩ | exact Or.inr ⟨c38, rfl⟩)
    refine lv_iload_n hx hb dX14_go_53 rfl (lv_at hl 0 rfl) ?_
    refine lv_aload_n hx hb dX14_go_54 rfl (lv_at hl 2 rfl) ?_
    refine mx_getN (T := TX1) (v := .ref (ad 13)) X w in_X1 (ci := 1) rfl 10 (by decide) (w.tblB q309 rfl rfl) (fun _ h => h) hM.st rfl dX14_go_55 ?_
    refine lv_bipush (v := (16 : Int32)) hx hb dX14_go_58 (by decide) ?_
    refine mx_iald2 X w hM.a13 16 (show 16 < 19 by decide) (by decide) (x := f 36) ((if_pos (show 16 < 19 by decide)).trans (pk_un (by decide))) dX14_go_60 ?_
    refine lv_iconst (v := (1 : Int32)) hx hb dX14_go_61 (by decide) ?_
    refine lv_isub hx hb dX14_go_62 ?_
    refine lv_icmp_ne (tgt := 70) hx hb dX14_go_63 (by decide) (fun c_63 => ?_) (fun c_63 => ?_)
    · skip
      have hG : Go4 f nn (f4 f) := by unfold Go4; rw [if_neg (show ¬ n4 f = f 36 - 1 from c_63)]
      rw [e4] at hG
      refine W.widen (k := mc) (n := ms) (by omega) (by omega) ?_
      exact fin _ H locs ls 70 dX14_go_70 (⟨_, hG, hM⟩) w
    · skip
      have c63 : n4 f = f 36 - 1 := c_63
      obtain ⟨hmc, hms⟩ := hcost c63
      refine lv_aload_n hx hb dX14_go_66 rfl (lv_at hl 2 rfl) ?_
      refine mx_bv w (va_runVN (As := []) (rest := []) X (ct_noteNight l G A ad np ng M0 (upd f 8 ((f 8) + (0 : Int32))) nn ((pk_un (by decide)).trans h18) hn7 (by rw [pk_un (by decide)]; exact he)) ⟨va_cnB 0 X.2.2.2.2 (lw_meth q912) rfl rfl rfl (w.tbl q909 rfl) (X.2.2.2.2 _ q97) (by decide +kernel) ⟨by rw [hRf]; decide, by rw [hRl]; decide⟩, X.2.2.2.2 _ q911, X.2.2.2.2 _ qs11⟩ (mx_preV w hM hM.st rfl) rfl rfl hl.1 rfl (lv_room (Nat.le_of_ble_eq_true rfl)) dX14_go_67 ⟨by rw [hRc]; omega, by rw [hRs]; omega⟩) (fun M H locs hp w => ?_)
      obtain ⟨g, hg, hM⟩ := hp
      have hG : Go4 f nn g := by unfold Go4; rw [if_pos c63, e4]; exact hg
      refine W.widen (k := mc) (n := ms) (by omega) (by omega) ?_
      exact fin _ H locs ls 70 dX14_go_70 (⟨_, hG, hM⟩) w
  · skip
    have c38 : n4 f < f 36 := Int32.not_le.mp c_38
    refine lv_aload_n hx hb dX14_go_41 rfl (lv_at hl 2 rfl) ?_
    refine mx_getN (T := TX1) (v := .int (f 3)) X w in_X1 (ci := 1) rfl 23 (by decide) (w.tblB q340 rfl rfl) (fun _ h => h) hM.st rfl dX14_go_42 ?_
    refine lv_goto (tgt := 49) hx hb dX14_go_45 (by decide) ?_
    refine lv_iadd hx hb dX14_go_49 ?_
    refine st_putN (x := ((f 8) + (f 3))) X w hM 25 8 (w.tblB q346 rfl rfl) rfl rfl rfl rfl rfl (stOk_lit rfl) dX14_go_50 (fun M H locs w hM => ?_)
    have e4 : f4 f = (upd f 8 ((f 8) + (f 3))) := f4_of (by first | exact Or.inl ⟨c38, rfl⟩ | exact Or.inr ⟨c38, rfl⟩)
    refine lv_iload_n hx hb dX14_go_53 rfl (lv_at hl 0 rfl) ?_
    refine lv_aload_n hx hb dX14_go_54 rfl (lv_at hl 2 rfl) ?_
    refine mx_getN (T := TX1) (v := .ref (ad 13)) X w in_X1 (ci := 1) rfl 10 (by decide) (w.tblB q309 rfl rfl) (fun _ h => h) hM.st rfl dX14_go_55 ?_
    refine lv_bipush (v := (16 : Int32)) hx hb dX14_go_58 (by decide) ?_
    refine mx_iald2 X w hM.a13 16 (show 16 < 19 by decide) (by decide) (x := f 36) ((if_pos (show 16 < 19 by decide)).trans (pk_un (by decide))) dX14_go_60 ?_
    refine lv_iconst (v := (1 : Int32)) hx hb dX14_go_61 (by decide) ?_
    refine lv_isub hx hb dX14_go_62 ?_
    refine lv_icmp_ne (tgt := 70) hx hb dX14_go_63 (by decide) (fun c_63 => ?_) (fun c_63 => ?_)
    · skip
      have hG : Go4 f nn (f4 f) := by unfold Go4; rw [if_neg (show ¬ n4 f = f 36 - 1 from c_63)]
      rw [e4] at hG
      refine W.widen (k := mc) (n := ms) (by omega) (by omega) ?_
      exact fin _ H locs ls 70 dX14_go_70 (⟨_, hG, hM⟩) w
    · skip
      have c63 : n4 f = f 36 - 1 := c_63
      obtain ⟨hmc, hms⟩ := hcost c63
      refine lv_aload_n hx hb dX14_go_66 rfl (lv_at hl 2 rfl) ?_
      refine mx_bv w (va_runVN (As := []) (rest := []) X (ct_noteNight l G A ad np ng M0 (upd f 8 ((f 8) + (f 3))) nn ((pk_un (by decide)).trans h18) hn7 (by rw [pk_un (by decide)]; exact he)) ⟨va_cnB 0 X.2.2.2.2 (lw_meth q912) rfl rfl rfl (w.tbl q909 rfl) (X.2.2.2.2 _ q97) (by decide +kernel) ⟨by rw [hRf]; decide, by rw [hRl]; decide⟩, X.2.2.2.2 _ q911, X.2.2.2.2 _ qs11⟩ (mx_preV w hM hM.st rfl) rfl rfl hl.1 rfl (lv_room (Nat.le_of_ble_eq_true rfl)) dX14_go_67 ⟨by rw [hRc]; omega, by rw [hRs]; omega⟩) (fun M H locs hp w => ?_)
      obtain ⟨g, hg, hM⟩ := hp
      have hG : Go4 f nn g := by unfold Go4; rw [if_pos c63, e4]; exact hg
      refine W.widen (k := mc) (n := ms) (by omega) (by omega) ?_
      exact fin _ H locs ls 70 dX14_go_70 (⟨_, hG, hM⟩) w
