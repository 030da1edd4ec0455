set_option maxRecDepth 100000
/-! CW: a station copied -/
set_option maxHeartbeats 4000000 in
set_option maxRecDepth 100000 in
theorem ct_st_copy (l : Launch) (G : mg) (A : Nat → Prop) (M1 : mh) (o : Nat) (adS : Nat → Nat) (np ng nn : Nat) (f : Nat → Int32) (hS : Sta G adS np ng M1 M1 f) (h_o : M1 o = some (.inr (1, [.null, .null, .null, .null, .null, .int (0 : Int32), .null, .null, .null, .null, .null, .null, .null, .null, .int (0 : Int32), .null, .int (0 : Int32), .int (0 : Int32), .int (0 : Int32), .int (0 : Int32), .int (0 : Int32), .int (0 : Int32), .int (0 : Int32), .int (0 : Int32), .int (0 : Int32), .int (0 : Int32), .int (0 : Int32), .int (0 : Int32), .int (0 : Int32), .int (0 : Int32)]))) (hso : ∀ r, r < 32 → adS r ≠ o) (hio : ∀ k, k < np → rg (f (39 + (8 * k) + 3)) 1) (hop : ∀ k, k < 8 → rg (f (87 + (2 * k) + 1)) 1) (h5 : rg (f 5) 1) (h18 : f 18 = nI nn) (hn7 : nn ≤ 7) : Met l yX1_init_3 (ws_ yX1_init_3 cX1_init_3 4 (none)) ({ frames := 6, cells := 60, slots := 410, locals := 3113 }) (va_Pc [.ref o, .ref (adS 0)] (mU G A (fun M => M = M1))) (mQv G A (fun M => ∃ (ad' : Nat → Nat) (g' : Nat → Int32), Sta G ad' np ng M1 M g' ∧ ad' 0 = o ∧ adF M1 o ad' ∧ adN np ng ad' ∧ (∀ p, p < 170 → g' p = f p) ∧ (∀ p, 200 ≤ p → g' p = f p) ∧ g' 176 = 0 ∧ g' 177 = 0)) 60 410 A := by
  refine mx_ofv (by decide) (Nat.le_of_ble_eq_true rfl) ?_
  intro p e R s m av below meth c M H Q ls X hRf hRl hRc hRs hin eM w fin hl
  subst M
  have X : CallFix p m c cX1_init_3 4 s av lw_all "FieldPumps$Station" := X
  have hx := X.1
  have hb := X.2.1
  have hl : lv_has ls 4 [(0, .ref o), (1, .ref (adS 0))] := hl
  have hRf : R.frames = 6 := hRf
  have hRl : R.locals = 3113 := hRl
  have hRc : R.cells = 60 := hRc
  have hRs : R.slots = 410 := hRs
  have hin : meth.name = "<init>" := hin
  generalize ([] : List Loc) = locs at w ⊢
  have hn6 := hS.n6
  have hg8 := hS.g8
  obtain ⟨b9S, bxS, hSB⟩ := hS.toB h18 (by omega)
  have hpo : ∀ k, k < ng → adS (32 + k) ≠ o := fun k hk z => by have h9 := hS.pg hk; rw [z, h_o] at h9; cases h9
  refine lv_aload_n hx hb dX1_init_3_0 rfl (lv_at hl 0 rfl) ?_
  refine lv_aload_n hx hb dX1_init_3_1 rfl (lv_at hl 1 rfl) ?_
  refine mx_get (T := TX1) (v := .ref (adS 13)) X w in_X1 (ci := 1) rfl 10 (by decide) q311 (fun _ h => h) hS.st rfl dX1_init_3_2 ?_
  refine mx_clonei X w q513 q196 q197 hS.a13 (by rw [hRf]; decide) (by rw [hRl]; exact Nat.le_of_ble_eq_true rfl) (by rw [hRc]; omega) (by rw [hRs]; omega) hl.1 dX1_init_3_5 (fun sa H zsa w => ?_)
  refine mx_castArr X w q517 va_up_s w.nmInt dX1_init_3_8 ?_
  have nos : o ≠ sa := fun z => by rw [z, zsa] at h_o; cases h_o
  refine mx_bv w (va_runI (As := [.ref sa]) (rest := []) X (jt_st_init l G A _ o sa f ((va_up_k nos).trans h_o) va_up_s) (cwI 1 X.2.2.2.2 (lw_meth q153) rfl rfl rfl (X.2.2.2.2 _ q97) (X.2.2.2.2 _ q151) (X.2.2.2.2 _ q152) rfl (by decide +kernel) ⟨by rw [hRf]; decide, by rw [hRl]; decide⟩) (mx_preS w rfl) rfl rfl hl.1 rfl (lv_room (Nat.le_of_ble_eq_true rfl)) dX1_init_3_11 ⟨by rw [hRc]; omega, by rw [hRs]; omega⟩) (fun M9 H locs hp w => ?_)
  obtain ⟨q1, q3, q5, q6, q7, q8, q10, q11, q12, q14, q15, q_102, q17, q19, q_123, hB⟩ := hp
  obtain ⟨hN, hfr⟩ := Sta_init hB
  have hN := hN.base (M1 := M1) (fun q hq => va_up_k (fun z => hq (by rw [z]; exact zsa)))
  obtain ⟨ad, g, hN, hF, hAN, e0, hg0⟩ : ∃ ad g, Sta G ad 0 0 M1 M9 g ∧ adF M1 o ad ∧ adN 0 0 ad ∧ ad 0 = o ∧ ∀ p, g p = f00 f p := ⟨_, _, hN, cp_F zsa hfr, siA_N, rfl, fun _ => rfl⟩
  clear hB hfr
  refine lv_aload_n hx hb dX1_init_3_14 rfl (lv_at hl 1 rfl) ?_
  refine mx_get (T := TX1) (v := .ref (adS 1)) X w in_X1 (ci := 1) rfl 0 (by decide) q286 (fun _ h => h) (hN.src hF hS.st (hso 0 (by decide))) rfl dX1_init_3_15 ?_
  refine mx_bq w (va_runV (As := []) (rest := []) X (jt_al_iter l G A _ (adS 1) (f 172) (if np = 0 then G.2 0 else adS 2) np (hN.src hF hS.pl (hso 1 (by decide)))) (cwV 0 X.2.2.2.2 (lw_V q518 q519 q520 q100 q521) rfl rfl rfl (by decide +kernel) ⟨by rw [hRf]; decide, by rw [hRl]; decide⟩) (mx_preV w rfl (hN.src hF hS.pl (hso 1 (by decide))) rfl) rfl rfl hl.1 rfl (lv_room (Nat.le_of_ble_eq_true rfl)) dX1_init_3_18 ⟨by rw [hRc]; omega, by rw [hRs]; omega⟩) (fun r M9 H locs hp w => ?_)
  obtain ⟨it1, zit1, eR, eM⟩ := hp; subst eR
  have zi1 := hN.old hF e0 zit1
  have hN : Sta G ad 0 0 M1 M9 g := hN.ext (by rw [eM]; exact up4 zit1 _ _ _ _)
  have hIt : M9 it1 = some (.inr (13, [.int (nI 0), .int (-1), .int (f 172), .ref (adS 1)])) := by rw [eM]; exact va_up_s
  clear eM
  refine lv_astore_n (lv' := [(2, .ref it1), (0, .ref o), (1, .ref (adS 0))]) hx hb dX1_init_3_21 rfl hl (by decide) rfl (fun ls hl => ?_)
  have L22 : ∀ (n_22 : Nat) (ad_22 : (Nat → Nat)) (g_22 : (Nat → Int32)) (kk_22 : Nat) (M : mh) (H : Heap) (locs : List Loc) (ls : Array Slot), (hk1 : kk_22 ≤ np) → (hN : Sta G ad_22 kk_22 0 M1 M g_22) → (hF : adF M1 o ad_22) → (hAN : adN kk_22 0 ad_22) → (e0 : ad_22 0 = o) → (hg1 : ∀ j w, j < kk_22 → w < 8 → g_22 (39 + (8 * j) + w) = f (39 + (8 * j) + w)) → (hg0 : ∀ p, (p < 39 ∨ 87 ≤ p) → p ≠ 14 → p ≠ 172 → g_22 p = f00 f p) → (hI : ∃ lr : Int32, M it1 = some (Sum.inr (13, [Value.int (nI kk_22), Value.int lr, Value.int (f 172), Value.ref (adS 1)]))) → (hm1 : np < kk_22 + n_22) → lv_has ls 4 [(2, .ref it1), (0, .ref o), (1, .ref (adS 0))] → mW G A s M H locs → True → W p l e R s m av below meth c H locs (17 + 3 * kk_22) (113 + 20 * kk_22) Q (F0 m 22 ls []) := by
    intro n_22
    induction n_22 with
    | zero =>
      intro ad_22 g_22 kk_22 M H locs ls hk1 hN hF hAN e0 hg1 hg0 hI hm1 hl w _hT
      exfalso; omega
    | succ n_22 ih_22 =>
      intro ad_22 g_22 kk_22 M H locs ls hk1 hN hF hAN e0 hg1 hg0 hI hm1 hl w _hT
      refine lv_aload_n hx hb dX1_init_3_22 rfl (lv_at hl 0 rfl) ?_
      obtain ⟨lr, hIt⟩ := hI
      refine mx_biF w (va_runF (As := []) (rest := []) (w.cls0 (ci := 13) rfl).choose_spec X (ct_has l G A _ it1 kk_22 lr (adS 1) (f 172) (if np = 0 then G.2 0 else adS 2) np hIt (hN.src hF hS.pl (hso 1 (by decide))) hk1 (by omega)) (va_cwF 0 X.2.2.2.2 (lw_F q542 q546 q548 q114 q550) rfl rfl rfl (va_Fw.of (w.tblB (args := av) q544 rfl rfl) (w.tblB (args := av) q543 rfl rfl) (w.tblB (args := av) q549 rfl rfl) (w.tblB (args := av) q547 rfl rfl) (w.tblB (args := av) q545 rfl rfl)) (by decide +kernel) ⟨by rw [hRf]; decide, by rw [hRl]; decide⟩) (mx_preV w rfl hIt rfl) rfl rfl hl.1 rfl (lv_room (Nat.le_of_ble_eq_true rfl)) dX1_init_3_23 ⟨by rw [hRc]; omega, by rw [hRs]; omega⟩) (fun r M9 H locs hp w => ?_)
      obtain ⟨eR, eM⟩ := hp; subst M9; subst eR
      refine mx_beq (tgt := 52) hx hb dX1_init_3_28 (by decide) (fun c_28 => ?_) (fun c_28 => ?_)
      · skip
        have hkn : kk_22 = np := by have z9 : ¬ kk_22 < np := fun z => c_28 (decide_eq_true z); omega
        rw [hkn] at hN hAN hg1
        refine lv_aload_n hx hb dX1_init_3_52 rfl (lv_at hl 2 rfl) ?_
        refine mx_get (T := TX1) (v := .ref (adS 3)) X w in_X1 (ci := 1) rfl 1 (by decide) q288 (fun _ h => h) (hN.src hF hS.st (hso 0 (by decide))) rfl dX1_init_3_53 ?_
        refine mx_bq w (va_runV (As := []) (rest := []) X (jt_al_iter l G A _ (adS 3) (f 173) (if ng = 0 then G.2 0 else adS 4) ng (hN.src hF hS.gl (hso 3 (by decide)))) (cwV 0 X.2.2.2.2 (lw_V q518 q519 q520 q100 q521) rfl rfl rfl (by decide +kernel) ⟨by rw [hRf]; decide, by rw [hRl]; decide⟩) (mx_preV w rfl (hN.src hF hS.gl (hso 3 (by decide))) rfl) rfl rfl hl.1 rfl (lv_room (Nat.le_of_ble_eq_true rfl)) dX1_init_3_56 ⟨by rw [hRc]; omega, by rw [hRs]; omega⟩) (fun r M9 H locs hp w => ?_)
        obtain ⟨it2, zit2, eR, eM⟩ := hp; subst eR
        have zi2 := hN.old hF e0 zit2
        have hN : Sta G ad_22 np 0 M1 M9 g_22 := hN.ext (by rw [eM]; exact up4 zit2 _ _ _ _)
        have hIt : M9 it2 = some (.inr (13, [.int (nI 0), .int (-1), .int (f 173), .ref (adS 3)])) := by rw [eM]; exact va_up_s
        clear eM
        refine lv_astore_n (lv' := [(2, .ref it2), (0, .ref o), (1, .ref (adS 0))]) hx hb dX1_init_3_59 rfl hl (by decide) rfl (fun ls hl => ?_)
        have L60 : ∀ (n_60 : Nat) (ad_60 : (Nat → Nat)) (g_60 : (Nat → Int32)) (kk_60 : Nat) (M : mh) (H : Heap) (locs : List Loc) (ls : Array Slot), (hk2 : kk_60 ≤ ng) → (hN : Sta G ad_60 np kk_60 M1 M g_60) → (hF : adF M1 o ad_60) → (hAN : adN np kk_60 ad_60) → (e0 : ad_60 0 = o) → (hgG : ∀ j w, j < kk_60 → w < 3 → g_60 (103 + (3 * j) + w) = f (103 + (3 * j) + w)) → (hgO : ∀ p, (p < 103 ∨ 127 ≤ p) → p ≠ 16 → p ≠ 173 → g_60 p = g_22 p) → (hI : ∃ lr : Int32, M it2 = some (Sum.inr (13, [Value.int (nI kk_60), Value.int lr, Value.int (f 173), Value.ref (adS 3)]))) → (hm2 : ng < kk_60 + n_60) → lv_has ls 4 [(2, .ref it2), (0, .ref o), (1, .ref (adS 0))] → mW G A s M H locs → True → W p l e R s m av below meth c H locs (36 + 1 * kk_60) (240 + 10 * kk_60) Q (F0 m 60 ls []) := by
          intro n_60
          induction n_60 with
          | zero =>
            intro ad_60 g_60 kk_60 M H locs ls hk2 hN hF hAN e0 hgG hgO hI hm2 hl w _hT
            exfalso; omega
          | succ n_60 ih_60 =>
            intro ad_60 g_60 kk_60 M H locs ls hk2 hN hF hAN e0 hgG hgO hI hm2 hl w _hT
            refine lv_aload_n hx hb dX1_init_3_60 rfl (lv_at hl 0 rfl) ?_
            obtain ⟨lr, hIt⟩ := hI
            refine mx_biF w (va_runF (As := []) (rest := []) (w.cls0 (ci := 13) rfl).choose_spec X (ct_has l G A _ it2 kk_60 lr (adS 3) (f 173) (if ng = 0 then G.2 0 else adS 4) ng hIt (hN.src hF hS.gl (hso 3 (by decide))) hk2 (by omega)) (va_cwF 0 X.2.2.2.2 (lw_F q542 q546 q548 q114 q550) rfl rfl rfl (va_Fw.of (w.tblB (args := av) q544 rfl rfl) (w.tblB (args := av) q543 rfl rfl) (w.tblB (args := av) q549 rfl rfl) (w.tblB (args := av) q547 rfl rfl) (w.tblB (args := av) q545 rfl rfl)) (by decide +kernel) ⟨by rw [hRf]; decide, by rw [hRl]; decide⟩) (mx_preV w rfl hIt rfl) rfl rfl hl.1 rfl (lv_room (Nat.le_of_ble_eq_true rfl)) dX1_init_3_61 ⟨by rw [hRc]; omega, by rw [hRs]; omega⟩) (fun r M9 H locs hp w => ?_)
            obtain ⟨eR, eM⟩ := hp; subst M9; subst eR
            refine mx_beq (tgt := 91) hx hb dX1_init_3_66 (by decide) (fun c_66 => ?_) (fun c_66 => ?_)
            · skip
              have hkn2 : kk_60 = ng := by have z9 : ¬ kk_60 < ng := fun z => c_66 (decide_eq_true z); omega
              rw [hkn2] at hN hAN hgG
              refine lv_aload_n hx hb dX1_init_3_91 rfl (lv_at hl 2 rfl) ?_
              refine mx_get (T := TX1) (v := .ref (adS 5)) X w in_X1 (ci := 1) rfl 2 (by decide) q291 (fun _ h => h) (hN.src hF hS.st (hso 0 (by decide))) rfl dX1_init_3_92 ?_
              refine lv_iconst (v := (0 : Int32)) hx hb dX1_init_3_95 (by decide) ?_
              refine lv_aload_n hx hb dX1_init_3_96 rfl (lv_at hl 1 rfl) ?_
              refine mx_get (T := TX1) (v := .ref (ad_60 5)) X w in_X1 (ci := 1) rfl 2 (by decide) q291 (fun _ h => h) (hN.obj e0) rfl dX1_init_3_97 ?_
              refine lv_iconst (v := (0 : Int32)) hx hb dX1_init_3_100 (by decide) ?_
              refine lv_bipush (v := (12 : Int32)) hx hb dX1_init_3_101 (by decide) ?_
              refine mx_cpyi X w q737 0 rfl rfl (hN.src hF hS.a5 (hso 5 (by decide))) hN.a5 (sp := 0) (dp := 0) (k := 12) (by decide) (by decide) (by decide) (by decide) (fun _ _ => rfl) (by rw [hRf]; decide) (by rw [hRl]; exact Nat.le_of_ble_eq_true rfl) hl.1 dX1_init_3_103 (fun H locs w => ?_)
              have hN := hN.cpyE0 f
              refine st_gen w hN (fun M w hN => ?_)
              refine lv_aload_n hx hb dX1_init_3_106 rfl (lv_at hl 2 rfl) ?_
              refine mx_get (T := TX1) (v := .ref (adS 6)) X w in_X1 (ci := 1) rfl 3 (by decide) q293 (fun _ h => h) (hN.src hF hS.st (hso 0 (by decide))) rfl dX1_init_3_107 ?_
              refine lv_iconst (v := (0 : Int32)) hx hb dX1_init_3_110 (by decide) ?_
              refine lv_aload_n hx hb dX1_init_3_111 rfl (lv_at hl 1 rfl) ?_
              refine mx_get (T := TX1) (v := .ref (ad_60 6)) X w in_X1 (ci := 1) rfl 3 (by decide) q293 (fun _ h => h) (hN.obj e0) rfl dX1_init_3_112 ?_
              refine lv_iconst (v := (0 : Int32)) hx hb dX1_init_3_115 (by decide) ?_
              refine lv_bipush (v := (12 : Int32)) hx hb dX1_init_3_116 (by decide) ?_
              refine mx_cpyi X w q737 0 rfl rfl (hN.src hF hS.a6 (hso 6 (by decide))) hN.a6 (sp := 0) (dp := 0) (k := 12) (by decide) (by decide) (by decide) (by decide) (fun _ _ => rfl) (by rw [hRf]; decide) (by rw [hRl]; exact Nat.le_of_ble_eq_true rfl) hl.1 dX1_init_3_118 (fun H locs w => ?_)
              have hN := hN.cpyE1 f
              refine st_gen w hN (fun M w hN => ?_)
              refine lv_aload_n hx hb dX1_init_3_121 rfl (lv_at hl 2 rfl) ?_
              refine mx_get (T := TX1) (v := .ref (adS 7)) X w in_X1 (ci := 1) rfl 4 (by decide) q295 (fun _ h => h) (hN.src hF hS.st (hso 0 (by decide))) rfl dX1_init_3_122 ?_
              refine lv_iconst (v := (0 : Int32)) hx hb dX1_init_3_125 (by decide) ?_
              refine lv_aload_n hx hb dX1_init_3_126 rfl (lv_at hl 1 rfl) ?_
              refine mx_get (T := TX1) (v := .ref (ad_60 7)) X w in_X1 (ci := 1) rfl 4 (by decide) q295 (fun _ h => h) (hN.obj e0) rfl dX1_init_3_127 ?_
              refine lv_iconst (v := (0 : Int32)) hx hb dX1_init_3_130 (by decide) ?_
              refine lv_bipush (v := (12 : Int32)) hx hb dX1_init_3_131 (by decide) ?_
              refine mx_cpyi X w q737 0 rfl rfl (hN.src hF hS.a7 (hso 7 (by decide))) hN.a7 (sp := 0) (dp := 0) (k := 12) (by decide) (by decide) (by decide) (by decide) (fun _ _ => rfl) (by rw [hRf]; decide) (by rw [hRl]; exact Nat.le_of_ble_eq_true rfl) hl.1 dX1_init_3_133 (fun H locs w => ?_)
              have hN := hN.cpyE2 f
              refine st_gen w hN (fun M w hN => ?_)
              refine lv_aload_n hx hb dX1_init_3_136 rfl (lv_at hl 1 rfl) ?_
              refine lv_aload_n hx hb dX1_init_3_137 rfl (lv_at hl 2 rfl) ?_
              refine mx_get (T := TX1) (v := .int (f 19)) X w in_X1 (ci := 1) rfl 5 (by decide) q297 (fun _ h => h) (hN.src hF hS.st (hso 0 (by decide))) rfl dX1_init_3_138 ?_
              refine st_putO (x := (f 19)) X w hN e0 5 19 q297 rfl rfl rfl rfl rfl (stOk_lit rfl) dX1_init_3_141 (fun M H locs w hN => ?_)
              obtain ⟨gx, egx⟩ : ∃ gx, gx = (upd (mixE2 f (mixE1 f (mixE0 f g_60))) 19 (f 19)) := ⟨_, rfl⟩
              rw [← egx] at hN
              have h18x : gx 18 = nI 0 := by rw [egx]; exact ((pk_un (by decide)).trans ((mixE2_o (by decide)).trans ((mixE1_o (by decide)).trans (mixE0_o (by decide))))).trans ((hgO 18 (by omega) (by decide) (by decide)).trans ((hg0 18 (by omega) (by decide) (by decide)).trans rfl))
              refine lv_aload_n hx hb dX1_init_3_144 rfl (lv_at hl 2 rfl) ?_
              refine mx_get (T := TX1) (v := .ref (adS 8)) X w in_X1 (ci := 1) rfl 6 (by decide) q299 (fun _ h => h) (hN.src hF hS.st (hso 0 (by decide))) rfl dX1_init_3_145 ?_
              refine mx_bq w (va_runV (As := []) (rest := []) X (jt_al_iter l G A _ (adS 8) (f 174) (if nn = 0 then G.2 0 else b9S) nn (hN.src hF hSB.l8 (hso 8 (by decide)))) (cwV 0 X.2.2.2.2 (lw_V q518 q519 q520 q100 q521) rfl rfl rfl (by decide +kernel) ⟨by rw [hRf]; decide, by rw [hRl]; decide⟩) (mx_preV w rfl (hN.src hF hSB.l8 (hso 8 (by decide))) rfl) rfl rfl hl.1 rfl (lv_room (Nat.le_of_ble_eq_true rfl)) dX1_init_3_148 ⟨by rw [hRc]; omega, by rw [hRs]; omega⟩) (fun r M9 H locs hp w => ?_)
              obtain ⟨it3, zit3, eR, eM⟩ := hp; subst eR
              have zi3 := hN.old hF e0 zit3
              have hN : Sta G ad_60 np ng M1 M9 gx := hN.ext (by rw [eM]; exact up4 zit3 _ _ _ _)
              have hIt : M9 it3 = some (.inr (13, [.int (nI 0), .int (-1), .int (f 174), .ref (adS 8)])) := by rw [eM]; exact va_up_s
              clear eM
              refine lv_astore_n (lv' := [(2, .ref it3), (0, .ref o), (1, .ref (adS 0))]) hx hb dX1_init_3_151 rfl hl (by decide) rfl (fun ls hl => ?_)
              have L152 : ∀ (n_152 : Nat) (g_152 : (Nat → Int32)) (kk_152 : Nat) (M : mh) (H : Heap) (locs : List Loc) (ls : Array Slot), (hk3 : kk_152 ≤ nn) → (hN : Sta G ad_60 np ng M1 M g_152) → (h18g : g_152 18 = nI kk_152) → (hgN : ∀ j, j < kk_152 → g_152 (200 + j) = f (200 + j)) → (hgX : ∀ p, p < 200 → p ≠ 18 → p ≠ 174 → g_152 p = gx p) → (hI : ∃ lr : Int32, M it3 = some (Sum.inr (13, [Value.int (nI kk_152), Value.int lr, Value.int (f 174), Value.ref (adS 8)]))) → (hm3 : nn < kk_152 + n_152) → lv_has ls 4 [(2, .ref it3), (0, .ref o), (1, .ref (adS 0))] → mW G A s M H locs → True → W p l e R s m av below meth c H locs (45 + 2 * kk_152) (324 + 11 * kk_152) Q (F0 m 152 ls []) := by
                intro n_152
                induction n_152 with
                | zero =>
                  intro g_152 kk_152 M H locs ls hk3 hN h18g hgN hgX hI hm3 hl w _hT
                  exfalso; omega
                | succ n_152 ih_152 =>
                  intro g_152 kk_152 M H locs ls hk3 hN h18g hgN hgX hI hm3 hl w _hT
                  refine lv_aload_n hx hb dX1_init_3_152 rfl (lv_at hl 0 rfl) ?_
                  obtain ⟨lr, hIt⟩ := hI
                  refine mx_biF w (va_runF (As := []) (rest := []) (w.cls0 (ci := 13) rfl).choose_spec X (ct_has l G A _ it3 kk_152 lr (adS 8) (f 174) (if nn = 0 then G.2 0 else b9S) nn hIt (hN.src hF hSB.l8 (hso 8 (by decide))) hk3 (by omega)) (va_cwF 0 X.2.2.2.2 (lw_F q542 q546 q548 q114 q550) rfl rfl rfl (va_Fw.of (w.tblB (args := av) q544 rfl rfl) (w.tblB (args := av) q543 rfl rfl) (w.tblB (args := av) q549 rfl rfl) (w.tblB (args := av) q547 rfl rfl) (w.tblB (args := av) q545 rfl rfl)) (by decide +kernel) ⟨by rw [hRf]; decide, by rw [hRl]; decide⟩) (mx_preV w rfl hIt rfl) rfl rfl hl.1 rfl (lv_room (Nat.le_of_ble_eq_true rfl)) dX1_init_3_153 ⟨by rw [hRc]; omega, by rw [hRs]; omega⟩) (fun r M9 H locs hp w => ?_)
                  obtain ⟨eR, eM⟩ := hp; subst M9; subst eR
                  refine mx_beq (tgt := 189) hx hb dX1_init_3_158 (by decide) (fun c_158 => ?_) (fun c_158 => ?_)
                  · skip
                    have hkn3 : kk_152 = nn := by have z9 : ¬ kk_152 < nn := fun z => c_158 (decide_eq_true z); omega
                    rw [hkn3] at h18g hgN
                    refine lv_aload_n hx hb dX1_init_3_189 rfl (lv_at hl 2 rfl) ?_
                    refine mx_get (T := TX1) (v := .ref (adS 11)) X w in_X1 (ci := 1) rfl 8 (by decide) q303 (fun _ h => h) (hN.src hF hS.st (hso 0 (by decide))) rfl dX1_init_3_190 ?_
                    refine lv_iconst (v := (0 : Int32)) hx hb dX1_init_3_193 (by decide) ?_
                    refine lv_aload_n hx hb dX1_init_3_194 rfl (lv_at hl 1 rfl) ?_
                    refine mx_get (T := TX1) (v := .ref (ad_60 11)) X w in_X1 (ci := 1) rfl 8 (by decide) q303 (fun _ h => h) (hN.obj e0) rfl dX1_init_3_195 ?_
                    refine lv_iconst (v := (0 : Int32)) hx hb dX1_init_3_198 (by decide) ?_
                    refine lv_bipush (v := (8 : Int32)) hx hb dX1_init_3_199 (by decide) ?_
                    refine mx_cpyi X w q737 0 rfl rfl (hN.src hF hS.a11 (hso 11 (by decide))) hN.a11 (sp := 0) (dp := 0) (k := 8) (by decide) (by decide) (by decide) (by decide) (fun _ _ => rfl) (by rw [hRf]; decide) (by rw [hRl]; exact Nat.le_of_ble_eq_true rfl) hl.1 dX1_init_3_201 (fun H locs w => ?_)
                    have hN := hN.cpyZ0 f
                    refine st_gen w hN (fun M w hN => ?_)
                    refine lv_aload_n hx hb dX1_init_3_204 rfl (lv_at hl 2 rfl) ?_
                    refine mx_get (T := TX1) (v := .ref (adS 12)) X w in_X1 (ci := 1) rfl 9 (by decide) q306 (fun _ h => h) (hN.src hF hS.st (hso 0 (by decide))) rfl dX1_init_3_205 ?_
                    refine lv_iconst (v := (0 : Int32)) hx hb dX1_init_3_208 (by decide) ?_
                    refine lv_aload_n hx hb dX1_init_3_209 rfl (lv_at hl 1 rfl) ?_
                    refine mx_get (T := TX1) (v := .ref (ad_60 12)) X w in_X1 (ci := 1) rfl 9 (by decide) q306 (fun _ h => h) (hN.obj e0) rfl dX1_init_3_210 ?_
                    refine lv_iconst (v := (0 : Int32)) hx hb dX1_init_3_213 (by decide) ?_
                    refine lv_bipush (v := (8 : Int32)) hx hb dX1_init_3_214 (by decide) ?_
                    refine mx_cpyi X w q737 1 rfl rfl (hN.src hF hS.a12 (hso 12 (by decide))) hN.a12 (sp := 0) (dp := 0) (k := 8) (by decide) (by decide) (by decide) (by decide) (fun i hi => cp_fit hop hi) (by rw [hRf]; decide) (by rw [hRl]; exact Nat.le_of_ble_eq_true rfl) hl.1 dX1_init_3_216 (fun H locs w => ?_)
                    have hN := hN.cpyZ1 f
                    refine st_gen w hN (fun M w hN => ?_)
                    refine lv_aload_n hx hb dX1_init_3_219 rfl (lv_at hl 2 rfl) ?_
                    refine mx_get (T := TX1) (v := .ref (adS 14)) X w in_X1 (ci := 1) rfl 11 (by decide) q313 (fun _ h => h) (hN.src hF hS.st (hso 0 (by decide))) rfl dX1_init_3_220 ?_
                    refine lv_iconst (v := (0 : Int32)) hx hb dX1_init_3_223 (by decide) ?_
                    refine lv_aload_n hx hb dX1_init_3_224 rfl (lv_at hl 1 rfl) ?_
                    refine mx_get (T := TX1) (v := .ref (ad_60 14)) X w in_X1 (ci := 1) rfl 11 (by decide) q313 (fun _ h => h) (hN.obj e0) rfl dX1_init_3_225 ?_
                    refine lv_iconst (v := (0 : Int32)) hx hb dX1_init_3_228 (by decide) ?_
                    refine lv_iconst (v := (3 : Int32)) hx hb dX1_init_3_229 (by decide) ?_
                    refine mx_cpyi X w q737 0 rfl rfl (hN.src hF hS.a14 (hso 14 (by decide))) hN.a14 (sp := 0) (dp := 0) (k := 3) (by decide) (by decide) (by decide) (by decide) (fun _ _ => rfl) (by rw [hRf]; decide) (by rw [hRl]; exact Nat.le_of_ble_eq_true rfl) hl.1 dX1_init_3_230 (fun H locs w => ?_)
                    have hN := hN.cpyC f
                    refine st_gen w hN (fun M w hN => ?_)
                    refine lv_aload_n hx hb dX1_init_3_233 rfl (lv_at hl 1 rfl) ?_
                    refine lv_aload_n hx hb dX1_init_3_234 rfl (lv_at hl 2 rfl) ?_
                    refine mx_get (T := TX1) (v := .int (f 15)) X w in_X1 (ci := 1) rfl 17 (by decide) q322 (fun _ h => h) (hN.src hF hS.st (hso 0 (by decide))) rfl dX1_init_3_235 ?_
                    refine st_putO (x := (f 15)) X w hN e0 17 15 q322 rfl rfl rfl rfl rfl (stOk_lit rfl) dX1_init_3_238 (fun M H locs w hN => ?_)
                    refine lv_aload_n hx hb dX1_init_3_241 rfl (lv_at hl 1 rfl) ?_
                    refine lv_aload_n hx hb dX1_init_3_242 rfl (lv_at hl 2 rfl) ?_
                    refine mx_get (T := TX1) (v := .int (f 0)) X w in_X1 (ci := 1) rfl 18 (by decide) q326 (fun _ h => h) (hN.src hF hS.st (hso 0 (by decide))) rfl dX1_init_3_243 ?_
                    refine st_putO (x := (f 0)) X w hN e0 18 0 q326 rfl rfl rfl rfl rfl (stOk_lit rfl) dX1_init_3_246 (fun M H locs w hN => ?_)
                    refine lv_aload_n hx hb dX1_init_3_249 rfl (lv_at hl 1 rfl) ?_
                    refine lv_aload_n hx hb dX1_init_3_250 rfl (lv_at hl 2 rfl) ?_
                    refine mx_get (T := TX1) (v := .int (f 1)) X w in_X1 (ci := 1) rfl 19 (by decide) q329 (fun _ h => h) (hN.src hF hS.st (hso 0 (by decide))) rfl dX1_init_3_251 ?_
                    refine st_putO (x := (f 1)) X w hN e0 19 1 q329 rfl rfl rfl rfl rfl (stOk_lit rfl) dX1_init_3_254 (fun M H locs w hN => ?_)
                    refine lv_aload_n hx hb dX1_init_3_257 rfl (lv_at hl 1 rfl) ?_
                    refine lv_aload_n hx hb dX1_init_3_258 rfl (lv_at hl 2 rfl) ?_
                    refine mx_get (T := TX1) (v := .int (f 2)) X w in_X1 (ci := 1) rfl 20 (by decide) q333 (fun _ h => h) (hN.src hF hS.st (hso 0 (by decide))) rfl dX1_init_3_259 ?_
                    refine st_putO (x := (f 2)) X w hN e0 20 2 q333 rfl rfl rfl rfl rfl (stOk_lit rfl) dX1_init_3_262 (fun M H locs w hN => ?_)
                    refine lv_aload_n hx hb dX1_init_3_265 rfl (lv_at hl 1 rfl) ?_
                    refine lv_aload_n hx hb dX1_init_3_266 rfl (lv_at hl 2 rfl) ?_
                    refine mx_get (T := TX1) (v := .int (f 17)) X w in_X1 (ci := 1) rfl 21 (by decide) q335 (fun _ h => h) (hN.src hF hS.st (hso 0 (by decide))) rfl dX1_init_3_267 ?_
                    refine st_putO (x := (f 17)) X w hN e0 21 17 q335 rfl rfl rfl rfl rfl (stOk_lit rfl) dX1_init_3_270 (fun M H locs w hN => ?_)
                    refine lv_aload_n hx hb dX1_init_3_273 rfl (lv_at hl 1 rfl) ?_
                    refine lv_aload_n hx hb dX1_init_3_274 rfl (lv_at hl 2 rfl) ?_
                    refine mx_get (T := TX1) (v := .int (f 4)) X w in_X1 (ci := 1) rfl 22 (by decide) q337 (fun _ h => h) (hN.src hF hS.st (hso 0 (by decide))) rfl dX1_init_3_275 ?_
                    refine st_putO (x := (f 4)) X w hN e0 22 4 q337 rfl rfl rfl rfl rfl (stOk_lit rfl) dX1_init_3_278 (fun M H locs w hN => ?_)
                    refine lv_aload_n hx hb dX1_init_3_281 rfl (lv_at hl 1 rfl) ?_
                    refine lv_aload_n hx hb dX1_init_3_282 rfl (lv_at hl 2 rfl) ?_
                    refine mx_get (T := TX1) (v := .int (f 3)) X w in_X1 (ci := 1) rfl 23 (by decide) q341 (fun _ h => h) (hN.src hF hS.st (hso 0 (by decide))) rfl dX1_init_3_283 ?_
                    refine st_putO (x := (f 3)) X w hN e0 23 3 q341 rfl rfl rfl rfl rfl (stOk_lit rfl) dX1_init_3_286 (fun M H locs w hN => ?_)
                    refine lv_aload_n hx hb dX1_init_3_289 rfl (lv_at hl 1 rfl) ?_
                    refine lv_aload_n hx hb dX1_init_3_290 rfl (lv_at hl 2 rfl) ?_
                    refine mx_get (T := TX1) (v := .int (f 13)) X w in_X1 (ci := 1) rfl 24 (by decide) q344 (fun _ h => h) (hN.src hF hS.st (hso 0 (by decide))) rfl dX1_init_3_291 ?_
                    refine st_putO (x := (f 13)) X w hN e0 24 13 q344 rfl rfl rfl rfl rfl (stOk_lit rfl) dX1_init_3_294 (fun M H locs w hN => ?_)
                    refine lv_aload_n hx hb dX1_init_3_297 rfl (lv_at hl 1 rfl) ?_
                    refine lv_aload_n hx hb dX1_init_3_298 rfl (lv_at hl 2 rfl) ?_
                    refine mx_get (T := TX1) (v := .int (f 8)) X w in_X1 (ci := 1) rfl 25 (by decide) q347 (fun _ h => h) (hN.src hF hS.st (hso 0 (by decide))) rfl dX1_init_3_299 ?_
                    refine st_putO (x := (f 8)) X w hN e0 25 8 q347 rfl rfl rfl rfl rfl (stOk_lit rfl) dX1_init_3_302 (fun M H locs w hN => ?_)
                    refine lv_aload_n hx hb dX1_init_3_305 rfl (lv_at hl 1 rfl) ?_
                    refine lv_aload_n hx hb dX1_init_3_306 rfl (lv_at hl 2 rfl) ?_
                    refine mx_get (T := TX1) (v := .int (f 9)) X w in_X1 (ci := 1) rfl 26 (by decide) q349 (fun _ h => h) (hN.src hF hS.st (hso 0 (by decide))) rfl dX1_init_3_307 ?_
                    refine st_putO (x := (f 9)) X w hN e0 26 9 q349 rfl rfl rfl rfl rfl (stOk_lit rfl) dX1_init_3_310 (fun M H locs w hN => ?_)
                    refine lv_aload_n hx hb dX1_init_3_313 rfl (lv_at hl 1 rfl) ?_
                    refine lv_aload_n hx hb dX1_init_3_314 rfl (lv_at hl 2 rfl) ?_
                    refine mx_get (T := TX1) (v := .int (f 7)) X w in_X1 (ci := 1) rfl 27 (by decide) q352 (fun _ h => h) (hN.src hF hS.st (hso 0 (by decide))) rfl dX1_init_3_315 ?_
                    refine st_putO (x := (f 7)) X w hN e0 27 7 q352 rfl rfl rfl rfl rfl (stOk_lit rfl) dX1_init_3_318 (fun M H locs w hN => ?_)
                    refine lv_aload_n hx hb dX1_init_3_321 rfl (lv_at hl 1 rfl) ?_
                    refine lv_aload_n hx hb dX1_init_3_322 rfl (lv_at hl 2 rfl) ?_
                    refine mx_get (T := TX1) (v := .int (f 6)) X w in_X1 (ci := 1) rfl 28 (by decide) q355 (fun _ h => h) (hN.src hF hS.st (hso 0 (by decide))) rfl dX1_init_3_323 ?_
                    refine st_putO (x := (f 6)) X w hN e0 28 6 q355 rfl rfl rfl rfl rfl (stOk_lit rfl) dX1_init_3_326 (fun M H locs w hN => ?_)
                    refine lv_aload_n hx hb dX1_init_3_329 rfl (lv_at hl 1 rfl) ?_
                    refine lv_aload_n hx hb dX1_init_3_330 rfl (lv_at hl 2 rfl) ?_
                    refine mx_get (T := TX1) (v := .int (f 5)) X w in_X1 (ci := 1) rfl 29 (by decide) q359 (fun _ h => h) (hN.src hF hS.st (hso 0 (by decide))) rfl dX1_init_3_331 ?_
                    refine st_putO (x := (f 5)) X w hN e0 29 5 q359 rfl (cp_nar h5) (cp_fitb h5) rfl rfl (stOk_lit rfl) dX1_init_3_334 (fun M H locs w hN => ?_)
                    refine W.widen (k := 60) (n := 410) (by omega) (by omega) ?_
                    exact fin _ H locs ls 337 dX1_init_3_337 (cp_fin hN hS h18 hn7 e0 hF hAN hgX h18g hgN egx hgG hgO hg1 hg0) w
                  · skip
                    have hlt : kk_152 < nn := of_decide_eq_true c_158
                    have hb9o : b9S ≠ o := fun z => by have h9 := hSB.a9 (by omega); rw [z, h_o] at h9; cases h9
                    refine lv_aload_n hx hb dX1_init_3_161 rfl (lv_at hl 0 rfl) ?_
                    have hl1 := hN.src hF hSB.l8 (hso 8 (by decide))
                    rw [if_neg (show ¬ nn = 0 by omega)] at hl1
                    refine mx_bqF w (va_runF (As := []) (rest := []) (w.cls0 (ci := 13) rfl).choose_spec X (jt_it_next l G A _ it3 kk_152 lr (adS 8) (f 174) b9S nn 10 (fun k => if k < nn then some (bxS k) else none) hIt hl1 (hN.src hF (hSB.a9 (by omega)) hb9o) hlt (by omega) (by decide)) (va_cwF 0 X.2.2.2.2 (lw_F q552 q555 q557 q114 q559) rfl rfl rfl (va_Fw.of (w.tblB (args := av) q554 rfl rfl) (w.tblB (args := av) q553 rfl rfl) (w.tblB (args := av) q558 rfl rfl) (w.tblB (args := av) q556 rfl rfl) (w.tblB (args := av) q545 rfl rfl)) (by decide +kernel) ⟨by rw [hRf]; decide, by rw [hRl]; decide⟩) (mx_preV w rfl hIt rfl) rfl rfl hl.1 rfl (lv_room (Nat.le_of_ble_eq_true rfl)) dX1_init_3_162 ⟨by rw [hRc]; omega, by rw [hRs]; omega⟩) (fun r M9 H locs hp w => ?_)
                    obtain ⟨eR, eM⟩ := hp
                    have eR : r = some (bxS kk_152) := eR.trans (if_pos hlt)
                    subst eR
                    have hN : Sta G ad_60 np ng M1 M9 g_152 := by rw [eM]; exact (hN.oth (by decide) hIt zi3).oth (by decide) va_up_s zi3
                    have hIt : M9 it3 = some (.inr (13, [.int (nI (kk_152 + 1)), .int (nI kk_152), .int (f 174), .ref (adS 8)])) := by rw [eM]; exact va_up_s
                    clear eM
                    have hbx := hN.srcBox hF h_o (hSB.2.2.2.2.2.1 kk_152 hlt)
                    refine mx_boxcast X w q738 hbx dX1_init_3_167 ?_
                    refine mx_bi w (va_runV (As := []) (rest := []) X (ct_intV l G A _ (bxS kk_152) (f (200 + kk_152)) hbx) (cwV 0 X.2.2.2.2 (lw_V q739 q740 q741 q124 q742) rfl rfl rfl (by decide +kernel) ⟨by rw [hRf]; decide, by rw [hRl]; decide⟩) (mx_preVB w rfl hbx) rfl rfl hl.1 rfl (lv_room (Nat.le_of_ble_eq_true rfl)) dX1_init_3_170 ⟨by rw [hRc]; omega, by rw [hRs]; omega⟩) (fun r M9 H locs hp w => ?_)
                    obtain ⟨eR, eM⟩ := hp; subst M9
                    have eR : r = (f (200 + kk_152)) := eR
                    rw [eR]
                    refine lv_istore_n (lv' := [(3, .int (f (200 + kk_152))), (2, .ref it3), (0, .ref o), (1, .ref (adS 0))]) hx hb dX1_init_3_173 rfl hl (by decide) rfl (fun ls hl => ?_)
                    refine lv_aload_n hx hb dX1_init_3_174 rfl (lv_at hl 2 rfl) ?_
                    refine mx_get (T := TX1) (v := .ref (ad_60 8)) X w in_X1 (ci := 1) rfl 6 (by decide) q299 (fun _ h => h) (hN.obj e0) rfl dX1_init_3_175 ?_
                    refine lv_iload_n hx hb dX1_init_3_178 rfl (lv_at hl 0 rfl) ?_
                    refine mx_bq w (va_runS (As := [.int (f (200 + kk_152))]) (rest := [.ref (ad_60 8)]) X (ct_valueOf l G A _ (f (200 + kk_152))) (va_cwS 1 X.2.2.2.2 (lw_S q743 q744 q124 q745) rfl rfl rfl (by decide +kernel) ⟨by rw [hRf]; decide, by rw [hRl]; decide⟩) (mx_preS w rfl) rfl rfl hl.1 rfl (lv_room (Nat.le_of_ble_eq_true rfl)) dX1_init_3_179 ⟨by rw [hRc]; omega, by rw [hRs]; omega⟩) (fun r M9 H locs hp w => ?_)
                    obtain ⟨qv, eR, hbv, hev⟩ := hp; subst eR
                    have hN := hN.ext hev
                    have hIt := (hev _ (by rw [hIt]; exact fun e => by cases e)).trans hIt
                    clear hev
                    obtain ⟨b9, bx, hB⟩ := hN.toB h18g (by omega)
                    refine mx_bi w (va_runV (As := [.ref qv]) (rest := []) X (ct_naddK l G A _ ad_60 b9 bx np ng kk_152 M1 g_152 qv (f (200 + kk_152)) hB (by omega) hbv) (cwV 1 X.2.2.2.2 (lw_V q664 q665 q666 q100 q667) rfl rfl rfl (by decide +kernel) ⟨by rw [hRf]; decide, by rw [hRl]; decide⟩) (mx_preV w rfl hB.l8 rfl) rfl rfl hl.1 rfl (lv_room (Nat.le_of_ble_eq_true rfl)) dX1_init_3_182 ⟨by rw [hRc]; omega, by rw [hRs]; omega⟩) (fun r182 M9 H locs hp w => ?_)
                    obtain ⟨⟨b9n, bxn, hB2, hb9⟩, hka⟩ := hp
                    have hIt := (hka it3 (by rw [hIt]; exact fun z => by cases z) (cp_i6 hIt hB) (cp_i7 hIt hB)).trans hIt
                    have hN := hB2.sta
                    have h18g : nAdd g_152 kk_152 (f (200 + kk_152)) 18 = nI (kk_152 + 1) := nAdd_18
                    have hgN := cp_gN hgN
                    have hgX := cp_gX (nn := kk_152) (x := f (200 + kk_152)) hgX
                    clear hka hB2 hB hb9
                    refine lv_pop hx hb dX1_init_3_185 rfl ?_
                    refine lv_goto (tgt := 152) hx hb dX1_init_3_186 (by decide) ?_
                    refine W.widen (k := (45 + 2 * (kk_152 + 1))) (n := (324 + 11 * (kk_152 + 1))) (by omega) (by omega) ?_
                    exact ih_152 (nAdd g_152 kk_152 (f (200 + kk_152))) (kk_152 + 1) _ H locs ls (by first | omega | assumption | exact (by omega)) (by first | omega | assumption | exact hN) (by first | omega | assumption | exact h18g) (by first | omega | assumption | exact hgN) (by first | omega | assumption | exact hgX) (by first | omega | assumption | exact ⟨_, hIt⟩) (by first | omega | assumption) (lv_sub hl [1, 2, 3] rfl) w trivial
              refine W.widen (k := (45 + 2 * 0)) (n := (324 + 11 * 0)) (by omega) (by omega) ?_
              exact L152 (nn + 1) gx 0 _ H locs ls (by first | omega | assumption | exact (Nat.zero_le _)) (by first | omega | assumption | exact hN) (by first | omega | assumption | exact h18x) (by first | omega | assumption | exact (fun j z => absurd z (Nat.not_lt_zero _))) (by first | omega | assumption | exact (fun p _ _ _ => rfl)) (by first | omega | assumption | exact ⟨_, hIt⟩) (by first | omega | assumption) (lv_sub hl [0, 1, 2] rfl) w trivial
            · skip
              have hlt : kk_60 < ng := of_decide_eq_true c_66
              refine lv_aload_n hx hb dX1_init_3_69 rfl (lv_at hl 0 rfl) ?_
              have hl1 := (hN.src hF hS.gl (hso 3 (by decide)))
              rw [if_neg (show ¬ ng = 0 by omega)] at hl1
              refine mx_bqF w (va_runF (As := []) (rest := []) (w.cls0 (ci := 13) rfl).choose_spec X (jt_it_next l G A _ it2 kk_60 lr (adS 3) (f 173) (adS 4) ng 10 (fun k => if k < ng then some (adS (32 + k)) else none) hIt hl1 (hN.src hF (hS.a4 (by omega)) (hso 4 (by decide))) hlt (by omega) (by decide)) (va_cwF 0 X.2.2.2.2 (lw_F q552 q555 q557 q114 q559) rfl rfl rfl (va_Fw.of (w.tblB (args := av) q554 rfl rfl) (w.tblB (args := av) q553 rfl rfl) (w.tblB (args := av) q558 rfl rfl) (w.tblB (args := av) q556 rfl rfl) (w.tblB (args := av) q545 rfl rfl)) (by decide +kernel) ⟨by rw [hRf]; decide, by rw [hRl]; decide⟩) (mx_preV w rfl hIt rfl) rfl rfl hl.1 rfl (lv_room (Nat.le_of_ble_eq_true rfl)) dX1_init_3_70 ⟨by rw [hRc]; omega, by rw [hRs]; omega⟩) (fun r M9 H locs hp w => ?_)
              obtain ⟨eR, eM⟩ := hp
              have eR : r = some (adS (32 + kk_60)) := eR.trans (if_pos hlt)
              subst eR
              have hN : Sta G ad_60 np kk_60 M1 M9 g_60 := by rw [eM]; exact (hN.oth (by decide) hIt zi2).oth (by decide) va_up_s zi2
              have hIt : M9 it2 = some (.inr (13, [.int (nI (kk_60 + 1)), .int (nI kk_60), .int (f 173), .ref (adS 3)])) := by rw [eM]; exact va_up_s
              clear eM
              refine mx_castM X w (ci := 7) q736 rfl (hN.src hF (hS.pg hlt) (hpo _ hlt)) dX1_init_3_75 ?_
              refine lv_astore_n (lv' := [(3, .ref (adS (32 + kk_60))), (2, .ref it2), (0, .ref o), (1, .ref (adS 0))]) hx hb dX1_init_3_78 rfl hl (by decide) rfl (fun ls hl => ?_)
              refine lv_aload_n hx hb dX1_init_3_79 rfl (lv_at hl 2 rfl) ?_
              refine mx_get (T := TX1) (v := .ref (ad_60 3)) X w in_X1 (ci := 1) rfl 1 (by decide) q288 (fun _ h => h) (hN.obj e0) rfl dX1_init_3_80 ?_
              refine lv_aload_n hx hb dX1_init_3_83 rfl (lv_at hl 0 rfl) ?_
              have h18g : g_60 18 = nI 0 := (hgO 18 (by omega) (by decide) (by decide)).trans ((hg0 18 (by omega) (by decide) (by decide)).trans rfl)
              obtain ⟨b9, bx, hB⟩ := hN.toB h18g (by decide)
              refine mx_bi w (va_runV (As := [.ref (adS (32 + kk_60))]) (rest := []) X (ct_addG l G A _ ad_60 b9 bx np kk_60 0 M1 g_60 (fun w => f (103 + (3 * kk_60) + w)) (adS (32 + kk_60)) hB (by omega) hAN.2.2 (hN.src hF (hS.pg hlt) (hpo _ hlt))) (cwV 1 X.2.2.2.2 (lw_V q664 q665 q666 q100 q667) rfl rfl rfl (by decide +kernel) ⟨by rw [hRf]; decide, by rw [hRl]; decide⟩) (mx_preV w rfl (hB.cell (r := 3) (stU_p (by decide) (by decide) (by decide) (by decide)) (by decide)) rfl) rfl rfl hl.1 rfl (lv_room (Nat.le_of_ble_eq_true rfl)) dX1_init_3_84 ⟨by rw [hRc]; omega, by rw [hRs]; omega⟩) (fun r84 M9 H locs hp w => ?_)
              obtain ⟨e4, he4, hB2, hka⟩ := hp
              have hIt := (hka it2 (by rw [hIt]; exact fun z => by cases z) (cp_i4 hIt hB) (cp_i5 hIt hB he4)).trans hIt
              have hF := adF_G (ng := kk_60) (pr := adS (32 + kk_60)) (e4 := e4) hF (he4.imp (fun z => hN.old hF e0 z.2) (fun z => z.2))
              have hAN := adN_G (pr := adS (32 + kk_60)) (e4 := e4) hAN (by omega) hn6
              have hN := hB2.sta
              have e0 : aGa ad_60 kk_60 (adS (32 + kk_60)) e4 0 = o := (aGa_o (by omega) (by decide)).trans e0
              have hgG := cp_gG (f := f) (by omega) hgG
              have hgO := cp_gO (ng := kk_60) (y := (fun w => f (103 + (3 * kk_60) + w))) (by omega) hgO
              clear hka hB2 hB he4
              refine lv_pop hx hb dX1_init_3_87 rfl ?_
              refine lv_goto (tgt := 60) hx hb dX1_init_3_88 (by decide) ?_
              refine W.widen (k := (36 + 1 * (kk_60 + 1))) (n := (240 + 10 * (kk_60 + 1))) (by omega) (by omega) ?_
              exact ih_60 (aGa ad_60 kk_60 (adS (32 + kk_60)) e4) (aGf g_60 kk_60 (fun w => f (103 + (3 * kk_60) + w))) (kk_60 + 1) _ H locs ls (by first | omega | assumption | exact (by omega)) (by first | omega | assumption | exact hN) (by first | omega | assumption | exact hF) (by first | omega | assumption | exact hAN) (by first | omega | assumption | exact e0) (by first | omega | assumption | exact hgG) (by first | omega | assumption | exact hgO) (by first | omega | assumption | exact ⟨_, hIt⟩) (by first | omega | assumption) (lv_sub hl [1, 2, 3] rfl) w trivial
        refine W.widen (k := (36 + 1 * 0)) (n := (240 + 10 * 0)) (by omega) (by omega) ?_
        exact L60 (ng + 1) ad_22 g_22 0 _ H locs ls (by first | omega | assumption | exact (Nat.zero_le _)) (by first | omega | assumption | exact hN) (by first | omega | assumption | exact hF) (by first | omega | assumption | exact hAN) (by first | omega | assumption | exact e0) (by first | omega | assumption | exact (fun j w z => absurd z (Nat.not_lt_zero _))) (by first | omega | assumption | exact (fun p _ _ _ => rfl)) (by first | omega | assumption | exact ⟨_, hIt⟩) (by first | omega | assumption) (lv_sub hl [0, 1, 2] rfl) w trivial
      · skip
        have hlt : kk_22 < np := of_decide_eq_true c_28
        refine lv_aload_n hx hb dX1_init_3_31 rfl (lv_at hl 0 rfl) ?_
        have hl1 := (hN.src hF hS.pl (hso 1 (by decide)))
        rw [if_neg (show ¬ np = 0 by omega)] at hl1
        refine mx_bqF w (va_runF (As := []) (rest := []) (w.cls0 (ci := 13) rfl).choose_spec X (jt_it_next l G A _ it1 kk_22 lr (adS 1) (f 172) (adS 2) np 10 (fun k => if k < np then some (adS (20 + k)) else none) hIt hl1 (hN.src hF (hS.a2 (by omega)) (hso 2 (by decide))) hlt (by omega) (by decide)) (va_cwF 0 X.2.2.2.2 (lw_F q552 q555 q557 q114 q559) rfl rfl rfl (va_Fw.of (w.tblB (args := av) q554 rfl rfl) (w.tblB (args := av) q553 rfl rfl) (w.tblB (args := av) q558 rfl rfl) (w.tblB (args := av) q556 rfl rfl) (w.tblB (args := av) q545 rfl rfl)) (by decide +kernel) ⟨by rw [hRf]; decide, by rw [hRl]; decide⟩) (mx_preV w rfl hIt rfl) rfl rfl hl.1 rfl (lv_room (Nat.le_of_ble_eq_true rfl)) dX1_init_3_32 ⟨by rw [hRc]; omega, by rw [hRs]; omega⟩) (fun r M9 H locs hp w => ?_)
        obtain ⟨eR, eM⟩ := hp
        have eR : r = some (adS (20 + kk_22)) := eR.trans (if_pos hlt)
        subst eR
        have hN : Sta G ad_22 kk_22 0 M1 M9 g_22 := by rw [eM]; exact (hN.oth (by decide) hIt zi1).oth (by decide) va_up_s zi1
        have hIt : M9 it1 = some (.inr (13, [.int (nI (kk_22 + 1)), .int (nI kk_22), .int (f 172), .ref (adS 1)])) := by rw [eM]; exact va_up_s
        clear eM
        refine mx_castP3 X w (hS.pm hlt).2 (hN.src hF (hS.pm hlt).1 (hso _ (by omega))) q261 dX1_init_3_37 ?_
        refine lv_astore_n (lv' := [(3, .ref (adS (20 + kk_22))), (2, .ref it1), (0, .ref o), (1, .ref (adS 0))]) hx hb dX1_init_3_40 rfl hl (by decide) rfl (fun ls hl => ?_)
        refine lv_aload_n hx hb dX1_init_3_41 rfl (lv_at hl 2 rfl) ?_
        refine lv_aload_n hx hb dX1_init_3_42 rfl (lv_at hl 0 rfl) ?_
        have h18g : g_22 18 = nI 0 := (hg0 18 (by omega) (by decide) (by decide)).trans rfl
        obtain ⟨b9, bx, hBo⟩ := hN.toB h18g (by decide)
        refine mx_bq w (va_runSN (As := [.ref (adS (20 + kk_22))]) (rest := [.ref o]) X (ct_copyP l G A _ (adS (20 + kk_22)) (nI kk_22) (fun w => f (39 + (8 * kk_22) + w)) (hS.kd hlt) (hio _ hlt) (hN.src hF (hS.pm hlt).1 (hso _ (by omega)))) ⟨va_cnB 1 X.2.2.2.2 (lw_meth q566) rfl rfl rfl (w.tbl q564 rfl) (X.2.2.2.2 _ q96) (by decide +kernel) ⟨by rw [hRf]; decide, by rw [hRl]; decide⟩, X.2.2.2.2 _ q565, trivial⟩ (mx_preS w rfl) rfl rfl hl.1 rfl (lv_room (Nat.le_of_ble_eq_true rfl)) dX1_init_3_43 ⟨by rw [hRc]; omega, by rw [hRs]; omega⟩) (fun r M9 H locs hp w => ?_)
        obtain ⟨pq, zpq, eR, hpq, hkq⟩ := hp; subst eR
        have zpq0 := hN.old hF e0 zpq
        have hpqr : ∀ r, stU kk_22 0 0 r → adr ad_22 b9 r ≠ pq := fun r hr z => by have h9 := hBo.2.2.1 r hr; rw [z, zpq] at h9; cases h9
        have hB := hBo.ext (M' := M9) (fun q hq => hkq q (fun z => hq (by rw [z]; exact zpq)))
        have hIt := (hkq it1 (fun z => by rw [← z, hIt] at zpq; cases zpq)).trans hIt
        clear hkq hBo
        refine mx_bv w (va_runV (As := [.ref pq]) (rest := []) X (ct_addPo l G A ad_22 b9 bx kk_22 0 0 M1 _ g_22 (fun w => f (39 + (8 * kk_22) + w)) pq o e0 hB (by omega) (hS.kd hlt) (hAN.1 kk_22 (Nat.le_refl _) (by omega)).1 (hAN.1 kk_22 (Nat.le_refl _) (by omega)).2 hAN.2.1 hpqr hpq) (cwV 1 X.2.2.2.2 (lw_V q653 q654 q655 q97 q656) rfl rfl rfl (by decide +kernel) ⟨by rw [hRf]; decide, by rw [hRl]; decide⟩) (mx_preV w rfl (hB.sta.obj e0) rfl) rfl rfl hl.1 rfl (lv_room (Nat.le_of_ble_eq_true rfl)) dX1_init_3_46 ⟨by rw [hRc]; omega, by rw [hRs]; omega⟩) (fun M9 H locs hp w => ?_)
        obtain ⟨qn, e2, zqn, he2, hB2, hka⟩ := hp
        have hN0 := hB.sta
        have hIt := (hka it1 (by rw [hIt]; exact fun z => by cases z) (cp_i1 hIt hB) (cp_i2 hIt hB) (cp_i3 hIt hB he2)).trans hIt
        have hF := adF_P (np := kk_22) (pq := pq) (q := qn) (e2 := e2) hF zpq0 (hN0.old hF e0 zqn) (he2.imp (fun z => hN0.old hF e0 z.2) (fun z => z.2))
        have hAN := adN_P (pq := pq) (q := qn) hAN (by omega) he2
        have hN := hB2.sta
        have e0 : aPa ad_22 kk_22 pq qn e2 0 = o := (aPa_o (by omega) (by omega) (by decide)).trans e0
        have hg1 := cp_g1 (f := f) (by omega) hg1
        have hg0 := cp_g0 (f := f) (np := kk_22) (x := (fun w => f (39 + (8 * kk_22) + w))) (by omega) hg0
        clear hka hB2 hB hN0 he2
        refine lv_goto (tgt := 22) hx hb dX1_init_3_49 (by decide) ?_
        refine W.widen (k := (17 + 3 * (kk_22 + 1))) (n := (113 + 20 * (kk_22 + 1))) (by omega) (by omega) ?_
        exact ih_22 (aPa ad_22 kk_22 pq qn e2) (aPf g_22 kk_22 (fun w => f (39 + (8 * kk_22) + w))) (kk_22 + 1) _ H locs ls (by first | omega | assumption | exact (by omega)) (by first | omega | assumption | exact hN) (by first | omega | assumption | exact hF) (by first | omega | assumption | exact hAN) (by first | omega | assumption | exact e0) (by first | omega | assumption | exact hg1) (by first | omega | assumption | exact hg0) (by first | omega | assumption | exact ⟨_, hIt⟩) (by first | omega | assumption) (lv_sub hl [1, 2, 3] rfl) w trivial
  exact L22 (np + 1) ad g 0 _ H locs ls (by first | omega | assumption | exact (Nat.zero_le _)) (by first | omega | assumption | exact hN) (by first | omega | assumption | exact hF) (by first | omega | assumption | exact hAN) (by first | omega | assumption | exact e0) (by first | omega | assumption | exact (fun j w z => absurd z (Nat.not_lt_zero _))) (by first | omega | assumption | exact (fun p _ _ _ => hg0 p)) (by first | omega | assumption | exact ⟨_, hIt⟩) (by first | omega | assumption) (lv_sub hl [0, 1, 2] rfl) w trivial
