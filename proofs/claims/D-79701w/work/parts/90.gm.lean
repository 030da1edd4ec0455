set_option maxRecDepth 100000
/-! GM: a minute of the station -/
def gm3 (f : Nat → Int32) : Nat → Int32 := cf_go3 (cf_go2 (cf_go1 (upd f 177 (0 : Int32))))
set_option maxHeartbeats 4000000 in
set_option maxRecDepth 100000 in
theorem ct_goMinute (l : Launch) (G : mg) (A : Nat → Prop) (ad : Nat → Nat) (np ng : Nat) (M0 : mh) (f : Nat → Int32) (T nz nn mc ms : Nat) (hz0 : zOk ng (upd f 177 (0 : Int32))) (hS2 : SI T np nz ng (cf_go1 (upd f 177 (0 : Int32)))) (h18 : gm3 f 18 = nI nn) (hn7 : nn ≤ 7) (he : rg (gm3 f 19) 12) (hcost : n4 (gm3 f) = gm3 f 36 - (1 : Int32) → mc = 66 ∧ ms = 171) (h5 : ∀ g, Go4 (gm3 f) nn g → rg (g 19) 12 ∧ SI T np nz ng (cf_go5 g)) : Met l yX1_goMinute (ws_ yX1_goMinute cX1_goMinute 2 (none)) ({ frames := 11, cells := mc, slots := ms, locals := 240 }) (va_Pc [.ref (ad 0)] (mU G A (fun M => Sta G ad np ng M0 M f))) (mQv G A (fun M => ∃ g, Go4 (gm3 f) nn g ∧ Sta G ad np ng M0 M (cf_go6 (cf_go5 g)))) mc ms A := by
  refine mx_ofv (by decide) (Nat.le_of_ble_eq_true rfl) ?_
  intro p e R s m av below meth c M H Q ls X hRf hRl hRc hRs hin hPre w fin hl
  have X : CallFix p m c cX1_goMinute 2 s av lw_all "FieldPumps$Station" := X
  have hx := X.1
  have hb := X.2.1
  have hl : lv_has ls 2 [(0, .ref (ad 0))] := hl
  have hRf : R.frames = 11 := hRf
  have hRl : R.locals = 240 := hRl
  have hRc : R.cells = mc := hRc
  have hRs : R.slots = ms := hRs
  generalize ([] : List Loc) = locs at w ⊢
  have hM := hPre
  refine lv_aload_n hx hb dX1_goMinute_0 rfl (lv_at hl 0 rfl) ?_
  refine lv_iconst (v := (0 : Int32)) hx hb dX1_goMinute_1 (by decide) ?_
  refine st_put (x := (0 : Int32)) X w hM 16 177 q320 rfl rfl rfl rfl rfl (stOk_lit rfl) dX1_goMinute_2 (fun M H locs w hM => ?_)
  refine lv_iconst (v := (0 : Int32)) hx hb dX1_goMinute_5 (by decide) ?_
  refine lv_istore_n (lv' := [(1, .int (0 : Int32)), (0, .ref (ad 0))]) hx hb dX1_goMinute_6 rfl hl (by decide) rfl (fun ls hl => ?_)
  refine lv_iload_n hx hb dX1_goMinute_7 rfl (lv_at hl 0 rfl) ?_
  refine lv_aload_n hx hb dX1_goMinute_8 rfl (lv_at hl 1 rfl) ?_
  refine mx_get (T := TX1) (v := .ref (ad 16)) X w in_X1 (ci := 1) rfl 13 (by decide) q316 (fun _ h => h) hM.st rfl dX1_goMinute_9 ?_
  refine mx_alen X w 6 hM.a16 rfl dX1_goMinute_12 ?_
  refine mx_cast (z := (6 : Int32)) rfl ?_
  refine lv_icmp_ge (tgt := 32) hx hb dX1_goMinute_13 (by decide) (fun c_13 => absurd c_13 (by decide)) (fun c_13 => ?_)
  refine lv_aload_n hx hb dX1_goMinute_16 rfl (lv_at hl 1 rfl) ?_
  refine mx_get (T := TX1) (v := .ref (ad 16)) X w in_X1 (ci := 1) rfl 13 (by decide) q316 (fun _ h => h) hM.st rfl dX1_goMinute_17 ?_
  refine lv_iload_n hx hb dX1_goMinute_20 rfl (lv_at hl 0 rfl) ?_
  refine mx_aald X w 6 (r := some (G.2 (10 + 0))) hM.a16 rfl 0 (by decide) (by decide) (if_pos (by decide)) dX1_goMinute_21 ?_
  refine lv_aload_n hx hb dX1_goMinute_22 rfl (lv_at hl 1 rfl) ?_
  refine mx_stage (rest := []) X w 0 (ad 0) (by decide) q865 q870 q868 q869 q867 q866 (wt_go1 l G A ad np ng M0 (upd f 177 (0 : Int32)) T nz hz0) hM (by decide) (Nat.le_of_ble_eq_true rfl) rfl rfl (by rw [hRf]; exact Nat.le_of_ble_eq_true rfl) (by rw [hRl]; exact Nat.le_of_ble_eq_true rfl) hl.1 (Nat.le_of_ble_eq_true rfl) (by rw [hRc]; omega) (by rw [hRs]; omega) dX1_goMinute_23 (fun M H locs hM w => ?_)
  have hM : Sta G ad np ng M0 M (cf_go1 (upd f 177 (0 : Int32))) := hM
  refine lv_iinc (v := (1 : Int32)) (lv' := [(1, .int (1 : Int32)), (0, .ref (ad 0))]) hx hb dX1_goMinute_26 hl (k := 0) rfl (by decide) (by decide) rfl (fun ls hl => ?_)
  refine lv_goto (tgt := 7) hx hb dX1_goMinute_29 (by decide) ?_
  refine lv_iload_n hx hb dX1_goMinute_7 rfl (lv_at hl 0 rfl) ?_
  refine lv_aload_n hx hb dX1_goMinute_8 rfl (lv_at hl 1 rfl) ?_
  refine mx_get (T := TX1) (v := .ref (ad 16)) X w in_X1 (ci := 1) rfl 13 (by decide) q316 (fun _ h => h) hM.st rfl dX1_goMinute_9 ?_
  refine mx_alen X w 6 hM.a16 rfl dX1_goMinute_12 ?_
  refine mx_cast (z := (6 : Int32)) rfl ?_
  refine lv_icmp_ge (tgt := 32) hx hb dX1_goMinute_13 (by decide) (fun c_13 => absurd c_13 (by decide)) (fun c_13 => ?_)
  refine lv_aload_n hx hb dX1_goMinute_16 rfl (lv_at hl 1 rfl) ?_
  refine mx_get (T := TX1) (v := .ref (ad 16)) X w in_X1 (ci := 1) rfl 13 (by decide) q316 (fun _ h => h) hM.st rfl dX1_goMinute_17 ?_
  refine lv_iload_n hx hb dX1_goMinute_20 rfl (lv_at hl 0 rfl) ?_
  refine mx_aald X w 6 (r := some (G.2 (10 + 1))) hM.a16 rfl 1 (by decide) (by decide) (if_pos (by decide)) dX1_goMinute_21 ?_
  refine lv_aload_n hx hb dX1_goMinute_22 rfl (lv_at hl 1 rfl) ?_
  refine mx_stage (rest := []) X w 1 (ad 0) (by decide) q865 q876 q874 q875 q867 q866 (wt_go2 l G A ad np ng M0 (cf_go1 (upd f 177 (0 : Int32))) T nz hS2) hM (by decide) (Nat.le_of_ble_eq_true rfl) rfl rfl (by rw [hRf]; exact Nat.le_of_ble_eq_true rfl) (by rw [hRl]; exact Nat.le_of_ble_eq_true rfl) hl.1 (Nat.le_of_ble_eq_true rfl) (by rw [hRc]; omega) (by rw [hRs]; omega) dX1_goMinute_23 (fun M H locs hM w => ?_)
  have hM : Sta G ad np ng M0 M (cf_go2 (cf_go1 (upd f 177 (0 : Int32)))) := hM
  refine lv_iinc (v := (2 : Int32)) (lv' := [(1, .int (2 : Int32)), (0, .ref (ad 0))]) hx hb dX1_goMinute_26 hl (k := 0) rfl (by decide) (by decide) rfl (fun ls hl => ?_)
  refine lv_goto (tgt := 7) hx hb dX1_goMinute_29 (by decide) ?_
  refine lv_iload_n hx hb dX1_goMinute_7 rfl (lv_at hl 0 rfl) ?_
  refine lv_aload_n hx hb dX1_goMinute_8 rfl (lv_at hl 1 rfl) ?_
  refine mx_get (T := TX1) (v := .ref (ad 16)) X w in_X1 (ci := 1) rfl 13 (by decide) q316 (fun _ h => h) hM.st rfl dX1_goMinute_9 ?_
  refine mx_alen X w 6 hM.a16 rfl dX1_goMinute_12 ?_
  refine mx_cast (z := (6 : Int32)) rfl ?_
  refine lv_icmp_ge (tgt := 32) hx hb dX1_goMinute_13 (by decide) (fun c_13 => absurd c_13 (by decide)) (fun c_13 => ?_)
  refine lv_aload_n hx hb dX1_goMinute_16 rfl (lv_at hl 1 rfl) ?_
  refine mx_get (T := TX1) (v := .ref (ad 16)) X w in_X1 (ci := 1) rfl 13 (by decide) q316 (fun _ h => h) hM.st rfl dX1_goMinute_17 ?_
  refine lv_iload_n hx hb dX1_goMinute_20 rfl (lv_at hl 0 rfl) ?_
  refine mx_aald X w 6 (r := some (G.2 (10 + 2))) hM.a16 rfl 2 (by decide) (by decide) (if_pos (by decide)) dX1_goMinute_21 ?_
  refine lv_aload_n hx hb dX1_goMinute_22 rfl (lv_at hl 1 rfl) ?_
  refine mx_stage (rest := []) X w 2 (ad 0) (by decide) q865 q901 q899 q900 q867 q866 (wt_go3 l G A ad np ng M0 (cf_go2 (cf_go1 (upd f 177 (0 : Int32)))) ) hM (by decide) (Nat.le_of_ble_eq_true rfl) rfl rfl (by rw [hRf]; exact Nat.le_of_ble_eq_true rfl) (by rw [hRl]; exact Nat.le_of_ble_eq_true rfl) hl.1 (Nat.le_of_ble_eq_true rfl) (by rw [hRc]; omega) (by rw [hRs]; omega) dX1_goMinute_23 (fun M H locs hM w => ?_)
  have hM : Sta G ad np ng M0 M (gm3 f) := hM
  refine lv_iinc (v := (3 : Int32)) (lv' := [(1, .int (3 : Int32)), (0, .ref (ad 0))]) hx hb dX1_goMinute_26 hl (k := 0) rfl (by decide) (by decide) rfl (fun ls hl => ?_)
  refine lv_goto (tgt := 7) hx hb dX1_goMinute_29 (by decide) ?_
  refine lv_iload_n hx hb dX1_goMinute_7 rfl (lv_at hl 0 rfl) ?_
  refine lv_aload_n hx hb dX1_goMinute_8 rfl (lv_at hl 1 rfl) ?_
  refine mx_get (T := TX1) (v := .ref (ad 16)) X w in_X1 (ci := 1) rfl 13 (by decide) q316 (fun _ h => h) hM.st rfl dX1_goMinute_9 ?_
  refine mx_alen X w 6 hM.a16 rfl dX1_goMinute_12 ?_
  refine mx_cast (z := (6 : Int32)) rfl ?_
  refine lv_icmp_ge (tgt := 32) hx hb dX1_goMinute_13 (by decide) (fun c_13 => absurd c_13 (by decide)) (fun c_13 => ?_)
  refine lv_aload_n hx hb dX1_goMinute_16 rfl (lv_at hl 1 rfl) ?_
  refine mx_get (T := TX1) (v := .ref (ad 16)) X w in_X1 (ci := 1) rfl 13 (by decide) q316 (fun _ h => h) hM.st rfl dX1_goMinute_17 ?_
  refine lv_iload_n hx hb dX1_goMinute_20 rfl (lv_at hl 0 rfl) ?_
  refine mx_aald X w 6 (r := some (G.2 (10 + 3))) hM.a16 rfl 3 (by decide) (by decide) (if_pos (by decide)) dX1_goMinute_21 ?_
  refine lv_aload_n hx hb dX1_goMinute_22 rfl (lv_at hl 1 rfl) ?_
  refine mx_stage (rest := []) X w 3 (ad 0) (by decide) q865 q908 q906 q907 q867 q866 (wt_go4 l G A ad np ng M0 (gm3 f) nn h18 hn7 he mc ms hcost) hM (by decide) (Nat.le_of_ble_eq_true rfl) rfl rfl (by rw [hRf]; exact Nat.le_of_ble_eq_true rfl) (by rw [hRl]; exact Nat.le_of_ble_eq_true rfl) hl.1 (Nat.le_of_ble_eq_true rfl) (by rw [hRc]; omega) (by rw [hRs]; omega) dX1_goMinute_23 (fun M H locs hM w => ?_)
  obtain ⟨g, hg, hM⟩ := hM
  refine lv_iinc (v := (4 : Int32)) (lv' := [(1, .int (4 : Int32)), (0, .ref (ad 0))]) hx hb dX1_goMinute_26 hl (k := 0) rfl (by decide) (by decide) rfl (fun ls hl => ?_)
  refine lv_goto (tgt := 7) hx hb dX1_goMinute_29 (by decide) ?_
  refine lv_iload_n hx hb dX1_goMinute_7 rfl (lv_at hl 0 rfl) ?_
  refine lv_aload_n hx hb dX1_goMinute_8 rfl (lv_at hl 1 rfl) ?_
  refine mx_get (T := TX1) (v := .ref (ad 16)) X w in_X1 (ci := 1) rfl 13 (by decide) q316 (fun _ h => h) hM.st rfl dX1_goMinute_9 ?_
  refine mx_alen X w 6 hM.a16 rfl dX1_goMinute_12 ?_
  refine mx_cast (z := (6 : Int32)) rfl ?_
  refine lv_icmp_ge (tgt := 32) hx hb dX1_goMinute_13 (by decide) (fun c_13 => absurd c_13 (by decide)) (fun c_13 => ?_)
  refine lv_aload_n hx hb dX1_goMinute_16 rfl (lv_at hl 1 rfl) ?_
  refine mx_get (T := TX1) (v := .ref (ad 16)) X w in_X1 (ci := 1) rfl 13 (by decide) q316 (fun _ h => h) hM.st rfl dX1_goMinute_17 ?_
  refine lv_iload_n hx hb dX1_goMinute_20 rfl (lv_at hl 0 rfl) ?_
  refine mx_aald X w 6 (r := some (G.2 (10 + 4))) hM.a16 rfl 4 (by decide) (by decide) (if_pos (by decide)) dX1_goMinute_21 ?_
  refine lv_aload_n hx hb dX1_goMinute_22 rfl (lv_at hl 1 rfl) ?_
  refine mx_stage (rest := []) X w 4 (ad 0) (by decide) q865 q1420 q1418 q1419 q867 q866 (wt_go5 l G A ad np ng M0 g (h5 g hg).1) hM (by decide) (Nat.le_of_ble_eq_true rfl) rfl rfl (by rw [hRf]; exact Nat.le_of_ble_eq_true rfl) (by rw [hRl]; exact Nat.le_of_ble_eq_true rfl) hl.1 (Nat.le_of_ble_eq_true rfl) (by rw [hRc]; omega) (by rw [hRs]; omega) dX1_goMinute_23 (fun M H locs hM w => ?_)
  have hM : Sta G ad np ng M0 M (cf_go5 g) := hM
  refine lv_iinc (v := (5 : Int32)) (lv' := [(1, .int (5 : Int32)), (0, .ref (ad 0))]) hx hb dX1_goMinute_26 hl (k := 0) rfl (by decide) (by decide) rfl (fun ls hl => ?_)
  refine lv_goto (tgt := 7) hx hb dX1_goMinute_29 (by decide) ?_
  refine lv_iload_n hx hb dX1_goMinute_7 rfl (lv_at hl 0 rfl) ?_
  refine lv_aload_n hx hb dX1_goMinute_8 rfl (lv_at hl 1 rfl) ?_
  refine mx_get (T := TX1) (v := .ref (ad 16)) X w in_X1 (ci := 1) rfl 13 (by decide) q316 (fun _ h => h) hM.st rfl dX1_goMinute_9 ?_
  refine mx_alen X w 6 hM.a16 rfl dX1_goMinute_12 ?_
  refine mx_cast (z := (6 : Int32)) rfl ?_
  refine lv_icmp_ge (tgt := 32) hx hb dX1_goMinute_13 (by decide) (fun c_13 => absurd c_13 (by decide)) (fun c_13 => ?_)
  refine lv_aload_n hx hb dX1_goMinute_16 rfl (lv_at hl 1 rfl) ?_
  refine mx_get (T := TX1) (v := .ref (ad 16)) X w in_X1 (ci := 1) rfl 13 (by decide) q316 (fun _ h => h) hM.st rfl dX1_goMinute_17 ?_
  refine lv_iload_n hx hb dX1_goMinute_20 rfl (lv_at hl 0 rfl) ?_
  refine mx_aald X w 6 (r := some (G.2 (10 + 5))) hM.a16 rfl 5 (by decide) (by decide) (if_pos (by decide)) dX1_goMinute_21 ?_
  refine lv_aload_n hx hb dX1_goMinute_22 rfl (lv_at hl 1 rfl) ?_
  refine mx_stage (rest := []) X w 5 (ad 0) (by decide) q865 q1435 q1433 q1434 q867 q866 (wt_go6 l G A ad np ng M0 (cf_go5 g) T nz (h5 g hg).2) hM (by decide) (Nat.le_of_ble_eq_true rfl) rfl rfl (by rw [hRf]; exact Nat.le_of_ble_eq_true rfl) (by rw [hRl]; exact Nat.le_of_ble_eq_true rfl) hl.1 (Nat.le_of_ble_eq_true rfl) (by rw [hRc]; omega) (by rw [hRs]; omega) dX1_goMinute_23 (fun M H locs hM w => ?_)
  have hM : Sta G ad np ng M0 M (cf_go6 (cf_go5 g)) := hM
  refine lv_iinc (v := (6 : Int32)) (lv' := [(1, .int (6 : Int32)), (0, .ref (ad 0))]) hx hb dX1_goMinute_26 hl (k := 0) rfl (by decide) (by decide) rfl (fun ls hl => ?_)
  refine lv_goto (tgt := 7) hx hb dX1_goMinute_29 (by decide) ?_
  refine lv_iload_n hx hb dX1_goMinute_7 rfl (lv_at hl 0 rfl) ?_
  refine lv_aload_n hx hb dX1_goMinute_8 rfl (lv_at hl 1 rfl) ?_
  refine mx_get (T := TX1) (v := .ref (ad 16)) X w in_X1 (ci := 1) rfl 13 (by decide) q316 (fun _ h => h) hM.st rfl dX1_goMinute_9 ?_
  refine mx_alen X w 6 hM.a16 rfl dX1_goMinute_12 ?_
  refine mx_cast (z := (6 : Int32)) rfl ?_
  refine lv_icmp_ge (tgt := 32) hx hb dX1_goMinute_13 (by decide) (fun c_13 => ?_) (fun c_13 => absurd (by decide) c_13)
  refine W.widen (k := mc) (n := ms) (by omega) (by omega) ?_
  exact fin _ H locs ls 32 dX1_goMinute_32 (⟨_, hg, hM⟩) w
