set_option maxRecDepth 100000
def mf_root_2 (x : Int64) : Nat → Int64 → Int32
  | 0, _ => (-1)
  | n_2 + 1, l2_2 => (if 0 < (lg_cmp ((l2_2 + (1 : Int64)) * (l2_2 + (1 : Int64))) x) then l2_2.toInt32 else ( (mf_root_2 x n_2) (l2_2 + (1 : Int64))))
def mf_root (x : Int64) : Int32 := (mf_root_2 x 1502 (0 : Int64))
set_option maxHeartbeats 4000000 in
set_option maxRecDepth 100000 in
theorem mt_root (l : Launch) (G : mg) (A : Nat → Prop) (M1 : mh) (x : Int64) (nn : Nat) (hx0 : x = lN nn) (hn : nn ≤ 2000000) : Met l yX4_root (ws_ yX4_root cX4_root 4 (some .int)) ({ frames := 0, cells := 0, slots := 0, locals := 0 }) (va_Pc [.long x] (mU G A (fun M => M = M1))) (mQi G A (fun r M => r = mf_root x ∧ M = M1)) 0 0 A := by
  refine mx_ofi (by decide) (Nat.le_of_ble_eq_true rfl) ?_
  intro p e R s m av below meth c M H Q ls X hRf hRl hRc hRs hin hM w fin hl
  have X : CallFix p m c cX4_root 4 s av lw_all "FieldPumpsModel" := X
  have hx := X.1
  have hb := X.2.1
  have hl : lv_has ls 4 [(0, .long x)] := hl
  have hRf : R.frames = 0 := hRf
  have hRl : R.locals = 0 := hRl
  generalize ([] : List Loc) = locs at w ⊢
  generalize E : mf_root x = z at fin
  rw [mf_root] at E
  refine lv_lconst (v := (0 : Int64)) hx hb dX4_root_0 (by decide) ?_
  refine lv_lstore_n (lv' := [(2, .long (0 : Int64)), (0, .long x)]) hx hb dX4_root_1 rfl hl (by decide) rfl (fun ls hl => ?_)
  have L2 : ∀ (n_2 : Nat) (l2_2 : Int64) (M : mh) (H : Heap) (locs : List Loc) (ls : Array Slot), (hr : ∃ r : Nat, l2_2 = lN r ∧ r * r ≤ nn ∧ 1500 < r + n_2) → mf_root_2 x n_2 l2_2 = z → lv_has ls 4 [(0, .long x), (2, .long l2_2)] → mW G A s M H locs → M = M1 → W p l e R s m av below meth c H locs 0 0 Q (F0 m 2 ls []) := by
    intro n_2
    induction n_2 with
    | zero =>
      intro l2_2 M H locs ls hr E hl w hM
      exact (root_zero hn hr).elim
    | succ n_2 ih_2 =>
      intro l2_2 M H locs ls hr E hl w hM
      rw [mf_root_2] at E
      refine lv_lload_n hx hb dX4_root_2 rfl (lv_at hl 1 rfl) ?_
      refine lv_lconst (v := (1 : Int64)) hx hb dX4_root_3 (by decide) ?_
      refine lv_ladd hx hb dX4_root_4 ?_
      refine lv_lload_n hx hb dX4_root_5 rfl (lv_at hl 1 rfl) ?_
      refine lv_lconst (v := (1 : Int64)) hx hb dX4_root_6 (by decide) ?_
      refine lv_ladd hx hb dX4_root_7 ?_
      refine lv_lmul hx hb dX4_root_8 ?_
      refine lv_lload_n hx hb dX4_root_9 rfl (lv_at hl 0 rfl) ?_
      refine W.lcmp hx hb dX4_root_10 ?_
      refine lv_if_gt (tgt := 21) hx hb dX4_root_11 (by decide) (fun c_11 => ?_) (fun c_11 => ?_)
      · rw [if_pos c_11] at E
        refine lv_lload_n hx hb dX4_root_21 rfl (lv_at hl 1 rfl) ?_
        refine lv_l2i hx hb dX4_root_22 rfl ?_
        exact fin l2_2.toInt32 M H locs ls 23 dX4_root_23 ⟨E, hM⟩ w
      · rw [if_neg c_11] at E
        refine lv_lload_n hx hb dX4_root_14 rfl (lv_at hl 1 rfl) ?_
        refine lv_lconst (v := (1 : Int64)) hx hb dX4_root_15 (by decide) ?_
        refine lv_ladd hx hb dX4_root_16 ?_
        refine lv_lstore_n (lv' := [(2, .long (l2_2 + (1 : Int64))), (0, .long x)]) hx hb dX4_root_17 rfl hl (by decide) rfl (fun ls hl => ?_)
        refine lv_goto (tgt := 2) hx hb dX4_root_18 (by decide) ?_
        exact ih_2 (l2_2 + (1 : Int64)) M H locs ls (by first | omega | assumption | exact root_step hx0 hn hr c_11) E (lv_sub hl [1, 0] rfl) w hM
  exact L2 1502 (0 : Int64) M H locs ls (by first | omega | assumption | exact ⟨0, rfl, Nat.zero_le _, by decide⟩) E (lv_sub hl [1, 0] rfl) w hM
def mf_flow_51 (v : (Nat → Nat → Int32)) (k : Nat) (speed : Int32) (pressure : Int32) (is0_51 : Int32) : Int32 := is0_51
def mf_flow (v : (Nat → Nat → Int32)) (k : Nat) (speed : Int32) (pressure : Int32) : Int32 := (if 0 < (lg_cmp ((((mf_of v k 1).toInt64 * speed.toInt64) * speed.toInt64) / (1000000 : Int64)) pressure.toInt64) then (mf_flow_51 v k speed pressure (mf_root (((((((mf_of v k 1).toInt64 * speed.toInt64) * speed.toInt64) / (1000000 : Int64)) - pressure.toInt64) * (1000 : Int64)) / (mf_of v k 2).toInt64))) else (mf_flow_51 v k speed pressure (0 : Int32)))
set_option maxHeartbeats 4000000 in
set_option maxRecDepth 100000 in
theorem mt_flow (l : Launch) (G : mg) (A : Nat → Prop) (pp : Nat → Nat) (M0 : mh) (v : Nat → Nat → Int32) (k : Nat) (speed : Int32) (pressure : Int32) (hk : k < 6) (hF : FlowOk v k speed pressure) : Met l yX4_flow (ws_ yX4_flow cX4_flow 6 (some .int)) ({ frames := 1, cells := 0, slots := 0, locals := 23 }) (va_Pc [.ref (pp 0), .int (nI k), .int speed, .int pressure] (mU G A (fun M => Mdl G pp M0 M v))) (mQi G A (fun r M => r = mf_flow v k speed pressure ∧ Mdl G pp M0 M v)) 0 0 A := by
  refine mx_ofi (by decide) (Nat.le_of_ble_eq_true rfl) ?_
  intro p e R s m av below meth c M H Q ls X hRf hRl hRc hRs hin hM w fin hl
  have X : CallFix p m c cX4_flow 6 s av lw_all "FieldPumpsModel" := X
  have hx := X.1
  have hb := X.2.1
  have hl : lv_has ls 6 [(0, .ref (pp 0)), (1, .int (nI k)), (2, .int speed), (3, .int pressure)] := hl
  have hRf : R.frames = 1 := hRf
  have hRl : R.locals = 23 := hRl
  generalize ([] : List Loc) = locs at w ⊢
  generalize E : mf_flow v k speed pressure = z at fin
  rw [mf_flow] at E
  refine lv_aload_n hx hb dX4_flow_0 rfl (lv_at hl 0 rfl) ?_
  refine lv_iload_n hx hb dX4_flow_1 rfl (lv_at hl 1 rfl) ?_
  refine lv_iconst (v := (1 : Int32)) hx hb dX4_flow_2 (by decide) ?_
  refine mx_bi w (va_runV (As := [.int (nI k), .int (nI 1)]) (rest := []) X (mt_of l G A pp M0 v k 1  (by first | omega | assumption) (by first | omega | assumption)) (cwV 2 X.2.2.2.2 (lw_V q2101 q2103 qs50 q113 q2104) rfl rfl rfl (by decide +kernel) ⟨by rw [hRf]; decide, by rw [hRl]; decide⟩) (mx_preV w hM hM.2.1 rfl) rfl rfl hl.1 rfl (lv_room (Nat.le_of_ble_eq_true rfl)) dX4_flow_3 ⟨Nat.zero_le _, Nat.zero_le _⟩) (fun r M H locs hp w => ?_)
  obtain ⟨rfl, hM⟩ := hp
  refine lv_i2l hx hb dX4_flow_6 rfl ?_
  refine lv_iload_n hx hb dX4_flow_7 rfl (lv_at hl 2 rfl) ?_
  refine lv_i2l hx hb dX4_flow_8 rfl ?_
  refine lv_lmul hx hb dX4_flow_9 ?_
  refine lv_iload_n hx hb dX4_flow_10 rfl (lv_at hl 2 rfl) ?_
  refine lv_i2l hx hb dX4_flow_11 rfl ?_
  refine lv_lmul hx hb dX4_flow_12 ?_
  refine lv_ldc2 (v := (1000000 : Int64)) hx hb X.2.2.2.1 (X.2.2.2.2 _ q2135) dX4_flow_13 ?_
  refine lv_ldiv hx hb dX4_flow_16 (by decide) ?_
  refine lv_lstore (lv' := [(4, .long ((((mf_of v k 1).toInt64 * speed.toInt64) * speed.toInt64) / (1000000 : Int64))), (0, .ref (pp 0)), (1, .int (nI k)), (2, .int speed), (3, .int pressure)]) hx hb dX4_flow_17 hl (by decide) rfl (fun ls hl => ?_)
  refine lv_lload hx hb dX4_flow_19 (lv_at hl 0 rfl) ?_
  refine lv_iload_n hx hb dX4_flow_21 rfl (lv_at hl 4 rfl) ?_
  refine lv_i2l hx hb dX4_flow_22 rfl ?_
  refine W.lcmp hx hb dX4_flow_23 ?_
  have J51 : ∀ (is0_51 : Int32) (M : mh) (H : Heap) (locs : List Loc) (ls : Array Slot), mf_flow_51 v k speed pressure is0_51 = z → lv_has ls 6 [] → mW G A s M H locs → Mdl G pp M0 M v → W p l e R s m av below meth c H locs 0 0 Q (F0 m 51 ls [.int is0_51]) := by
    intro is0_51 M H locs ls  E hl w hM
    rw [mf_flow_51] at E
    exact fin is0_51 M H locs ls 51 dX4_flow_51 ⟨E, hM⟩ w
  refine lv_if_gt (tgt := 31) hx hb dX4_flow_24 (by decide) (fun c_24 => ?_) (fun c_24 => ?_)
  · rw [if_pos c_24] at E
    refine lv_lload hx hb dX4_flow_31 (lv_at hl 0 rfl) ?_
    refine lv_iload_n hx hb dX4_flow_33 rfl (lv_at hl 4 rfl) ?_
    refine lv_i2l hx hb dX4_flow_34 rfl ?_
    refine lv_lsub hx hb dX4_flow_35 ?_
    refine lv_ldc2 (v := (1000 : Int64)) hx hb X.2.2.2.1 (X.2.2.2.2 _ q2066) dX4_flow_36 ?_
    refine lv_lmul hx hb dX4_flow_39 ?_
    refine lv_aload_n hx hb dX4_flow_40 rfl (lv_at hl 1 rfl) ?_
    refine lv_iload_n hx hb dX4_flow_41 rfl (lv_at hl 2 rfl) ?_
    refine lv_iconst (v := (2 : Int32)) hx hb dX4_flow_42 (by decide) ?_
    refine mx_bi w (va_runV (As := [.int (nI k), .int (nI 2)]) (rest := [.long ((((((mf_of v k 1).toInt64 * speed.toInt64) * speed.toInt64) / (1000000 : Int64)) - pressure.toInt64) * (1000 : Int64))]) X (mt_of l G A pp M0 v k 2  (by first | omega | assumption) (by first | omega | assumption)) (cwV 2 X.2.2.2.2 (lw_V q2101 q2103 qs50 q113 q2104) rfl rfl rfl (by decide +kernel) ⟨by rw [hRf]; decide, by rw [hRl]; decide⟩) (mx_preV w hM hM.2.1 rfl) rfl rfl hl.1 rfl (lv_room (Nat.le_of_ble_eq_true rfl)) dX4_flow_43 ⟨Nat.zero_le _, Nat.zero_le _⟩) (fun r M H locs hp w => ?_)
    obtain ⟨rfl, hM⟩ := hp
    refine lv_i2l hx hb dX4_flow_46 rfl ?_
    refine lv_ldiv hx hb dX4_flow_47 (flow_nz hF) ?_
    obtain ⟨nn, hnn, enn⟩ := flow_root hF c_24
    refine mx_bi w (va_runS (As := [.long (((((((mf_of v k 1).toInt64 * speed.toInt64) * speed.toInt64) / (1000000 : Int64)) - pressure.toInt64) * (1000 : Int64)) / (mf_of v k 2).toInt64)]) (rest := []) X (mt_root l G A M (((((((mf_of v k 1).toInt64 * speed.toInt64) * speed.toInt64) / (1000000 : Int64)) - pressure.toInt64) * (1000 : Int64)) / (mf_of v k 2).toInt64) nn (enn) (hnn)) (va_cwS 1 X.2.2.2.2 (lw_S q2136 q2137 q113 q2138) rfl rfl rfl (by decide +kernel) ⟨by rw [hRf]; decide, by rw [hRl]; decide⟩) (mx_preS w rfl) rfl rfl hl.1 rfl (lv_room (Nat.le_of_ble_eq_true rfl)) dX4_flow_48 ⟨Nat.zero_le _, Nat.zero_le _⟩) (fun r M H locs hp w => ?_)
    obtain ⟨rfl, hp2⟩ := hp; rw [← hp2] at hM; clear hp2
    exact J51 (mf_root (((((((mf_of v k 1).toInt64 * speed.toInt64) * speed.toInt64) / (1000000 : Int64)) - pressure.toInt64) * (1000 : Int64)) / (mf_of v k 2).toInt64)) M H locs ls E (lv_sub hl [] rfl) w hM
  · rw [if_neg c_24] at E
    refine lv_iconst (v := (0 : Int32)) hx hb dX4_flow_27 (by decide) ?_
    refine lv_goto (tgt := 51) hx hb dX4_flow_28 (by decide) ?_
    exact J51 (0 : Int32) M H locs ls E (lv_sub hl [] rfl) w hM
def mf_programmes_85 (v : (Nat → Nat → Int32)) (rc_7 : Nat → (Nat → Nat → Int32) → (Nat → Nat → Int32)) (n2_7 : Nat) (v_7 : (Nat → Nat → Int32)) (is0_85 : Int32) : (Nat → Nat → Int32) := ( rc_7 (n2_7 + 1) (u2 v_7 1 (87 + 2 * tN (v_7 1 (103 + (3 * n2_7))) + 1) is0_85))
def mf_programmes_7 (v : (Nat → Nat → Int32)) : Nat → Nat → (Nat → Nat → Int32) → (Nat → Nat → Int32)
  | 0, _, v_7 => v_7
  | n_7 + 1, n2_7, v_7 => (if (nC (v_7 1) 16) ≤ n2_7 then v_7 else (if (v_7 1 (103 + (3 * n2_7) + 1)) = (mf_minuteOfDay v ) then (mf_programmes_85 v (mf_programmes_7 v n_7) n2_7 v_7 (1 : Int32)) else (if (v_7 1 (103 + (3 * n2_7) + 2)) = (mf_minuteOfDay v ) then (mf_programmes_85 v (mf_programmes_7 v n_7) n2_7 v_7 (0 : Int32)) else (mf_programmes_85 v (mf_programmes_7 v n_7) n2_7 v_7 (v_7 1 (87 + 2 * tN (v_7 1 (103 + (3 * n2_7))) + 1))))))
def mf_programmes (v : (Nat → Nat → Int32)) : (Nat → Nat → Int32) := (mf_programmes_7 v 9 0 v)
set_option maxHeartbeats 4000000 in
set_option maxRecDepth 100000 in
theorem mt_programmes (l : Launch) (G : mg) (A : Nat → Prop) (pp : Nat → Nat) (M0 : mh) (v : Nat → Nat → Int32)  (T np nz ng : Nat) (hI : IP T np nz ng (v 1)) : Met l yX4_programmes (ws_ yX4_programmes cX4_programmes 5 (none)) ({ frames := 1, cells := 0, slots := 0, locals := 20 }) (va_Pc [.ref (pp 0)] (mU G A (fun M => Mdl G pp M0 M v))) (mQv G A (fun M => Mdl G pp M0 M (mf_programmes v))) 0 0 A := by
  refine mx_ofv (by decide) (Nat.le_of_ble_eq_true rfl) ?_
  intro p e R s m av below meth c M H Q ls X hRf hRl hRc hRs hin hM w fin hl
  have X : CallFix p m c cX4_programmes 5 s av lw_all "FieldPumpsModel" := X
  have hx := X.1
  have hb := X.2.1
  have hl : lv_has ls 5 [(0, .ref (pp 0))] := hl
  have hRf : R.frames = 1 := hRf
  have hRl : R.locals = 20 := hRl
  generalize ([] : List Loc) = locs at w ⊢
  generalize E : mf_programmes v = z at fin
  rw [mf_programmes] at E
  have hb6 := hI.b
  have hcp := hI.cp
  have hcz := hI.cz
  have hcg := hI.cg
  refine lv_aload_n hx hb dX4_programmes_0 rfl (lv_at hl 0 rfl) ?_
  refine mx_bi w (va_runV (As := []) (rest := []) X (mt_minuteOfDay l G A pp M0 v   ) (cwV 0 X.2.2.2.2 (lw_V q2239 q2241 qs70 q113 q2242) rfl rfl rfl (by decide +kernel) ⟨by rw [hRf]; decide, by rw [hRl]; decide⟩) (mx_preV w hM hM.2.1 rfl) rfl rfl hl.1 rfl (lv_room (Nat.le_of_ble_eq_true rfl)) dX4_programmes_1 ⟨Nat.zero_le _, Nat.zero_le _⟩) (fun r M H locs hp w => ?_)
  obtain ⟨rfl, hM⟩ := hp
  refine lv_istore_n (lv' := [(1, .int (mf_minuteOfDay v )), (0, .ref (pp 0))]) hx hb dX4_programmes_4 rfl hl (by decide) rfl (fun ls hl => ?_)
  refine lv_iconst (v := (0 : Int32)) hx hb dX4_programmes_5 (by decide) ?_
  refine lv_istore_n (lv' := [(2, .int (0 : Int32)), (1, .int (mf_minuteOfDay v )), (0, .ref (pp 0))]) hx hb dX4_programmes_6 rfl hl (by decide) rfl (fun ls hl => ?_)
  have L7 : ∀ (n_7 : Nat) (n2_7 : Nat) (v_7 : (Nat → Nat → Int32)) (M : mh) (H : Heap) (locs : List Loc) (ls : Array Slot), (hq : IP T np nz ng (v_7 1)) → (hi : n2_7 ≤ ng) → (hm : ng < n2_7 + n_7) → mf_programmes_7 v n_7 n2_7 v_7 = z → lv_has ls 5 [(1, .int (mf_minuteOfDay v )), (0, .ref (pp 0)), (2, .int (nI n2_7))] → mW G A s M H locs → Mdl G pp M0 M v_7 → W p l e R s m av below meth c H locs 0 0 Q (F0 m 7 ls []) := by
    intro n_7
    induction n_7 with
    | zero =>
      intro n2_7 v_7 M H locs ls hq hi hm E hl w hM
      exfalso; omega
    | succ n_7 ih_7 =>
      intro n2_7 v_7 M H locs ls hq hi hm E hl w hM
      rw [mf_programmes_7] at E
      have hc7 := IP.cg hq
      have hb7 := hq.b
      refine lv_iload_n hx hb dX4_programmes_7 rfl (lv_at hl 2 rfl) ?_
      refine lv_aload_n hx hb dX4_programmes_8 rfl (lv_at hl 1 rfl) ?_
      refine mx_get (v := .ref (pp 1)) X w in_X4 (ci := 3) rfl 0 (by decide) q2011 (fun _ h => h) hM.2.1 rfl dX4_programmes_9 ?_
      refine lv_bipush (v := (16 : Int32)) hx hb dX4_programmes_12 (by decide) ?_
      refine md_ald X w hM 1 (by decide) (by decide) 16 rfl (show 16 < 170 by decide) dX4_programmes_14 ?_
      refine mx_cast (z := nI (nC (v_7 1) 16)) (by rw [hc7]; exact hq.eng) ?_
      refine mx_nge (u := n2_7) (v := (nC (v_7 1) 16)) (tgt := 92) hx hb rfl rfl (by omega) (by omega) dX4_programmes_15 (by decide) (fun c_15 => ?_) (fun c_15 => ?_)
      · rw [if_pos c_15] at E
        exact fin M H locs ls 92 dX4_programmes_92 (by rw [← E]; exact hM) w
      · rw [if_neg c_15] at E
        obtain ⟨hz1, hz2⟩ := hq.pzn (show n2_7 < ng by omega)
        refine lv_bipush (v := (103 : Int32)) hx hb dX4_programmes_18 (by decide) ?_
        refine lv_iconst (v := (3 : Int32)) hx hb dX4_programmes_20 (by decide) ?_
        refine lv_iload_n hx hb dX4_programmes_21 rfl (lv_at hl 2 rfl) ?_
        refine mx_nmul (u := 3) (v := n2_7) hx hb rfl rfl dX4_programmes_22 ?_
        refine mx_nadd (u := 103) (v := 3 * n2_7) hx hb rfl rfl dX4_programmes_23 ?_
        refine lv_istore_n (lv' := [(3, .int (nI (103 + (3 * n2_7)))), (1, .int (mf_minuteOfDay v )), (0, .ref (pp 0)), (2, .int (nI n2_7))]) hx hb dX4_programmes_24 rfl hl (by decide) rfl (fun ls hl => ?_)
        refine lv_bipush (v := (87 : Int32)) hx hb dX4_programmes_25 (by decide) ?_
        refine lv_iconst (v := (2 : Int32)) hx hb dX4_programmes_27 (by decide) ?_
        refine lv_aload_n hx hb dX4_programmes_28 rfl (lv_at hl 2 rfl) ?_
        refine mx_get (v := .ref (pp 1)) X w in_X4 (ci := 3) rfl 0 (by decide) q2011 (fun _ h => h) hM.2.1 rfl dX4_programmes_29 ?_
        refine lv_iload_n hx hb dX4_programmes_32 rfl (lv_at hl 0 rfl) ?_
        refine md_ald X w hM 1 (by decide) (by decide) (103 + (3 * n2_7)) rfl (show 103 + (3 * n2_7) < 170 by omega) dX4_programmes_33 ?_
        refine mx_cast (z := nI (tN (v_7 1 (103 + (3 * n2_7))))) (hz1) ?_
        refine mx_nmul (u := 2) (v := tN (v_7 1 (103 + (3 * n2_7)))) hx hb rfl rfl dX4_programmes_34 ?_
        refine mx_nadd (u := 87) (v := 2 * tN (v_7 1 (103 + (3 * n2_7)))) hx hb rfl rfl dX4_programmes_35 ?_
        refine lv_iconst (v := (1 : Int32)) hx hb dX4_programmes_36 (by decide) ?_
        refine mx_nadd (u := 87 + 2 * tN (v_7 1 (103 + (3 * n2_7)))) (v := 1) hx hb rfl rfl dX4_programmes_37 ?_
        refine lv_istore (lv' := [(4, .int (nI (87 + 2 * tN (v_7 1 (103 + (3 * n2_7))) + 1))), (3, .int (nI (103 + (3 * n2_7)))), (1, .int (mf_minuteOfDay v )), (0, .ref (pp 0)), (2, .int (nI n2_7))]) hx hb dX4_programmes_38 hl (by decide) rfl (fun ls hl => ?_)
        refine lv_aload_n hx hb dX4_programmes_40 rfl (lv_at hl 3 rfl) ?_
        refine mx_get (v := .ref (pp 1)) X w in_X4 (ci := 3) rfl 0 (by decide) q2011 (fun _ h => h) hM.2.1 rfl dX4_programmes_41 ?_
        refine lv_iload hx hb dX4_programmes_44 (lv_at hl 0 rfl) ?_
        refine lv_aload_n hx hb dX4_programmes_46 rfl (lv_at hl 3 rfl) ?_
        refine mx_get (v := .ref (pp 1)) X w in_X4 (ci := 3) rfl 0 (by decide) q2011 (fun _ h => h) hM.2.1 rfl dX4_programmes_47 ?_
        refine lv_iload_n hx hb dX4_programmes_50 rfl (lv_at hl 1 rfl) ?_
        refine lv_iconst (v := (1 : Int32)) hx hb dX4_programmes_51 (by decide) ?_
        refine mx_nadd (u := 103 + (3 * n2_7)) (v := 1) hx hb rfl rfl dX4_programmes_52 ?_
        refine md_ald X w hM 1 (by decide) (by decide) (103 + (3 * n2_7) + 1) rfl (show 103 + (3 * n2_7) + 1 < 170 by omega) dX4_programmes_53 ?_
        refine lv_iload_n hx hb dX4_programmes_54 rfl (lv_at hl 2 rfl) ?_
        have J85 : ∀ (is0_85 : Int32) (M : mh) (H : Heap) (locs : List Loc) (ls : Array Slot), (h85 : rg is0_85 1) → mf_programmes_85 v (mf_programmes_7 v n_7) n2_7 v_7 is0_85 = z → lv_has ls 5 [(1, .int (mf_minuteOfDay v )), (0, .ref (pp 0)), (2, .int (nI n2_7))] → mW G A s M H locs → Mdl G pp M0 M v_7 → W p l e R s m av below meth c H locs 0 0 Q (F0 m 85 ls [.int is0_85, .int (nI (87 + 2 * tN (v_7 1 (103 + (3 * n2_7))) + 1)), .ref (pp 1)]) := by
          intro is0_85 M H locs ls h85 E hl w hM
          rw [mf_programmes_85] at E
          refine md_ast (x := is0_85) X w hM 1 (by decide) (by decide) (87 + 2 * tN (v_7 1 (103 + (3 * n2_7))) + 1) rfl (show 87 + 2 * tN (v_7 1 (103 + (3 * n2_7))) + 1 < 170 by omega) dX4_programmes_85 (fun M H locs w hM => ?_)
          refine lv_iinc (v := (nI (n2_7 + 1))) (lv' := [(2, .int (nI (n2_7 + 1))), (1, .int (mf_minuteOfDay v )), (0, .ref (pp 0))]) hx hb dX4_programmes_86 hl (k := 2) rfl (nI_incr _ 1) (by decide) rfl (fun ls hl => ?_)
          refine lv_goto (tgt := 7) hx hb dX4_programmes_89 (by decide) ?_
          exact ih_7 (n2_7 + 1) (u2 v_7 1 (87 + 2 * tN (v_7 1 (103 + (3 * n2_7))) + 1) is0_85) M H locs ls (by first | omega | assumption | exact hq.up (okc_open hq.b (by omega) ⟨h85, fun z => absurd hz2 (by omega)⟩)) (by first | omega | assumption) (by first | omega | assumption) E (lv_sub hl [1, 2, 0] rfl) w hM
        refine lv_icmp_ne (tgt := 62) hx hb dX4_programmes_55 (by decide) (fun c_55 => ?_) (fun c_55 => ?_)
        · rw [if_neg c_55] at E
          refine lv_aload_n hx hb dX4_programmes_62 rfl (lv_at hl 3 rfl) ?_
          refine mx_get (v := .ref (pp 1)) X w in_X4 (ci := 3) rfl 0 (by decide) q2011 (fun _ h => h) hM.2.1 rfl dX4_programmes_63 ?_
          refine lv_iload_n hx hb dX4_programmes_66 rfl (lv_at hl 1 rfl) ?_
          refine lv_iconst (v := (2 : Int32)) hx hb dX4_programmes_67 (by decide) ?_
          refine mx_nadd (u := 103 + (3 * n2_7)) (v := 2) hx hb rfl rfl dX4_programmes_68 ?_
          refine md_ald X w hM 1 (by decide) (by decide) (103 + (3 * n2_7) + 2) rfl (show 103 + (3 * n2_7) + 2 < 170 by omega) dX4_programmes_69 ?_
          refine lv_iload_n hx hb dX4_programmes_70 rfl (lv_at hl 2 rfl) ?_
          refine lv_icmp_ne (tgt := 78) hx hb dX4_programmes_71 (by decide) (fun c_71 => ?_) (fun c_71 => ?_)
          · rw [if_neg c_71] at E
            refine lv_aload_n hx hb dX4_programmes_78 rfl (lv_at hl 3 rfl) ?_
            refine mx_get (v := .ref (pp 1)) X w in_X4 (ci := 3) rfl 0 (by decide) q2011 (fun _ h => h) hM.2.1 rfl dX4_programmes_79 ?_
            refine lv_iload hx hb dX4_programmes_82 (lv_at hl 0 rfl) ?_
            refine md_ald X w hM 1 (by decide) (by decide) (87 + 2 * tN (v_7 1 (103 + (3 * n2_7))) + 1) rfl (show 87 + 2 * tN (v_7 1 (103 + (3 * n2_7))) + 1 < 170 by omega) dX4_programmes_84 ?_
            exact J85 (v_7 1 (87 + 2 * tN (v_7 1 (103 + (3 * n2_7))) + 1)) M H locs ls (by first | exact rg_1 (by decide) | exact rg_0 | exact (hq.opn (show tN (v_7 1 (103 + (3 * n2_7))) < 8 by omega)).1) E (lv_sub hl [2, 3, 4] rfl) w hM
          · rw [if_pos c_71] at E
            refine lv_iconst (v := (0 : Int32)) hx hb dX4_programmes_74 (by decide) ?_
            refine lv_goto (tgt := 85) hx hb dX4_programmes_75 (by decide) ?_
            exact J85 (0 : Int32) M H locs ls (by first | exact rg_1 (by decide) | exact rg_0 | exact (hq.opn (show tN (v_7 1 (103 + (3 * n2_7))) < 8 by omega)).1) E (lv_sub hl [2, 3, 4] rfl) w hM
        · rw [if_pos c_55] at E
          refine lv_iconst (v := (1 : Int32)) hx hb dX4_programmes_58 (by decide) ?_
          refine lv_goto (tgt := 85) hx hb dX4_programmes_59 (by decide) ?_
          exact J85 (1 : Int32) M H locs ls (by first | exact rg_1 (by decide) | exact rg_0 | exact (hq.opn (show tN (v_7 1 (103 + (3 * n2_7))) < 8 by omega)).1) E (lv_sub hl [2, 3, 4] rfl) w hM
  exact L7 9 0 v M H locs ls (by first | omega | assumption | exact hI) (by first | omega | assumption) (by first | omega | assumption) E (lv_sub hl [1, 2, 0] rfl) w hM
def mf_water_99 (v : (Nat → Nat → Int32)) (rc_4 : Int32 → Nat → (Nat → Nat → Int32) → (Nat → Nat → Int32)) (i1_4 : Int32) (n2_4 : Nat) (v_4 : (Nat → Nat → Int32)) (is0_99 : Int32) : (Nat → Nat → Int32) := (u2 (u2 (u2 (u2 v_4 1 3 is0_99) 1 13 (((u2 v_4 1 3 is0_99) 1 13) + is0_99)) 1 2 (mf_within ((((u2 (u2 v_4 1 3 is0_99) 1 13 (((u2 v_4 1 3 is0_99) 1 13) + is0_99)) 1 2) - is0_99) + (mf_setting (u2 (u2 v_4 1 3 is0_99) 1 13 (((u2 v_4 1 3 is0_99) 1 13) + is0_99)) 14)) (0 : Int32) (20000 : Int32))) 1 1 (mf_within (((u2 (u2 (u2 v_4 1 3 is0_99) 1 13 (((u2 v_4 1 3 is0_99) 1 13) + is0_99)) 1 2 (mf_within ((((u2 (u2 v_4 1 3 is0_99) 1 13 (((u2 v_4 1 3 is0_99) 1 13) + is0_99)) 1 2) - is0_99) + (mf_setting (u2 (u2 v_4 1 3 is0_99) 1 13 (((u2 v_4 1 3 is0_99) 1 13) + is0_99)) 14)) (0 : Int32) (20000 : Int32))) 1 1) + ((is0_99 - (mf_demand (u2 (u2 (u2 v_4 1 3 is0_99) 1 13 (((u2 v_4 1 3 is0_99) 1 13) + is0_99)) 1 2 (mf_within ((((u2 (u2 v_4 1 3 is0_99) 1 13 (((u2 v_4 1 3 is0_99) 1 13) + is0_99)) 1 2) - is0_99) + (mf_setting (u2 (u2 v_4 1 3 is0_99) 1 13 (((u2 v_4 1 3 is0_99) 1 13) + is0_99)) 14)) (0 : Int32) (20000 : Int32))) )) / (mf_setting (u2 (u2 (u2 v_4 1 3 is0_99) 1 13 (((u2 v_4 1 3 is0_99) 1 13) + is0_99)) 1 2 (mf_within ((((u2 (u2 v_4 1 3 is0_99) 1 13 (((u2 v_4 1 3 is0_99) 1 13) + is0_99)) 1 2) - is0_99) + (mf_setting (u2 (u2 v_4 1 3 is0_99) 1 13 (((u2 v_4 1 3 is0_99) 1 13) + is0_99)) 14)) (0 : Int32) (20000 : Int32))) 10))) (0 : Int32) (2000 : Int32)))
def mf_water_73 (v : (Nat → Nat → Int32)) (rc_4 : Int32 → Nat → (Nat → Nat → Int32) → (Nat → Nat → Int32)) (i1_4 : Int32) (n2_4 : Nat) (v_4 : (Nat → Nat → Int32)) (i1_73 : Int32) (v_73 : (Nat → Nat → Int32)) : (Nat → Nat → Int32) := ( rc_4 i1_73 (n2_4 + 1) v_73)
def mf_water_c70 (v : (Nat → Nat → Int32)) (rc_4 : Int32 → Nat → (Nat → Nat → Int32) → (Nat → Nat → Int32)) (i1_4 : Int32) (n2_4 : Nat) (v_4 : (Nat → Nat → Int32)) (v_54 : (Nat → Nat → Int32)) (v_70 : (Nat → Nat → Int32)) : (Nat → Nat → Int32) := (mf_water_73 v rc_4 i1_4 n2_4 v_4 (i1_4 + (mf_flow v_4 n2_4 (mf_of v_4 n2_4 4) (v_4 1 1))) v_70)
def mf_water_c54 (v : (Nat → Nat → Int32)) (rc_4 : Int32 → Nat → (Nat → Nat → Int32) → (Nat → Nat → Int32)) (i1_4 : Int32) (n2_4 : Nat) (v_4 : (Nat → Nat → Int32)) (v_54 : (Nat → Nat → Int32)) : (Nat → Nat → Int32) := (mf_water_c70 v rc_4 i1_4 n2_4 v_4 v_54 (mf_put v_54 n2_4 6 ((mf_of v_54 n2_4 6) + (1 : Int32))))
def mf_water_4 (v : (Nat → Nat → Int32)) : Nat → Int32 → Nat → (Nat → Nat → Int32) → (Nat → Nat → Int32)
  | 0, _, _, v_4 => v_4
  | n_4 + 1, i1_4, n2_4, v_4 => (if (nC (v_4 1) 14) ≤ n2_4 then (if i1_4 ≤ (v_4 1 2) then (mf_water_99 v (mf_water_4 v n_4) i1_4 n2_4 v_4 i1_4) else (mf_water_99 v (mf_water_4 v n_4) i1_4 n2_4 v_4 (v_4 1 2))) else (if (mf_runs v_4 n2_4) = true then (mf_water_c54 v (mf_water_4 v n_4) i1_4 n2_4 v_4 (mf_put v_4 n2_4 5 ((mf_of v_4 n2_4 5) + (1 : Int32)))) else (mf_water_73 v (mf_water_4 v n_4) i1_4 n2_4 v_4 i1_4 v_4)))
def mf_water (v : (Nat → Nat → Int32)) : (Nat → Nat → Int32) := (mf_water_4 v 7 (0 : Int32) 0 v)
set_option maxHeartbeats 4000000 in
set_option maxRecDepth 100000 in
theorem mt_water (l : Launch) (G : mg) (A : Nat → Prop) (pp : Nat → Nat) (M0 : mh) (v : Nat → Nat → Int32)  (T np nz ng : Nat) (hI : IP T np nz ng (v 1)) : Met l yX4_water (ws_ yX4_water cX4_water 3 (none)) ({ frames := 3, cells := 0, slots := 0, locals := 64 }) (va_Pc [.ref (pp 0)] (mU G A (fun M => Mdl G pp M0 M v))) (mQv G A (fun M => Mdl G pp M0 M (mf_water v))) 0 0 A := by
  refine mx_ofv (by decide) (Nat.le_of_ble_eq_true rfl) ?_
  intro p e R s m av below meth c M H Q ls X hRf hRl hRc hRs hin hM w fin hl
  have X : CallFix p m c cX4_water 3 s av lw_all "FieldPumpsModel" := X
  have hx := X.1
  have hb := X.2.1
  have hl : lv_has ls 3 [(0, .ref (pp 0))] := hl
  have hRf : R.frames = 3 := hRf
  have hRl : R.locals = 64 := hRl
  generalize ([] : List Loc) = locs at w ⊢
  generalize E : mf_water v = z at fin
  rw [mf_water] at E
  have hb6 := hI.b
  have hcp := hI.cp
  have hcz := hI.cz
  have hcg := hI.cg
  refine lv_iconst (v := (0 : Int32)) hx hb dX4_water_0 (by decide) ?_
  refine lv_istore_n (lv' := [(1, .int (0 : Int32)), (0, .ref (pp 0))]) hx hb dX4_water_1 rfl hl (by decide) rfl (fun ls hl => ?_)
  refine lv_iconst (v := (0 : Int32)) hx hb dX4_water_2 (by decide) ?_
  refine lv_istore_n (lv' := [(2, .int (0 : Int32)), (1, .int (0 : Int32)), (0, .ref (pp 0))]) hx hb dX4_water_3 rfl hl (by decide) rfl (fun ls hl => ?_)
  have L4 : ∀ (n_4 : Nat) (i1_4 : Int32) (n2_4 : Nat) (v_4 : (Nat → Nat → Int32)) (M : mh) (H : Heap) (locs : List Loc) (ls : Array Slot), (hq : IP T np nz ng (v_4 1)) → (hi : n2_4 ≤ np) → (hm : np < n2_4 + n_4) → mf_water_4 v n_4 i1_4 n2_4 v_4 = z → lv_has ls 3 [(0, .ref (pp 0)), (1, .int i1_4), (2, .int (nI n2_4))] → mW G A s M H locs → Mdl G pp M0 M v_4 → W p l e R s m av below meth c H locs 0 0 Q (F0 m 4 ls []) := by
    intro n_4
    induction n_4 with
    | zero =>
      intro i1_4 n2_4 v_4 M H locs ls hq hi hm E hl w hM
      exfalso; omega
    | succ n_4 ih_4 =>
      intro i1_4 n2_4 v_4 M H locs ls hq hi hm E hl w hM
      rw [mf_water_4] at E
      have hc4 := IP.cp hq
      refine lv_iload_n hx hb dX4_water_4 rfl (lv_at hl 2 rfl) ?_
      refine lv_aload_n hx hb dX4_water_5 rfl (lv_at hl 0 rfl) ?_
      refine mx_get (v := .ref (pp 1)) X w in_X4 (ci := 3) rfl 0 (by decide) q2011 (fun _ h => h) hM.2.1 rfl dX4_water_6 ?_
      refine lv_bipush (v := (14 : Int32)) hx hb dX4_water_9 (by decide) ?_
      refine md_ald X w hM 1 (by decide) (by decide) 14 rfl (show 14 < 170 by decide) dX4_water_11 ?_
      refine mx_cast (z := nI (nC (v_4 1) 14)) (by rw [hc4]; exact hq.enp) ?_
      refine mx_nge (u := n2_4) (v := (nC (v_4 1) 14)) (tgt := 79) hx hb rfl rfl (by omega) (by omega) dX4_water_12 (by decide) (fun c_12 => ?_) (fun c_12 => ?_)
      · rw [if_pos c_12] at E
        refine lv_iload_n hx hb dX4_water_79 rfl (lv_at hl 1 rfl) ?_
        refine lv_aload_n hx hb dX4_water_80 rfl (lv_at hl 0 rfl) ?_
        refine mx_get (v := .ref (pp 1)) X w in_X4 (ci := 3) rfl 0 (by decide) q2011 (fun _ h => h) hM.2.1 rfl dX4_water_81 ?_
        refine lv_iconst (v := (2 : Int32)) hx hb dX4_water_84 (by decide) ?_
        refine md_ald X w hM 1 (by decide) (by decide) 2 rfl (show 2 < 170 by decide) dX4_water_85 ?_
        have J99 : ∀ (is0_99 : Int32) (M : mh) (H : Heap) (locs : List Loc) (ls : Array Slot), mf_water_99 v (mf_water_4 v n_4) i1_4 n2_4 v_4 is0_99 = z → lv_has ls 3 [(0, .ref (pp 0))] → mW G A s M H locs → Mdl G pp M0 M v_4 → W p l e R s m av below meth c H locs 0 0 Q (F0 m 99 ls [.int is0_99]) := by
          intro is0_99 M H locs ls  E hl w hM
          rw [mf_water_99] at E
          refine lv_istore_n (lv' := [(1, .int is0_99), (0, .ref (pp 0))]) hx hb dX4_water_99 rfl hl (by decide) rfl (fun ls hl => ?_)
          refine lv_aload_n hx hb dX4_water_100 rfl (lv_at hl 1 rfl) ?_
          refine mx_get (v := .ref (pp 1)) X w in_X4 (ci := 3) rfl 0 (by decide) q2011 (fun _ h => h) hM.2.1 rfl dX4_water_101 ?_
          refine lv_iconst (v := (3 : Int32)) hx hb dX4_water_104 (by decide) ?_
          refine lv_iload_n hx hb dX4_water_105 rfl (lv_at hl 0 rfl) ?_
          refine md_ast (x := is0_99) X w hM 1 (by decide) (by decide) 3 rfl (show 3 < 170 by decide) dX4_water_106 (fun M H locs w hM => ?_)
          refine lv_aload_n hx hb dX4_water_107 rfl (lv_at hl 1 rfl) ?_
          refine mx_get (v := .ref (pp 1)) X w in_X4 (ci := 3) rfl 0 (by decide) q2011 (fun _ h => h) hM.2.1 rfl dX4_water_108 ?_
          refine lv_bipush (v := (13 : Int32)) hx hb dX4_water_111 (by decide) ?_
          refine lv_dup2_11 hx hb dX4_water_113 rfl rfl ?_
          refine md_ald X w hM 1 (by decide) (by decide) 13 rfl (show 13 < 170 by decide) dX4_water_114 ?_
          refine lv_iload_n hx hb dX4_water_115 rfl (lv_at hl 0 rfl) ?_
          refine lv_iadd hx hb dX4_water_116 ?_
          refine md_ast (x := (((u2 v_4 1 3 is0_99) 1 13) + is0_99)) X w hM 1 (by decide) (by decide) 13 rfl (show 13 < 170 by decide) dX4_water_117 (fun M H locs w hM => ?_)
          refine lv_aload_n hx hb dX4_water_118 rfl (lv_at hl 1 rfl) ?_
          refine mx_get (v := .ref (pp 1)) X w in_X4 (ci := 3) rfl 0 (by decide) q2011 (fun _ h => h) hM.2.1 rfl dX4_water_119 ?_
          refine lv_iconst (v := (2 : Int32)) hx hb dX4_water_122 (by decide) ?_
          refine lv_aload_n hx hb dX4_water_123 rfl (lv_at hl 1 rfl) ?_
          refine mx_get (v := .ref (pp 1)) X w in_X4 (ci := 3) rfl 0 (by decide) q2011 (fun _ h => h) hM.2.1 rfl dX4_water_124 ?_
          refine lv_iconst (v := (2 : Int32)) hx hb dX4_water_127 (by decide) ?_
          refine md_ald X w hM 1 (by decide) (by decide) 2 rfl (show 2 < 170 by decide) dX4_water_128 ?_
          refine lv_iload_n hx hb dX4_water_129 rfl (lv_at hl 0 rfl) ?_
          refine lv_isub hx hb dX4_water_130 ?_
          refine lv_aload_n hx hb dX4_water_131 rfl (lv_at hl 1 rfl) ?_
          refine lv_bipush (v := (14 : Int32)) hx hb dX4_water_132 (by decide) ?_
          refine mx_bi w (va_runV (As := [.int (nI 14)]) (rest := [.int (((u2 (u2 v_4 1 3 is0_99) 1 13 (((u2 v_4 1 3 is0_99) 1 13) + is0_99)) 1 2) - is0_99), .int (2 : Int32), .ref (pp 1)]) X (mt_setting l G A pp M0 (u2 (u2 v_4 1 3 is0_99) 1 13 (((u2 v_4 1 3 is0_99) 1 13) + is0_99)) 14  (by first | omega | assumption)) (cwV 1 X.2.2.2.2 (lw_V q2078 q2080 qs47 q113 q2081) rfl rfl rfl (by decide +kernel) ⟨by rw [hRf]; decide, by rw [hRl]; decide⟩) (mx_preV w hM hM.2.1 rfl) rfl rfl hl.1 rfl (lv_room (Nat.le_of_ble_eq_true rfl)) dX4_water_134 ⟨Nat.zero_le _, Nat.zero_le _⟩) (fun r M H locs hp w => ?_)
          obtain ⟨rfl, hM⟩ := hp
          refine lv_iadd hx hb dX4_water_137 ?_
          refine lv_iconst (v := (0 : Int32)) hx hb dX4_water_138 (by decide) ?_
          refine lv_sipush (v := (20000 : Int32)) hx hb dX4_water_139 (by decide) ?_
          refine mx_bi w (va_runS (As := [.int ((((u2 (u2 v_4 1 3 is0_99) 1 13 (((u2 v_4 1 3 is0_99) 1 13) + is0_99)) 1 2) - is0_99) + (mf_setting (u2 (u2 v_4 1 3 is0_99) 1 13 (((u2 v_4 1 3 is0_99) 1 13) + is0_99)) 14)), .int (0 : Int32), .int (20000 : Int32)]) (rest := [.int (2 : Int32), .ref (pp 1)]) X (mt_within l G A M ((((u2 (u2 v_4 1 3 is0_99) 1 13 (((u2 v_4 1 3 is0_99) 1 13) + is0_99)) 1 2) - is0_99) + (mf_setting (u2 (u2 v_4 1 3 is0_99) 1 13 (((u2 v_4 1 3 is0_99) 1 13) + is0_99)) 14)) (0 : Int32) (20000 : Int32)  ) (va_cwS 3 X.2.2.2.2 (lw_S q2247 q2248 q113 q2249) rfl rfl rfl (by decide +kernel) ⟨by rw [hRf]; decide, by rw [hRl]; decide⟩) (mx_preS w rfl) rfl rfl hl.1 rfl (lv_room (Nat.le_of_ble_eq_true rfl)) dX4_water_142 ⟨Nat.zero_le _, Nat.zero_le _⟩) (fun r M H locs hp w => ?_)
          obtain ⟨rfl, hp2⟩ := hp; rw [← hp2] at hM; clear hp2
          refine md_ast (x := (mf_within ((((u2 (u2 v_4 1 3 is0_99) 1 13 (((u2 v_4 1 3 is0_99) 1 13) + is0_99)) 1 2) - is0_99) + (mf_setting (u2 (u2 v_4 1 3 is0_99) 1 13 (((u2 v_4 1 3 is0_99) 1 13) + is0_99)) 14)) (0 : Int32) (20000 : Int32))) X w hM 1 (by decide) (by decide) 2 rfl (show 2 < 170 by decide) dX4_water_145 (fun M H locs w hM => ?_)
          refine lv_aload_n hx hb dX4_water_146 rfl (lv_at hl 1 rfl) ?_
          refine mx_get (v := .ref (pp 1)) X w in_X4 (ci := 3) rfl 0 (by decide) q2011 (fun _ h => h) hM.2.1 rfl dX4_water_147 ?_
          refine lv_iconst (v := (1 : Int32)) hx hb dX4_water_150 (by decide) ?_
          refine lv_aload_n hx hb dX4_water_151 rfl (lv_at hl 1 rfl) ?_
          refine mx_get (v := .ref (pp 1)) X w in_X4 (ci := 3) rfl 0 (by decide) q2011 (fun _ h => h) hM.2.1 rfl dX4_water_152 ?_
          refine lv_iconst (v := (1 : Int32)) hx hb dX4_water_155 (by decide) ?_
          refine md_ald X w hM 1 (by decide) (by decide) 1 rfl (show 1 < 170 by decide) dX4_water_156 ?_
          refine lv_iload_n hx hb dX4_water_157 rfl (lv_at hl 0 rfl) ?_
          refine lv_aload_n hx hb dX4_water_158 rfl (lv_at hl 1 rfl) ?_
          refine mx_bi w (va_runV (As := []) (rest := [.int is0_99, .int ((u2 (u2 (u2 v_4 1 3 is0_99) 1 13 (((u2 v_4 1 3 is0_99) 1 13) + is0_99)) 1 2 (mf_within ((((u2 (u2 v_4 1 3 is0_99) 1 13 (((u2 v_4 1 3 is0_99) 1 13) + is0_99)) 1 2) - is0_99) + (mf_setting (u2 (u2 v_4 1 3 is0_99) 1 13 (((u2 v_4 1 3 is0_99) 1 13) + is0_99)) 14)) (0 : Int32) (20000 : Int32))) 1 1), .int (1 : Int32), .ref (pp 1)]) X (mt_demand l G A pp M0 (u2 (u2 (u2 v_4 1 3 is0_99) 1 13 (((u2 v_4 1 3 is0_99) 1 13) + is0_99)) 1 2 (mf_within ((((u2 (u2 v_4 1 3 is0_99) 1 13 (((u2 v_4 1 3 is0_99) 1 13) + is0_99)) 1 2) - is0_99) + (mf_setting (u2 (u2 v_4 1 3 is0_99) 1 13 (((u2 v_4 1 3 is0_99) 1 13) + is0_99)) 14)) (0 : Int32) (20000 : Int32)))  nz (by simp [u2]; exact hq.enz) (hq.z8)) (cwV 0 X.2.2.2.2 (lw_V q2250 q2252 qs72 q113 q2253) rfl rfl rfl (by decide +kernel) ⟨by rw [hRf]; decide, by rw [hRl]; decide⟩) (mx_preV w hM hM.2.1 rfl) rfl rfl hl.1 rfl (lv_room (Nat.le_of_ble_eq_true rfl)) dX4_water_159 ⟨Nat.zero_le _, Nat.zero_le _⟩) (fun r M H locs hp w => ?_)
          obtain ⟨rfl, hM⟩ := hp
          refine lv_isub hx hb dX4_water_162 ?_
          refine lv_aload_n hx hb dX4_water_163 rfl (lv_at hl 1 rfl) ?_
          refine lv_bipush (v := (10 : Int32)) hx hb dX4_water_164 (by decide) ?_
          refine mx_bi w (va_runV (As := [.int (nI 10)]) (rest := [.int (is0_99 - (mf_demand (u2 (u2 (u2 v_4 1 3 is0_99) 1 13 (((u2 v_4 1 3 is0_99) 1 13) + is0_99)) 1 2 (mf_within ((((u2 (u2 v_4 1 3 is0_99) 1 13 (((u2 v_4 1 3 is0_99) 1 13) + is0_99)) 1 2) - is0_99) + (mf_setting (u2 (u2 v_4 1 3 is0_99) 1 13 (((u2 v_4 1 3 is0_99) 1 13) + is0_99)) 14)) (0 : Int32) (20000 : Int32))) )), .int ((u2 (u2 (u2 v_4 1 3 is0_99) 1 13 (((u2 v_4 1 3 is0_99) 1 13) + is0_99)) 1 2 (mf_within ((((u2 (u2 v_4 1 3 is0_99) 1 13 (((u2 v_4 1 3 is0_99) 1 13) + is0_99)) 1 2) - is0_99) + (mf_setting (u2 (u2 v_4 1 3 is0_99) 1 13 (((u2 v_4 1 3 is0_99) 1 13) + is0_99)) 14)) (0 : Int32) (20000 : Int32))) 1 1), .int (1 : Int32), .ref (pp 1)]) X (mt_setting l G A pp M0 (u2 (u2 (u2 v_4 1 3 is0_99) 1 13 (((u2 v_4 1 3 is0_99) 1 13) + is0_99)) 1 2 (mf_within ((((u2 (u2 v_4 1 3 is0_99) 1 13 (((u2 v_4 1 3 is0_99) 1 13) + is0_99)) 1 2) - is0_99) + (mf_setting (u2 (u2 v_4 1 3 is0_99) 1 13 (((u2 v_4 1 3 is0_99) 1 13) + is0_99)) 14)) (0 : Int32) (20000 : Int32))) 10  (by first | omega | assumption)) (cwV 1 X.2.2.2.2 (lw_V q2078 q2080 qs47 q113 q2081) rfl rfl rfl (by decide +kernel) ⟨by rw [hRf]; decide, by rw [hRl]; decide⟩) (mx_preV w hM hM.2.1 rfl) rfl rfl hl.1 rfl (lv_room (Nat.le_of_ble_eq_true rfl)) dX4_water_166 ⟨Nat.zero_le _, Nat.zero_le _⟩) (fun r M H locs hp w => ?_)
          obtain ⟨rfl, hM⟩ := hp
          refine lv_idiv hx hb dX4_water_169 (by simp [mf_setting, u2]; exact hq.cap) ?_
          refine lv_iadd hx hb dX4_water_170 ?_
          refine lv_iconst (v := (0 : Int32)) hx hb dX4_water_171 (by decide) ?_
          refine lv_sipush (v := (2000 : Int32)) hx hb dX4_water_172 (by decide) ?_
          refine mx_bi w (va_runS (As := [.int (((u2 (u2 (u2 v_4 1 3 is0_99) 1 13 (((u2 v_4 1 3 is0_99) 1 13) + is0_99)) 1 2 (mf_within ((((u2 (u2 v_4 1 3 is0_99) 1 13 (((u2 v_4 1 3 is0_99) 1 13) + is0_99)) 1 2) - is0_99) + (mf_setting (u2 (u2 v_4 1 3 is0_99) 1 13 (((u2 v_4 1 3 is0_99) 1 13) + is0_99)) 14)) (0 : Int32) (20000 : Int32))) 1 1) + ((is0_99 - (mf_demand (u2 (u2 (u2 v_4 1 3 is0_99) 1 13 (((u2 v_4 1 3 is0_99) 1 13) + is0_99)) 1 2 (mf_within ((((u2 (u2 v_4 1 3 is0_99) 1 13 (((u2 v_4 1 3 is0_99) 1 13) + is0_99)) 1 2) - is0_99) + (mf_setting (u2 (u2 v_4 1 3 is0_99) 1 13 (((u2 v_4 1 3 is0_99) 1 13) + is0_99)) 14)) (0 : Int32) (20000 : Int32))) )) / (mf_setting (u2 (u2 (u2 v_4 1 3 is0_99) 1 13 (((u2 v_4 1 3 is0_99) 1 13) + is0_99)) 1 2 (mf_within ((((u2 (u2 v_4 1 3 is0_99) 1 13 (((u2 v_4 1 3 is0_99) 1 13) + is0_99)) 1 2) - is0_99) + (mf_setting (u2 (u2 v_4 1 3 is0_99) 1 13 (((u2 v_4 1 3 is0_99) 1 13) + is0_99)) 14)) (0 : Int32) (20000 : Int32))) 10))), .int (0 : Int32), .int (2000 : Int32)]) (rest := [.int (1 : Int32), .ref (pp 1)]) X (mt_within l G A M (((u2 (u2 (u2 v_4 1 3 is0_99) 1 13 (((u2 v_4 1 3 is0_99) 1 13) + is0_99)) 1 2 (mf_within ((((u2 (u2 v_4 1 3 is0_99) 1 13 (((u2 v_4 1 3 is0_99) 1 13) + is0_99)) 1 2) - is0_99) + (mf_setting (u2 (u2 v_4 1 3 is0_99) 1 13 (((u2 v_4 1 3 is0_99) 1 13) + is0_99)) 14)) (0 : Int32) (20000 : Int32))) 1 1) + ((is0_99 - (mf_demand (u2 (u2 (u2 v_4 1 3 is0_99) 1 13 (((u2 v_4 1 3 is0_99) 1 13) + is0_99)) 1 2 (mf_within ((((u2 (u2 v_4 1 3 is0_99) 1 13 (((u2 v_4 1 3 is0_99) 1 13) + is0_99)) 1 2) - is0_99) + (mf_setting (u2 (u2 v_4 1 3 is0_99) 1 13 (((u2 v_4 1 3 is0_99) 1 13) + is0_99)) 14)) (0 : Int32) (20000 : Int32))) )) / (mf_setting (u2 (u2 (u2 v_4 1 3 is0_99) 1 13 (((u2 v_4 1 3 is0_99) 1 13) + is0_99)) 1 2 (mf_within ((((u2 (u2 v_4 1 3 is0_99) 1 13 (((u2 v_4 1 3 is0_99) 1 13) + is0_99)) 1 2) - is0_99) + (mf_setting (u2 (u2 v_4 1 3 is0_99) 1 13 (((u2 v_4 1 3 is0_99) 1 13) + is0_99)) 14)) (0 : Int32) (20000 : Int32))) 10))) (0 : Int32) (2000 : Int32)  ) (va_cwS 3 X.2.2.2.2 (lw_S q2247 q2248 q113 q2249) rfl rfl rfl (by decide +kernel) ⟨by rw [hRf]; decide, by rw [hRl]; decide⟩) (mx_preS w rfl) rfl rfl hl.1 rfl (lv_room (Nat.le_of_ble_eq_true rfl)) dX4_water_175 ⟨Nat.zero_le _, Nat.zero_le _⟩) (fun r M H locs hp w => ?_)
          obtain ⟨rfl, hp2⟩ := hp; rw [← hp2] at hM; clear hp2
          refine md_ast (x := (mf_within (((u2 (u2 (u2 v_4 1 3 is0_99) 1 13 (((u2 v_4 1 3 is0_99) 1 13) + is0_99)) 1 2 (mf_within ((((u2 (u2 v_4 1 3 is0_99) 1 13 (((u2 v_4 1 3 is0_99) 1 13) + is0_99)) 1 2) - is0_99) + (mf_setting (u2 (u2 v_4 1 3 is0_99) 1 13 (((u2 v_4 1 3 is0_99) 1 13) + is0_99)) 14)) (0 : Int32) (20000 : Int32))) 1 1) + ((is0_99 - (mf_demand (u2 (u2 (u2 v_4 1 3 is0_99) 1 13 (((u2 v_4 1 3 is0_99) 1 13) + is0_99)) 1 2 (mf_within ((((u2 (u2 v_4 1 3 is0_99) 1 13 (((u2 v_4 1 3 is0_99) 1 13) + is0_99)) 1 2) - is0_99) + (mf_setting (u2 (u2 v_4 1 3 is0_99) 1 13 (((u2 v_4 1 3 is0_99) 1 13) + is0_99)) 14)) (0 : Int32) (20000 : Int32))) )) / (mf_setting (u2 (u2 (u2 v_4 1 3 is0_99) 1 13 (((u2 v_4 1 3 is0_99) 1 13) + is0_99)) 1 2 (mf_within ((((u2 (u2 v_4 1 3 is0_99) 1 13 (((u2 v_4 1 3 is0_99) 1 13) + is0_99)) 1 2) - is0_99) + (mf_setting (u2 (u2 v_4 1 3 is0_99) 1 13 (((u2 v_4 1 3 is0_99) 1 13) + is0_99)) 14)) (0 : Int32) (20000 : Int32))) 10))) (0 : Int32) (2000 : Int32))) X w hM 1 (by decide) (by decide) 1 rfl (show 1 < 170 by decide) dX4_water_178 (fun M H locs w hM => ?_)
          exact fin M H locs ls 179 dX4_water_179 (by rw [← E]; exact hM) w
        refine lv_icmp_le (tgt := 98) hx hb dX4_water_86 (by decide) (fun c_86 => ?_) (fun c_86 => ?_)
        · rw [if_pos c_86] at E
          refine lv_iload_n hx hb dX4_water_98 rfl (lv_at hl 1 rfl) ?_
          exact J99 i1_4 M H locs ls E (lv_sub hl [0] rfl) w hM
        · rw [if_neg c_86] at E
          refine lv_aload_n hx hb dX4_water_89 rfl (lv_at hl 0 rfl) ?_
          refine mx_get (v := .ref (pp 1)) X w in_X4 (ci := 3) rfl 0 (by decide) q2011 (fun _ h => h) hM.2.1 rfl dX4_water_90 ?_
          refine lv_iconst (v := (2 : Int32)) hx hb dX4_water_93 (by decide) ?_
          refine md_ald X w hM 1 (by decide) (by decide) 2 rfl (show 2 < 170 by decide) dX4_water_94 ?_
          refine lv_goto (tgt := 99) hx hb dX4_water_95 (by decide) ?_
          exact J99 (v_4 1 2) M H locs ls E (lv_sub hl [0] rfl) w hM
      · rw [if_neg c_12] at E
        refine lv_aload_n hx hb dX4_water_15 rfl (lv_at hl 0 rfl) ?_
        refine lv_iload_n hx hb dX4_water_16 rfl (lv_at hl 2 rfl) ?_
        refine mx_bi w (va_runV (As := [.int (nI n2_4)]) (rest := []) X (mt_runs l G A pp M0 v_4 n2_4  (by first | omega | assumption)) (cwV 1 X.2.2.2.2 (lw_V q2110 q2112 qs52 q113 q2113) rfl rfl rfl (by decide +kernel) ⟨by rw [hRf]; decide, by rw [hRl]; decide⟩) (mx_preV w hM hM.2.1 rfl) rfl rfl hl.1 rfl (lv_room (Nat.le_of_ble_eq_true rfl)) dX4_water_17 ⟨Nat.zero_le _, Nat.zero_le _⟩) (fun r M H locs hp w => ?_)
        obtain ⟨rfl, hM⟩ := hp
        have J73 : ∀ (i1_73 : Int32) (v_73 : (Nat → Nat → Int32)) (M : mh) (H : Heap) (locs : List Loc) (ls : Array Slot), (hq73 : IP T np nz ng (v_73 1)) → mf_water_73 v (mf_water_4 v n_4) i1_4 n2_4 v_4 i1_73 v_73 = z → lv_has ls 3 [(0, .ref (pp 0)), (2, .int (nI n2_4)), (1, .int i1_73)] → mW G A s M H locs → Mdl G pp M0 M v_73 → W p l e R s m av below meth c H locs 0 0 Q (F0 m 73 ls []) := by
          intro i1_73 v_73 M H locs ls hq73 E hl w hM
          rw [mf_water_73] at E
          refine lv_iinc (v := (nI (n2_4 + 1))) (lv' := [(2, .int (nI (n2_4 + 1))), (0, .ref (pp 0)), (1, .int i1_73)]) hx hb dX4_water_73 hl (k := 1) rfl (nI_incr _ 1) (by decide) rfl (fun ls hl => ?_)
          refine lv_goto (tgt := 4) hx hb dX4_water_76 (by decide) ?_
          exact ih_4 i1_73 (n2_4 + 1) v_73 M H locs ls (by first | omega | assumption | exact hq73) (by first | omega | assumption) (by first | omega | assumption) E (lv_sub hl [1, 2, 0] rfl) w hM
        refine mx_beq (tgt := 73) hx hb dX4_water_20 (by decide) (fun c_20 => ?_) (fun c_20 => ?_)
        · rw [if_neg c_20] at E
          exact J73 i1_4 v_4 M H locs ls (by first | exact hq7 | exact hq) E (lv_sub hl [0, 2, 1] rfl) w hM
        · rw [if_pos c_20] at E
          refine lv_iload_n hx hb dX4_water_23 rfl (lv_at hl 1 rfl) ?_
          refine lv_aload_n hx hb dX4_water_24 rfl (lv_at hl 0 rfl) ?_
          refine lv_iload_n hx hb dX4_water_25 rfl (lv_at hl 2 rfl) ?_
          refine lv_aload_n hx hb dX4_water_26 rfl (lv_at hl 0 rfl) ?_
          refine lv_iload_n hx hb dX4_water_27 rfl (lv_at hl 2 rfl) ?_
          refine lv_iconst (v := (4 : Int32)) hx hb dX4_water_28 (by decide) ?_
          refine mx_bi w (va_runV (As := [.int (nI n2_4), .int (nI 4)]) (rest := [.int (nI n2_4), .ref (pp 0), .int i1_4]) X (mt_of l G A pp M0 v_4 n2_4 4  (by first | omega | assumption) (by first | omega | assumption)) (cwV 2 X.2.2.2.2 (lw_V q2101 q2103 qs50 q113 q2104) rfl rfl rfl (by decide +kernel) ⟨by rw [hRf]; decide, by rw [hRl]; decide⟩) (mx_preV w hM hM.2.1 rfl) rfl rfl hl.1 rfl (lv_room (Nat.le_of_ble_eq_true rfl)) dX4_water_29 ⟨Nat.zero_le _, Nat.zero_le _⟩) (fun r M H locs hp w => ?_)
          obtain ⟨rfl, hM⟩ := hp
          refine lv_aload_n hx hb dX4_water_32 rfl (lv_at hl 0 rfl) ?_
          refine mx_get (v := .ref (pp 1)) X w in_X4 (ci := 3) rfl 0 (by decide) q2011 (fun _ h => h) hM.2.1 rfl dX4_water_33 ?_
          refine lv_iconst (v := (1 : Int32)) hx hb dX4_water_36 (by decide) ?_
          refine md_ald X w hM 1 (by decide) (by decide) 1 rfl (show 1 < 170 by decide) dX4_water_37 ?_
          refine mx_bi w (va_runV (As := [.int (nI n2_4), .int (mf_of v_4 n2_4 4), .int (v_4 1 1)]) (rest := [.int i1_4]) X (mt_flow l G A pp M0 v_4 n2_4 (mf_of v_4 n2_4 4) (v_4 1 1)  (by omega) (hq.flow (by omega) ((hq.pump (show n2_4 < np by omega) (w := 4) (by decide)).2.2.2.2 rfl) hq.press)) (cwV 3 X.2.2.2.2 (lw_V q2131 q2133 qs56 q113 q2134) rfl rfl rfl (by decide +kernel) ⟨by rw [hRf]; decide, by rw [hRl]; decide⟩) (mx_preV w hM hM.2.1 rfl) rfl rfl hl.1 rfl (lv_room (Nat.le_of_ble_eq_true rfl)) dX4_water_38 ⟨Nat.zero_le _, Nat.zero_le _⟩) (fun r M H locs hp w => ?_)
          obtain ⟨rfl, hM⟩ := hp
          refine lv_iadd hx hb dX4_water_41 ?_
          refine lv_istore_n (lv' := [(1, .int (i1_4 + (mf_flow v_4 n2_4 (mf_of v_4 n2_4 4) (v_4 1 1)))), (0, .ref (pp 0)), (2, .int (nI n2_4))]) hx hb dX4_water_42 rfl hl (by decide) rfl (fun ls hl => ?_)
          refine lv_aload_n hx hb dX4_water_43 rfl (lv_at hl 1 rfl) ?_
          refine lv_iload_n hx hb dX4_water_44 rfl (lv_at hl 2 rfl) ?_
          refine lv_iconst (v := (5 : Int32)) hx hb dX4_water_45 (by decide) ?_
          refine lv_aload_n hx hb dX4_water_46 rfl (lv_at hl 1 rfl) ?_
          refine lv_iload_n hx hb dX4_water_47 rfl (lv_at hl 2 rfl) ?_
          refine lv_iconst (v := (5 : Int32)) hx hb dX4_water_48 (by decide) ?_
          refine mx_bi w (va_runV (As := [.int (nI n2_4), .int (nI 5)]) (rest := [.int (5 : Int32), .int (nI n2_4), .ref (pp 0)]) X (mt_of l G A pp M0 v_4 n2_4 5  (by first | omega | assumption) (by first | omega | assumption)) (cwV 2 X.2.2.2.2 (lw_V q2101 q2103 qs50 q113 q2104) rfl rfl rfl (by decide +kernel) ⟨by rw [hRf]; decide, by rw [hRl]; decide⟩) (mx_preV w hM hM.2.1 rfl) rfl rfl hl.1 rfl (lv_room (Nat.le_of_ble_eq_true rfl)) dX4_water_49 ⟨Nat.zero_le _, Nat.zero_le _⟩) (fun r M H locs hp w => ?_)
          obtain ⟨rfl, hM⟩ := hp
          refine lv_iconst (v := (1 : Int32)) hx hb dX4_water_52 (by decide) ?_
          refine lv_iadd hx hb dX4_water_53 ?_
          refine mx_bv w (va_runV (As := [.int (nI n2_4), .int (nI 5), .int ((mf_of v_4 n2_4 5) + (1 : Int32))]) (rest := []) X (mt_put l G A pp M0 v_4 n2_4 5 ((mf_of v_4 n2_4 5) + (1 : Int32))  (by first | omega | assumption) (by first | omega | assumption)) (cwV 3 X.2.2.2.2 (lw_V q2089 q2091 qs48 q113 q2092) rfl rfl rfl (by decide +kernel) ⟨by rw [hRf]; decide, by rw [hRl]; decide⟩) (mx_preV w hM hM.2.1 rfl) rfl rfl hl.1 rfl (lv_room (Nat.le_of_ble_eq_true rfl)) dX4_water_54 ⟨Nat.zero_le _, Nat.zero_le _⟩) (fun M H locs hM w => ?_)
          rw [mf_water_c54] at E
          obtain ⟨v_54, ev_54⟩ : ∃ y, y = (mf_put v_4 n2_4 5 ((mf_of v_4 n2_4 5) + (1 : Int32))) := ⟨_, rfl⟩
          rw [← ev_54] at E hM
          refine lv_aload_n hx hb dX4_water_57 rfl (lv_at hl 1 rfl) ?_
          refine lv_iload_n hx hb dX4_water_58 rfl (lv_at hl 2 rfl) ?_
          refine lv_bipush (v := (6 : Int32)) hx hb dX4_water_59 (by decide) ?_
          refine lv_aload_n hx hb dX4_water_61 rfl (lv_at hl 1 rfl) ?_
          refine lv_iload_n hx hb dX4_water_62 rfl (lv_at hl 2 rfl) ?_
          refine lv_bipush (v := (6 : Int32)) hx hb dX4_water_63 (by decide) ?_
          refine mx_bi w (va_runV (As := [.int (nI n2_4), .int (nI 6)]) (rest := [.int (6 : Int32), .int (nI n2_4), .ref (pp 0)]) X (mt_of l G A pp M0 v_54 n2_4 6  (by first | omega | assumption) (by first | omega | assumption)) (cwV 2 X.2.2.2.2 (lw_V q2101 q2103 qs50 q113 q2104) rfl rfl rfl (by decide +kernel) ⟨by rw [hRf]; decide, by rw [hRl]; decide⟩) (mx_preV w hM hM.2.1 rfl) rfl rfl hl.1 rfl (lv_room (Nat.le_of_ble_eq_true rfl)) dX4_water_65 ⟨Nat.zero_le _, Nat.zero_le _⟩) (fun r M H locs hp w => ?_)
          obtain ⟨rfl, hM⟩ := hp
          refine lv_iconst (v := (1 : Int32)) hx hb dX4_water_68 (by decide) ?_
          refine lv_iadd hx hb dX4_water_69 ?_
          refine mx_bv w (va_runV (As := [.int (nI n2_4), .int (nI 6), .int ((mf_of v_54 n2_4 6) + (1 : Int32))]) (rest := []) X (mt_put l G A pp M0 v_54 n2_4 6 ((mf_of v_54 n2_4 6) + (1 : Int32))  (by first | omega | assumption) (by first | omega | assumption)) (cwV 3 X.2.2.2.2 (lw_V q2089 q2091 qs48 q113 q2092) rfl rfl rfl (by decide +kernel) ⟨by rw [hRf]; decide, by rw [hRl]; decide⟩) (mx_preV w hM hM.2.1 rfl) rfl rfl hl.1 rfl (lv_room (Nat.le_of_ble_eq_true rfl)) dX4_water_70 ⟨Nat.zero_le _, Nat.zero_le _⟩) (fun M H locs hM w => ?_)
          rw [mf_water_c70] at E
          obtain ⟨v_70, ev_70⟩ : ∃ y, y = (mf_put v_54 n2_4 6 ((mf_of v_54 n2_4 6) + (1 : Int32))) := ⟨_, rfl⟩
          rw [← ev_70] at E hM
          have hq7 : IP T np nz ng (v_70 1) := by rw [ev_70, ev_54]; exact IP_put (by omega) (by decide) (IP_put (by omega) (by decide) hq (fun _ => pmR_5 (by decide))) (fun _ => pmR_5 (by decide))
          exact J73 (i1_4 + (mf_flow v_4 n2_4 (mf_of v_4 n2_4 4) (v_4 1 1))) v_70 M H locs ls (by first | exact hq7 | exact hq) E (lv_sub hl [1, 2, 0] rfl) w hM
  exact L4 7 (0 : Int32) 0 v M H locs ls (by first | omega | assumption | exact hI) (by first | omega | assumption) (by first | omega | assumption) E (lv_sub hl [2, 1, 0] rfl) w hM
def mf_middleNight_128 (v : (Nat → Nat → Int32)) (rc_10 : Nat → Int32) (n2_10 : Nat) (rc_23 : Int32 → Int32 → Nat → Int32) (i3_23 : Int32) (i4_23 : Int32) (n5_23 : Nat)  : Int32 := ( rc_10 (n2_10 + 1))
def mf_middleNight_88 (v : (Nat → Nat → Int32)) (rc_10 : Nat → Int32) (n2_10 : Nat) (rc_23 : Int32 → Int32 → Nat → Int32) (i3_23 : Int32) (i4_23 : Int32) (n5_23 : Nat) (bs0_57 : Bool) (bs0_88 : Bool) : Int32 := ( rc_23 (i3_23 + (bI bs0_57)) (i4_23 + (bI bs0_88)) (n5_23 + 1))
def mf_middleNight_57 (v : (Nat → Nat → Int32)) (rc_10 : Nat → Int32) (n2_10 : Nat) (rc_23 : Int32 → Int32 → Nat → Int32) (i3_23 : Int32) (i4_23 : Int32) (n5_23 : Nat) (bs0_57 : Bool) : Int32 := (if (v 1 (127 + n5_23)) = (v 1 (127 + n2_10)) then (mf_middleNight_88 v rc_10 n2_10 rc_23 i3_23 i4_23 n5_23 bs0_57 true) else (mf_middleNight_88 v rc_10 n2_10 rc_23 i3_23 i4_23 n5_23 bs0_57 false))
def mf_middleNight_23 (v : (Nat → Nat → Int32)) (rc_10 : Nat → Int32) (n2_10 : Nat) : Nat → Int32 → Int32 → Nat → Int32
  | 0, _, _, _ => (-1)
  | n_23 + 1, i3_23, i4_23, n5_23 => (if (nC (v 1) 18) ≤ n5_23 then (if (((nI (nC (v 1) 18)) - (1 : Int32)) / (2 : Int32)) < i3_23 then (mf_middleNight_128 v rc_10 n2_10 (mf_middleNight_23 v rc_10 n2_10 n_23) i3_23 i4_23 n5_23 ) else (if (i3_23 + i4_23) ≤ (((nI (nC (v 1) 18)) - (1 : Int32)) / (2 : Int32)) then (mf_middleNight_128 v rc_10 n2_10 (mf_middleNight_23 v rc_10 n2_10 n_23) i3_23 i4_23 n5_23 ) else (v 1 (127 + n2_10)))) else (if (v 1 (127 + n2_10)) ≤ (v 1 (127 + n5_23)) then (mf_middleNight_57 v rc_10 n2_10 (mf_middleNight_23 v rc_10 n2_10 n_23) i3_23 i4_23 n5_23 false) else (mf_middleNight_57 v rc_10 n2_10 (mf_middleNight_23 v rc_10 n2_10 n_23) i3_23 i4_23 n5_23 true)))
def mf_middleNight_10 (v : (Nat → Nat → Int32)) : Nat → Nat → Int32
  | 0, _ => (-1)
  | n_10 + 1, n2_10 => (if (nC (v 1) 18) ≤ n2_10 then (0 : Int32) else (mf_middleNight_23 v (mf_middleNight_10 v n_10) n2_10 8 (0 : Int32) (0 : Int32) 0))
def mf_middleNight (v : (Nat → Nat → Int32)) : Int32 := (mf_middleNight_10 v 8 0)
set_option maxHeartbeats 4000000 in
set_option maxRecDepth 100000 in
theorem mt_middleNight (l : Launch) (G : mg) (A : Nat → Prop) (pp : Nat → Nat) (M0 : mh) (v : Nat → Nat → Int32)  (nn : Nat) (enn : v 1 18 = nI nn) (hn7 : nn ≤ 7) : Met l yX4_middleNight (ws_ yX4_middleNight cX4_middleNight 6 (some .int)) ({ frames := 0, cells := 0, slots := 0, locals := 0 }) (va_Pc [.ref (pp 0)] (mU G A (fun M => Mdl G pp M0 M v))) (mQi G A (fun r M => r = mf_middleNight v ∧ Mdl G pp M0 M v)) 0 0 A := by
  refine mx_ofi (by decide) (Nat.le_of_ble_eq_true rfl) ?_
  intro p e R s m av below meth c M H Q ls X hRf hRl hRc hRs hin hM w fin hl
  have X : CallFix p m c cX4_middleNight 6 s av lw_all "FieldPumpsModel" := X
  have hx := X.1
  have hb := X.2.1
  have hl : lv_has ls 6 [(0, .ref (pp 0))] := hl
  have hRf : R.frames = 0 := hRf
  have hRl : R.locals = 0 := hRl
  generalize ([] : List Loc) = locs at w ⊢
  generalize E : mf_middleNight v = z at fin
  rw [mf_middleNight] at E
  have hcn := nC_of enn (by omega)
  refine lv_aload_n hx hb dX4_middleNight_0 rfl (lv_at hl 0 rfl) ?_
  refine mx_get (v := .ref (pp 1)) X w in_X4 (ci := 3) rfl 0 (by decide) q2011 (fun _ h => h) hM.2.1 rfl dX4_middleNight_1 ?_
  refine lv_bipush (v := (18 : Int32)) hx hb dX4_middleNight_4 (by decide) ?_
  refine md_ald X w hM 1 (by decide) (by decide) 18 rfl (show 18 < 170 by decide) dX4_middleNight_6 ?_
  refine mx_cast (z := nI (nC (v 1) 18)) (by rw [hcn]; exact enn) ?_
  refine lv_istore_n (lv' := [(1, .int (nI (nC (v 1) 18))), (0, .ref (pp 0))]) hx hb dX4_middleNight_7 rfl hl (by decide) rfl (fun ls hl => ?_)
  refine lv_iconst (v := (0 : Int32)) hx hb dX4_middleNight_8 (by decide) ?_
  refine lv_istore_n (lv' := [(2, .int (0 : Int32)), (1, .int (nI (nC (v 1) 18))), (0, .ref (pp 0))]) hx hb dX4_middleNight_9 rfl hl (by decide) rfl (fun ls hl => ?_)
  have L10 : ∀ (n_10 : Nat) (n2_10 : Nat) (M : mh) (H : Heap) (locs : List Loc) (ls : Array Slot), (hi : n2_10 ≤ nn) → (hm : nn < n2_10 + n_10) → mf_middleNight_10 v n_10 n2_10 = z → lv_has ls 6 [(1, .int (nI (nC (v 1) 18))), (0, .ref (pp 0)), (2, .int (nI n2_10))] → mW G A s M H locs → Mdl G pp M0 M v → W p l e R s m av below meth c H locs 0 0 Q (F0 m 10 ls []) := by
    intro n_10
    induction n_10 with
    | zero =>
      intro n2_10 M H locs ls hi hm E hl w hM
      exfalso; omega
    | succ n_10 ih_10 =>
      intro n2_10 M H locs ls hi hm E hl w hM
      rw [mf_middleNight_10] at E
      refine lv_iload_n hx hb dX4_middleNight_10 rfl (lv_at hl 2 rfl) ?_
      refine lv_iload_n hx hb dX4_middleNight_11 rfl (lv_at hl 0 rfl) ?_
      refine mx_nge (u := n2_10) (v := (nC (v 1) 18)) (tgt := 134) hx hb rfl rfl (by omega) (by omega) dX4_middleNight_12 (by decide) (fun c_12 => ?_) (fun c_12 => ?_)
      · rw [if_pos c_12] at E
        refine lv_iconst (v := (0 : Int32)) hx hb dX4_middleNight_134 (by decide) ?_
        exact fin (0 : Int32) M H locs ls 135 dX4_middleNight_135 ⟨E, hM⟩ w
      · rw [if_neg c_12] at E
        refine lv_iconst (v := (0 : Int32)) hx hb dX4_middleNight_15 (by decide) ?_
        refine lv_istore_n (lv' := [(3, .int (0 : Int32)), (1, .int (nI (nC (v 1) 18))), (0, .ref (pp 0)), (2, .int (nI n2_10))]) hx hb dX4_middleNight_16 rfl hl (by decide) rfl (fun ls hl => ?_)
        refine lv_iconst (v := (0 : Int32)) hx hb dX4_middleNight_17 (by decide) ?_
        refine lv_istore (lv' := [(4, .int (0 : Int32)), (3, .int (0 : Int32)), (1, .int (nI (nC (v 1) 18))), (0, .ref (pp 0)), (2, .int (nI n2_10))]) hx hb dX4_middleNight_18 hl (by decide) rfl (fun ls hl => ?_)
        refine lv_iconst (v := (0 : Int32)) hx hb dX4_middleNight_20 (by decide) ?_
        refine lv_istore (lv' := [(5, .int (0 : Int32)), (4, .int (0 : Int32)), (3, .int (0 : Int32)), (1, .int (nI (nC (v 1) 18))), (0, .ref (pp 0)), (2, .int (nI n2_10))]) hx hb dX4_middleNight_21 hl (by decide) rfl (fun ls hl => ?_)
        have L23 : ∀ (n_23 : Nat) (i3_23 : Int32) (i4_23 : Int32) (n5_23 : Nat) (M : mh) (H : Heap) (locs : List Loc) (ls : Array Slot), (hi2 : n5_23 ≤ nn) → (hm2 : nn < n5_23 + n_23) → mf_middleNight_23 v (mf_middleNight_10 v n_10) n2_10 n_23 i3_23 i4_23 n5_23 = z → lv_has ls 6 [(1, .int (nI (nC (v 1) 18))), (0, .ref (pp 0)), (2, .int (nI n2_10)), (3, .int i3_23), (4, .int i4_23), (5, .int (nI n5_23))] → mW G A s M H locs → Mdl G pp M0 M v → W p l e R s m av below meth c H locs 0 0 Q (F0 m 23 ls []) := by
          intro n_23
          induction n_23 with
          | zero =>
            intro i3_23 i4_23 n5_23 M H locs ls hi2 hm2 E hl w hM
            exfalso; omega
          | succ n_23 ih_23 =>
            intro i3_23 i4_23 n5_23 M H locs ls hi2 hm2 E hl w hM
            rw [mf_middleNight_23] at E
            refine lv_iload hx hb dX4_middleNight_23 (lv_at hl 5 rfl) ?_
            refine lv_iload_n hx hb dX4_middleNight_25 rfl (lv_at hl 0 rfl) ?_
            refine mx_nge (u := n5_23) (v := (nC (v 1) 18)) (tgt := 97) hx hb rfl rfl (by omega) (by omega) dX4_middleNight_26 (by decide) (fun c_26 => ?_) (fun c_26 => ?_)
            · rw [if_pos c_26] at E
              refine lv_iload_n hx hb dX4_middleNight_97 rfl (lv_at hl 3 rfl) ?_
              refine lv_iload_n hx hb dX4_middleNight_98 rfl (lv_at hl 0 rfl) ?_
              refine lv_iconst (v := (1 : Int32)) hx hb dX4_middleNight_99 (by decide) ?_
              refine lv_isub hx hb dX4_middleNight_100 ?_
              refine lv_iconst (v := (2 : Int32)) hx hb dX4_middleNight_101 (by decide) ?_
              refine lv_idiv hx hb dX4_middleNight_102 (by decide) ?_
              have J128 : ∀  (M : mh) (H : Heap) (locs : List Loc) (ls : Array Slot), mf_middleNight_128 v (mf_middleNight_10 v n_10) n2_10 (mf_middleNight_23 v (mf_middleNight_10 v n_10) n2_10 n_23) i3_23 i4_23 n5_23  = z → lv_has ls 6 [(1, .int (nI (nC (v 1) 18))), (0, .ref (pp 0)), (2, .int (nI n2_10))] → mW G A s M H locs → Mdl G pp M0 M v → W p l e R s m av below meth c H locs 0 0 Q (F0 m 128 ls []) := by
                intro  M H locs ls  E hl w hM
                rw [mf_middleNight_128] at E
                refine lv_iinc (v := (nI (n2_10 + 1))) (lv' := [(2, .int (nI (n2_10 + 1))), (1, .int (nI (nC (v 1) 18))), (0, .ref (pp 0))]) hx hb dX4_middleNight_128 hl (k := 2) rfl (nI_incr _ 1) (by decide) rfl (fun ls hl => ?_)
                refine lv_goto (tgt := 10) hx hb dX4_middleNight_131 (by decide) ?_
                exact ih_10 (n2_10 + 1) M H locs ls (by first | omega | assumption) (by first | omega | assumption) E (lv_sub hl [1, 2, 0] rfl) w hM
              refine lv_icmp_gt (tgt := 128) hx hb dX4_middleNight_103 (by decide) (fun c_103 => ?_) (fun c_103 => ?_)
              · rw [if_pos c_103] at E
                exact J128  M H locs ls E (lv_sub hl [0, 1, 2] rfl) w hM
              · rw [if_neg c_103] at E
                refine lv_iload_n hx hb dX4_middleNight_106 rfl (lv_at hl 3 rfl) ?_
                refine lv_iload hx hb dX4_middleNight_107 (lv_at hl 4 rfl) ?_
                refine lv_iadd hx hb dX4_middleNight_109 ?_
                refine lv_iload_n hx hb dX4_middleNight_110 rfl (lv_at hl 0 rfl) ?_
                refine lv_iconst (v := (1 : Int32)) hx hb dX4_middleNight_111 (by decide) ?_
                refine lv_isub hx hb dX4_middleNight_112 ?_
                refine lv_iconst (v := (2 : Int32)) hx hb dX4_middleNight_113 (by decide) ?_
                refine lv_idiv hx hb dX4_middleNight_114 (by decide) ?_
                refine lv_icmp_le (tgt := 128) hx hb dX4_middleNight_115 (by decide) (fun c_115 => ?_) (fun c_115 => ?_)
                · rw [if_pos c_115] at E
                  exact J128  M H locs ls E (lv_sub hl [0, 1, 2] rfl) w hM
                · rw [if_neg c_115] at E
                  refine lv_aload_n hx hb dX4_middleNight_118 rfl (lv_at hl 1 rfl) ?_
                  refine mx_get (v := .ref (pp 1)) X w in_X4 (ci := 3) rfl 0 (by decide) q2011 (fun _ h => h) hM.2.1 rfl dX4_middleNight_119 ?_
                  refine lv_bipush (v := (127 : Int32)) hx hb dX4_middleNight_122 (by decide) ?_
                  refine lv_iload_n hx hb dX4_middleNight_124 rfl (lv_at hl 2 rfl) ?_
                  refine mx_nadd (u := 127) (v := n2_10) hx hb rfl rfl dX4_middleNight_125 ?_
                  refine md_ald X w hM 1 (by decide) (by decide) (127 + n2_10) rfl (show 127 + n2_10 < 170 by omega) dX4_middleNight_126 ?_
                  exact fin (v 1 (127 + n2_10)) M H locs ls 127 dX4_middleNight_127 ⟨E, hM⟩ w
            · rw [if_neg c_26] at E
              refine lv_iload_n hx hb dX4_middleNight_29 rfl (lv_at hl 3 rfl) ?_
              refine lv_aload_n hx hb dX4_middleNight_30 rfl (lv_at hl 1 rfl) ?_
              refine mx_get (v := .ref (pp 1)) X w in_X4 (ci := 3) rfl 0 (by decide) q2011 (fun _ h => h) hM.2.1 rfl dX4_middleNight_31 ?_
              refine lv_bipush (v := (127 : Int32)) hx hb dX4_middleNight_34 (by decide) ?_
              refine lv_iload hx hb dX4_middleNight_36 (lv_at hl 5 rfl) ?_
              refine mx_nadd (u := 127) (v := n5_23) hx hb rfl rfl dX4_middleNight_38 ?_
              refine md_ald X w hM 1 (by decide) (by decide) (127 + n5_23) rfl (show 127 + n5_23 < 170 by omega) dX4_middleNight_39 ?_
              refine lv_aload_n hx hb dX4_middleNight_40 rfl (lv_at hl 1 rfl) ?_
              refine mx_get (v := .ref (pp 1)) X w in_X4 (ci := 3) rfl 0 (by decide) q2011 (fun _ h => h) hM.2.1 rfl dX4_middleNight_41 ?_
              refine lv_bipush (v := (127 : Int32)) hx hb dX4_middleNight_44 (by decide) ?_
              refine lv_iload_n hx hb dX4_middleNight_46 rfl (lv_at hl 2 rfl) ?_
              refine mx_nadd (u := 127) (v := n2_10) hx hb rfl rfl dX4_middleNight_47 ?_
              refine md_ald X w hM 1 (by decide) (by decide) (127 + n2_10) rfl (show 127 + n2_10 < 170 by omega) dX4_middleNight_48 ?_
              have J57 : ∀ (bs0_57 : Bool) (M : mh) (H : Heap) (locs : List Loc) (ls : Array Slot), mf_middleNight_57 v (mf_middleNight_10 v n_10) n2_10 (mf_middleNight_23 v (mf_middleNight_10 v n_10) n2_10 n_23) i3_23 i4_23 n5_23 bs0_57 = z → lv_has ls 6 [(1, .int (nI (nC (v 1) 18))), (0, .ref (pp 0)), (2, .int (nI n2_10)), (4, .int i4_23), (5, .int (nI n5_23))] → mW G A s M H locs → Mdl G pp M0 M v → W p l e R s m av below meth c H locs 0 0 Q (F0 m 57 ls [.int (bI bs0_57), .int i3_23]) := by
                intro bs0_57 M H locs ls  E hl w hM
                rw [mf_middleNight_57] at E
                refine lv_iadd hx hb dX4_middleNight_57 ?_
                refine lv_istore_n (lv' := [(3, .int (i3_23 + (bI bs0_57))), (1, .int (nI (nC (v 1) 18))), (0, .ref (pp 0)), (2, .int (nI n2_10)), (4, .int i4_23), (5, .int (nI n5_23))]) hx hb dX4_middleNight_58 rfl hl (by decide) rfl (fun ls hl => ?_)
                refine lv_iload hx hb dX4_middleNight_59 (lv_at hl 4 rfl) ?_
                refine lv_aload_n hx hb dX4_middleNight_61 rfl (lv_at hl 2 rfl) ?_
                refine mx_get (v := .ref (pp 1)) X w in_X4 (ci := 3) rfl 0 (by decide) q2011 (fun _ h => h) hM.2.1 rfl dX4_middleNight_62 ?_
                refine lv_bipush (v := (127 : Int32)) hx hb dX4_middleNight_65 (by decide) ?_
                refine lv_iload hx hb dX4_middleNight_67 (lv_at hl 5 rfl) ?_
                refine mx_nadd (u := 127) (v := n5_23) hx hb rfl rfl dX4_middleNight_69 ?_
                refine md_ald X w hM 1 (by decide) (by decide) (127 + n5_23) rfl (show 127 + n5_23 < 170 by omega) dX4_middleNight_70 ?_
                refine lv_aload_n hx hb dX4_middleNight_71 rfl (lv_at hl 2 rfl) ?_
                refine mx_get (v := .ref (pp 1)) X w in_X4 (ci := 3) rfl 0 (by decide) q2011 (fun _ h => h) hM.2.1 rfl dX4_middleNight_72 ?_
                refine lv_bipush (v := (127 : Int32)) hx hb dX4_middleNight_75 (by decide) ?_
                refine lv_iload_n hx hb dX4_middleNight_77 rfl (lv_at hl 3 rfl) ?_
                refine mx_nadd (u := 127) (v := n2_10) hx hb rfl rfl dX4_middleNight_78 ?_
                refine md_ald X w hM 1 (by decide) (by decide) (127 + n2_10) rfl (show 127 + n2_10 < 170 by omega) dX4_middleNight_79 ?_
                have J88 : ∀ (bs0_88 : Bool) (M : mh) (H : Heap) (locs : List Loc) (ls : Array Slot), mf_middleNight_88 v (mf_middleNight_10 v n_10) n2_10 (mf_middleNight_23 v (mf_middleNight_10 v n_10) n2_10 n_23) i3_23 i4_23 n5_23 bs0_57 bs0_88 = z → lv_has ls 6 [(3, .int (i3_23 + (bI bs0_57))), (1, .int (nI (nC (v 1) 18))), (0, .ref (pp 0)), (2, .int (nI n2_10)), (5, .int (nI n5_23))] → mW G A s M H locs → Mdl G pp M0 M v → W p l e R s m av below meth c H locs 0 0 Q (F0 m 88 ls [.int (bI bs0_88), .int i4_23]) := by
                  intro bs0_88 M H locs ls  E hl w hM
                  rw [mf_middleNight_88] at E
                  refine lv_iadd hx hb dX4_middleNight_88 ?_
                  refine lv_istore (lv' := [(4, .int (i4_23 + (bI bs0_88))), (3, .int (i3_23 + (bI bs0_57))), (1, .int (nI (nC (v 1) 18))), (0, .ref (pp 0)), (2, .int (nI n2_10)), (5, .int (nI n5_23))]) hx hb dX4_middleNight_89 hl (by decide) rfl (fun ls hl => ?_)
                  refine lv_iinc (v := (nI (n5_23 + 1))) (lv' := [(5, .int (nI (n5_23 + 1))), (4, .int (i4_23 + (bI bs0_88))), (3, .int (i3_23 + (bI bs0_57))), (1, .int (nI (nC (v 1) 18))), (0, .ref (pp 0)), (2, .int (nI n2_10))]) hx hb dX4_middleNight_91 hl (k := 5) rfl (nI_incr _ 1) (by decide) rfl (fun ls hl => ?_)
                  refine lv_goto (tgt := 23) hx hb dX4_middleNight_94 (by decide) ?_
                  exact ih_23 (i3_23 + (bI bs0_57)) (i4_23 + (bI bs0_88)) (n5_23 + 1) M H locs ls (by first | omega | assumption) (by first | omega | assumption) E (lv_sub hl [3, 4, 5, 2, 1, 0] rfl) w hM
                refine lv_icmp_ne (tgt := 87) hx hb dX4_middleNight_80 (by decide) (fun c_80 => ?_) (fun c_80 => ?_)
                · rw [if_neg c_80] at E
                  refine lv_iconst (v := (0 : Int32)) hx hb dX4_middleNight_87 (by decide) ?_
                  exact J88 false M H locs ls E (lv_sub hl [0, 1, 2, 3, 5] rfl) w hM
                · rw [if_pos c_80] at E
                  refine lv_iconst (v := (1 : Int32)) hx hb dX4_middleNight_83 (by decide) ?_
                  refine lv_goto (tgt := 88) hx hb dX4_middleNight_84 (by decide) ?_
                  exact J88 true M H locs ls E (lv_sub hl [0, 1, 2, 3, 5] rfl) w hM
              refine lv_icmp_ge (tgt := 56) hx hb dX4_middleNight_49 (by decide) (fun c_49 => ?_) (fun c_49 => ?_)
              · rw [if_pos c_49] at E
                refine lv_iconst (v := (0 : Int32)) hx hb dX4_middleNight_56 (by decide) ?_
                exact J57 false M H locs ls E (lv_sub hl [0, 1, 2, 4, 5] rfl) w hM
              · rw [if_neg c_49] at E
                refine lv_iconst (v := (1 : Int32)) hx hb dX4_middleNight_52 (by decide) ?_
                refine lv_goto (tgt := 57) hx hb dX4_middleNight_53 (by decide) ?_
                exact J57 true M H locs ls E (lv_sub hl [0, 1, 2, 4, 5] rfl) w hM
        exact L23 8 (0 : Int32) (0 : Int32) 0 M H locs ls (by first | omega | assumption) (by first | omega | assumption) E (lv_sub hl [3, 4, 5, 2, 1, 0] rfl) w hM
  exact L10 8 0 M H locs ls (by first | omega | assumption) (by first | omega | assumption) E (lv_sub hl [1, 2, 0] rfl) w hM
def mf_night_190 (v : (Nat → Nat → Int32)) (v_110 : (Nat → Nat → Int32)) (rc_113 : Nat → (Nat → Nat → Int32) → (Nat → Nat → Int32)) (n2_113 : Nat) (v_113 : (Nat → Nat → Int32)) (bs0_190 : Bool) : (Nat → Nat → Int32) := (u2 (u2 (u2 v_113 1 127 (v_113 1 8)) 1 8 (0 : Int32)) 1 18 (((u2 (u2 v_113 1 127 (v_113 1 8)) 1 8 (0 : Int32)) 1 18) + (bI bs0_190)))
def mf_night_113 (v : (Nat → Nat → Int32)) (v_110 : (Nat → Nat → Int32)) : Nat → Nat → (Nat → Nat → Int32) → (Nat → Nat → Int32)
  | 0, _, v_113 => v_113
  | n_113 + 1, n2_113, v_113 => (if n2_113 = 0 then (if (7 : Int32) ≤ ((u2 (u2 v_113 1 127 (v_113 1 8)) 1 8 (0 : Int32)) 1 18) then (mf_night_190 v v_110 (mf_night_113 v v_110 n_113) n2_113 v_113 false) else (mf_night_190 v v_110 (mf_night_113 v v_110 n_113) n2_113 v_113 true)) else ( (mf_night_113 v v_110 n_113) (n2_113 - 1) (u2 v_113 1 (127 + n2_113) (v_113 1 ((127 + n2_113) - 1)))))
def mf_night_110 (v : (Nat → Nat → Int32)) (v_110 : (Nat → Nat → Int32)) : (Nat → Nat → Int32) := (mf_night_113 v v_110 8 6 v_110)
def mf_night_c107 (v : (Nat → Nat → Int32)) (v_107 : (Nat → Nat → Int32)) : (Nat → Nat → Int32) := (mf_night_110 v v_107)
def mf_night (v : (Nat → Nat → Int32)) : (Nat → Nat → Int32) := (if ((((mf_minuteOfDay v ) - (mf_setting v 15)) + (1440 : Int32)) - (((mf_minuteOfDay v ) - (mf_setting v 15)) + (1440 : Int32)) / (1440 : Int32) * (1440 : Int32)) < (mf_setting v 16) then (if ((mf_setting (u2 v 1 8 ((v 1 8) + (v 1 3))) 16) - (1 : Int32)) ≤ ((((mf_minuteOfDay v ) - (mf_setting v 15)) + (1440 : Int32)) - (((mf_minuteOfDay v ) - (mf_setting v 15)) + (1440 : Int32)) / (1440 : Int32) * (1440 : Int32)) then (if ((u2 v 1 8 ((v 1 8) + (v 1 3))) 1 18) < (3 : Int32) then (mf_night_110 v (u2 v 1 8 ((v 1 8) + (v 1 3)))) else (if ((u2 v 1 8 ((v 1 8) + (v 1 3))) 1 8) ≤ ((mf_middleNight (u2 v 1 8 ((v 1 8) + (v 1 3))) ) + (mf_setting (u2 v 1 8 ((v 1 8) + (v 1 3))) 17)) then (mf_night_110 v (u2 v 1 8 ((v 1 8) + (v 1 3)))) else (mf_night_c107 v (mf_event (u2 (u2 v 1 8 ((v 1 8) + (v 1 3))) 1 9 (((u2 v 1 8 ((v 1 8) + (v 1 3))) 1 9) + (1 : Int32))) (6 : Int32) (-1 : Int32))))) else (u2 v 1 8 ((v 1 8) + (v 1 3)))) else v)
set_option maxHeartbeats 4000000 in
set_option maxRecDepth 100000 in
theorem mt_night (l : Launch) (G : mg) (A : Nat → Prop) (pp : Nat → Nat) (M0 : mh) (v : Nat → Nat → Int32)  (nn : Nat) (enn : v 1 18 = nI nn) (hn7 : nn ≤ 7) : Met l yX4_night (ws_ yX4_night cX4_night 3 (none)) ({ frames := 1, cells := 0, slots := 0, locals := 25 }) (va_Pc [.ref (pp 0)] (mU G A (fun M => Mdl G pp M0 M v))) (mQv G A (fun M => Mdl G pp M0 M (mf_night v))) 0 0 A := by
  refine mx_ofv (by decide) (Nat.le_of_ble_eq_true rfl) ?_
  intro p e R s m av below meth c M H Q ls X hRf hRl hRc hRs hin hM w fin hl
  have X : CallFix p m c cX4_night 3 s av lw_all "FieldPumpsModel" := X
  have hx := X.1
  have hb := X.2.1
  have hl : lv_has ls 3 [(0, .ref (pp 0))] := hl
  have hRf : R.frames = 1 := hRf
  have hRl : R.locals = 25 := hRl
  generalize ([] : List Loc) = locs at w ⊢
  generalize E : mf_night v = z at fin
  rw [mf_night] at E
  have hcn := nC_of enn (by omega)
  refine lv_aload_n hx hb dX4_night_0 rfl (lv_at hl 0 rfl) ?_
  refine mx_bi w (va_runV (As := []) (rest := []) X (mt_minuteOfDay l G A pp M0 v   ) (cwV 0 X.2.2.2.2 (lw_V q2239 q2241 qs70 q113 q2242) rfl rfl rfl (by decide +kernel) ⟨by rw [hRf]; decide, by rw [hRl]; decide⟩) (mx_preV w hM hM.2.1 rfl) rfl rfl hl.1 rfl (lv_room (Nat.le_of_ble_eq_true rfl)) dX4_night_1 ⟨Nat.zero_le _, Nat.zero_le _⟩) (fun r M H locs hp w => ?_)
  obtain ⟨rfl, hM⟩ := hp
  refine lv_aload_n hx hb dX4_night_4 rfl (lv_at hl 0 rfl) ?_
  refine lv_bipush (v := (15 : Int32)) hx hb dX4_night_5 (by decide) ?_
  refine mx_bi w (va_runV (As := [.int (nI 15)]) (rest := [.int (mf_minuteOfDay v )]) X (mt_setting l G A pp M0 v 15  (by first | omega | assumption)) (cwV 1 X.2.2.2.2 (lw_V q2078 q2080 qs47 q113 q2081) rfl rfl rfl (by decide +kernel) ⟨by rw [hRf]; decide, by rw [hRl]; decide⟩) (mx_preV w hM hM.2.1 rfl) rfl rfl hl.1 rfl (lv_room (Nat.le_of_ble_eq_true rfl)) dX4_night_7 ⟨Nat.zero_le _, Nat.zero_le _⟩) (fun r M H locs hp w => ?_)
  obtain ⟨rfl, hM⟩ := hp
  refine lv_isub hx hb dX4_night_10 ?_
  refine lv_sipush (v := (1440 : Int32)) hx hb dX4_night_11 (by decide) ?_
  refine lv_iadd hx hb dX4_night_14 ?_
  refine lv_sipush (v := (1440 : Int32)) hx hb dX4_night_15 (by decide) ?_
  refine lv_irem hx hb dX4_night_18 (by decide) ?_
  refine lv_istore_n (lv' := [(1, .int ((((mf_minuteOfDay v ) - (mf_setting v 15)) + (1440 : Int32)) - (((mf_minuteOfDay v ) - (mf_setting v 15)) + (1440 : Int32)) / (1440 : Int32) * (1440 : Int32))), (0, .ref (pp 0))]) hx hb dX4_night_19 rfl hl (by decide) rfl (fun ls hl => ?_)
  refine lv_iload_n hx hb dX4_night_20 rfl (lv_at hl 0 rfl) ?_
  refine lv_aload_n hx hb dX4_night_21 rfl (lv_at hl 1 rfl) ?_
  refine lv_bipush (v := (16 : Int32)) hx hb dX4_night_22 (by decide) ?_
  refine mx_bi w (va_runV (As := [.int (nI 16)]) (rest := [.int ((((mf_minuteOfDay v ) - (mf_setting v 15)) + (1440 : Int32)) - (((mf_minuteOfDay v ) - (mf_setting v 15)) + (1440 : Int32)) / (1440 : Int32) * (1440 : Int32))]) X (mt_setting l G A pp M0 v 16  (by first | omega | assumption)) (cwV 1 X.2.2.2.2 (lw_V q2078 q2080 qs47 q113 q2081) rfl rfl rfl (by decide +kernel) ⟨by rw [hRf]; decide, by rw [hRl]; decide⟩) (mx_preV w hM hM.2.1 rfl) rfl rfl hl.1 rfl (lv_room (Nat.le_of_ble_eq_true rfl)) dX4_night_24 ⟨Nat.zero_le _, Nat.zero_le _⟩) (fun r M H locs hp w => ?_)
  obtain ⟨rfl, hM⟩ := hp
  refine lv_icmp_lt (tgt := 31) hx hb dX4_night_27 (by decide) (fun c_27 => ?_) (fun c_27 => ?_)
  · rw [if_pos c_27] at E
    refine lv_aload_n hx hb dX4_night_31 rfl (lv_at hl 1 rfl) ?_
    refine mx_get (v := .ref (pp 1)) X w in_X4 (ci := 3) rfl 0 (by decide) q2011 (fun _ h => h) hM.2.1 rfl dX4_night_32 ?_
    refine lv_bipush (v := (8 : Int32)) hx hb dX4_night_35 (by decide) ?_
    refine lv_dup2_11 hx hb dX4_night_37 rfl rfl ?_
    refine md_ald X w hM 1 (by decide) (by decide) 8 rfl (show 8 < 170 by decide) dX4_night_38 ?_
    refine lv_aload_n hx hb dX4_night_39 rfl (lv_at hl 1 rfl) ?_
    refine mx_get (v := .ref (pp 1)) X w in_X4 (ci := 3) rfl 0 (by decide) q2011 (fun _ h => h) hM.2.1 rfl dX4_night_40 ?_
    refine lv_iconst (v := (3 : Int32)) hx hb dX4_night_43 (by decide) ?_
    refine md_ald X w hM 1 (by decide) (by decide) 3 rfl (show 3 < 170 by decide) dX4_night_44 ?_
    refine lv_iadd hx hb dX4_night_45 ?_
    refine md_ast (x := ((v 1 8) + (v 1 3))) X w hM 1 (by decide) (by decide) 8 rfl (show 8 < 170 by decide) dX4_night_46 (fun M H locs w hM => ?_)
    refine lv_iload_n hx hb dX4_night_47 rfl (lv_at hl 0 rfl) ?_
    refine lv_aload_n hx hb dX4_night_48 rfl (lv_at hl 1 rfl) ?_
    refine lv_bipush (v := (16 : Int32)) hx hb dX4_night_49 (by decide) ?_
    refine mx_bi w (va_runV (As := [.int (nI 16)]) (rest := [.int ((((mf_minuteOfDay v ) - (mf_setting v 15)) + (1440 : Int32)) - (((mf_minuteOfDay v ) - (mf_setting v 15)) + (1440 : Int32)) / (1440 : Int32) * (1440 : Int32))]) X (mt_setting l G A pp M0 (u2 v 1 8 ((v 1 8) + (v 1 3))) 16  (by first | omega | assumption)) (cwV 1 X.2.2.2.2 (lw_V q2078 q2080 qs47 q113 q2081) rfl rfl rfl (by decide +kernel) ⟨by rw [hRf]; decide, by rw [hRl]; decide⟩) (mx_preV w hM hM.2.1 rfl) rfl rfl hl.1 rfl (lv_room (Nat.le_of_ble_eq_true rfl)) dX4_night_51 ⟨Nat.zero_le _, Nat.zero_le _⟩) (fun r M H locs hp w => ?_)
    obtain ⟨rfl, hM⟩ := hp
    refine lv_iconst (v := (1 : Int32)) hx hb dX4_night_54 (by decide) ?_
    refine lv_isub hx hb dX4_night_55 ?_
    refine lv_icmp_ge (tgt := 60) hx hb dX4_night_56 (by decide) (fun c_56 => ?_) (fun c_56 => ?_)
    · rw [if_pos c_56] at E
      refine lv_aload_n hx hb dX4_night_60 rfl (lv_at hl 1 rfl) ?_
      refine mx_get (v := .ref (pp 1)) X w in_X4 (ci := 3) rfl 0 (by decide) q2011 (fun _ h => h) hM.2.1 rfl dX4_night_61 ?_
      refine lv_bipush (v := (18 : Int32)) hx hb dX4_night_64 (by decide) ?_
      refine md_ald X w hM 1 (by decide) (by decide) 18 rfl (show 18 < 170 by decide) dX4_night_66 ?_
      refine lv_iconst (v := (3 : Int32)) hx hb dX4_night_67 (by decide) ?_
      have J110 : ∀ (v_110 : (Nat → Nat → Int32)) (M : mh) (H : Heap) (locs : List Loc) (ls : Array Slot), mf_night_110 v v_110 = z → lv_has ls 3 [(0, .ref (pp 0))] → mW G A s M H locs → Mdl G pp M0 M v_110 → W p l e R s m av below meth c H locs 0 0 Q (F0 m 110 ls []) := by
        intro v_110 M H locs ls  E hl w hM
        rw [mf_night_110] at E
        refine lv_bipush (v := (6 : Int32)) hx hb dX4_night_110 (by decide) ?_
        refine lv_istore_n (lv' := [(2, .int (6 : Int32)), (0, .ref (pp 0))]) hx hb dX4_night_112 rfl hl (by decide) rfl (fun ls hl => ?_)
        have L113 : ∀ (n_113 : Nat) (n2_113 : Nat) (v_113 : (Nat → Nat → Int32)) (M : mh) (H : Heap) (locs : List Loc) (ls : Array Slot), (hi : n2_113 ≤ 6) → (hm : n2_113 < n_113) → mf_night_113 v v_110 n_113 n2_113 v_113 = z → lv_has ls 3 [(0, .ref (pp 0)), (2, .int (nI n2_113))] → mW G A s M H locs → Mdl G pp M0 M v_113 → W p l e R s m av below meth c H locs 0 0 Q (F0 m 113 ls []) := by
          intro n_113
          induction n_113 with
          | zero =>
            intro n2_113 v_113 M H locs ls hi hm E hl w hM
            exfalso; omega
          | succ n_113 ih_113 =>
            intro n2_113 v_113 M H locs ls hi hm E hl w hM
            rw [mf_night_113] at E
            refine lv_iload_n hx hb dX4_night_113 rfl (lv_at hl 1 rfl) ?_
            refine mx_0le (u := n2_113) (tgt := 143) hx hb rfl (by omega) dX4_night_114 (by decide) (fun c_114 => ?_) (fun c_114 => ?_)
            · rw [if_pos c_114] at E
              refine lv_aload_n hx hb dX4_night_143 rfl (lv_at hl 0 rfl) ?_
              refine mx_get (v := .ref (pp 1)) X w in_X4 (ci := 3) rfl 0 (by decide) q2011 (fun _ h => h) hM.2.1 rfl dX4_night_144 ?_
              refine lv_bipush (v := (127 : Int32)) hx hb dX4_night_147 (by decide) ?_
              refine lv_aload_n hx hb dX4_night_149 rfl (lv_at hl 0 rfl) ?_
              refine mx_get (v := .ref (pp 1)) X w in_X4 (ci := 3) rfl 0 (by decide) q2011 (fun _ h => h) hM.2.1 rfl dX4_night_150 ?_
              refine lv_bipush (v := (8 : Int32)) hx hb dX4_night_153 (by decide) ?_
              refine md_ald X w hM 1 (by decide) (by decide) 8 rfl (show 8 < 170 by decide) dX4_night_155 ?_
              refine md_ast (x := (v_113 1 8)) X w hM 1 (by decide) (by decide) 127 rfl (show 127 < 170 by decide) dX4_night_156 (fun M H locs w hM => ?_)
              refine lv_aload_n hx hb dX4_night_157 rfl (lv_at hl 0 rfl) ?_
              refine mx_get (v := .ref (pp 1)) X w in_X4 (ci := 3) rfl 0 (by decide) q2011 (fun _ h => h) hM.2.1 rfl dX4_night_158 ?_
              refine lv_bipush (v := (8 : Int32)) hx hb dX4_night_161 (by decide) ?_
              refine lv_iconst (v := (0 : Int32)) hx hb dX4_night_163 (by decide) ?_
              refine md_ast (x := (0 : Int32)) X w hM 1 (by decide) (by decide) 8 rfl (show 8 < 170 by decide) dX4_night_164 (fun M H locs w hM => ?_)
              refine lv_aload_n hx hb dX4_night_165 rfl (lv_at hl 0 rfl) ?_
              refine mx_get (v := .ref (pp 1)) X w in_X4 (ci := 3) rfl 0 (by decide) q2011 (fun _ h => h) hM.2.1 rfl dX4_night_166 ?_
              refine lv_bipush (v := (18 : Int32)) hx hb dX4_night_169 (by decide) ?_
              refine lv_dup2_11 hx hb dX4_night_171 rfl rfl ?_
              refine md_ald X w hM 1 (by decide) (by decide) 18 rfl (show 18 < 170 by decide) dX4_night_172 ?_
              refine lv_aload_n hx hb dX4_night_173 rfl (lv_at hl 0 rfl) ?_
              refine mx_get (v := .ref (pp 1)) X w in_X4 (ci := 3) rfl 0 (by decide) q2011 (fun _ h => h) hM.2.1 rfl dX4_night_174 ?_
              refine lv_bipush (v := (18 : Int32)) hx hb dX4_night_177 (by decide) ?_
              refine md_ald X w hM 1 (by decide) (by decide) 18 rfl (show 18 < 170 by decide) dX4_night_179 ?_
              refine lv_bipush (v := (7 : Int32)) hx hb dX4_night_180 (by decide) ?_
              have J190 : ∀ (bs0_190 : Bool) (M : mh) (H : Heap) (locs : List Loc) (ls : Array Slot), mf_night_190 v v_110 (mf_night_113 v v_110 n_113) n2_113 v_113 bs0_190 = z → lv_has ls 3 [] → mW G A s M H locs → Mdl G pp M0 M (u2 (u2 v_113 1 127 (v_113 1 8)) 1 8 (0 : Int32)) → W p l e R s m av below meth c H locs 0 0 Q (F0 m 190 ls [.int (bI bs0_190), .int ((u2 (u2 v_113 1 127 (v_113 1 8)) 1 8 (0 : Int32)) 1 18), .int (18 : Int32), .ref (pp 1)]) := by
                intro bs0_190 M H locs ls  E hl w hM
                rw [mf_night_190] at E
                refine lv_iadd hx hb dX4_night_190 ?_
                refine md_ast (x := (((u2 (u2 v_113 1 127 (v_113 1 8)) 1 8 (0 : Int32)) 1 18) + (bI bs0_190))) X w hM 1 (by decide) (by decide) 18 rfl (show 18 < 170 by decide) dX4_night_191 (fun M H locs w hM => ?_)
                exact fin M H locs ls 192 dX4_night_192 (by rw [← E]; exact hM) w
              refine lv_icmp_ge (tgt := 189) hx hb dX4_night_182 (by decide) (fun c_182 => ?_) (fun c_182 => ?_)
              · rw [if_pos c_182] at E
                refine lv_iconst (v := (0 : Int32)) hx hb dX4_night_189 (by decide) ?_
                exact J190 false M H locs ls E (lv_sub hl [] rfl) w hM
              · rw [if_neg c_182] at E
                refine lv_iconst (v := (1 : Int32)) hx hb dX4_night_185 (by decide) ?_
                refine lv_goto (tgt := 190) hx hb dX4_night_186 (by decide) ?_
                exact J190 true M H locs ls E (lv_sub hl [] rfl) w hM
            · rw [if_neg c_114] at E
              refine lv_aload_n hx hb dX4_night_117 rfl (lv_at hl 0 rfl) ?_
              refine mx_get (v := .ref (pp 1)) X w in_X4 (ci := 3) rfl 0 (by decide) q2011 (fun _ h => h) hM.2.1 rfl dX4_night_118 ?_
              refine lv_bipush (v := (127 : Int32)) hx hb dX4_night_121 (by decide) ?_
              refine lv_iload_n hx hb dX4_night_123 rfl (lv_at hl 1 rfl) ?_
              refine mx_nadd (u := 127) (v := n2_113) hx hb rfl rfl dX4_night_124 ?_
              refine lv_aload_n hx hb dX4_night_125 rfl (lv_at hl 0 rfl) ?_
              refine mx_get (v := .ref (pp 1)) X w in_X4 (ci := 3) rfl 0 (by decide) q2011 (fun _ h => h) hM.2.1 rfl dX4_night_126 ?_
              refine lv_bipush (v := (127 : Int32)) hx hb dX4_night_129 (by decide) ?_
              refine lv_iload_n hx hb dX4_night_131 rfl (lv_at hl 1 rfl) ?_
              refine mx_nadd (u := 127) (v := n2_113) hx hb rfl rfl dX4_night_132 ?_
              refine lv_iconst (v := (1 : Int32)) hx hb dX4_night_133 (by decide) ?_
              refine mx_nsub (u := 127 + n2_113) (v := 1) hx hb rfl rfl (by omega) dX4_night_134 ?_
              refine md_ald X w hM 1 (by decide) (by decide) ((127 + n2_113) - 1) rfl (show (127 + n2_113) - 1 < 170 by omega) dX4_night_135 ?_
              refine md_ast (x := (v_113 1 ((127 + n2_113) - 1))) X w hM 1 (by decide) (by decide) (127 + n2_113) rfl (show 127 + n2_113 < 170 by omega) dX4_night_136 (fun M H locs w hM => ?_)
              refine lv_iinc (v := (nI (n2_113 - 1))) (lv' := [(2, .int (nI (n2_113 - 1))), (0, .ref (pp 0))]) hx hb dX4_night_137 hl (k := 1) rfl (nI_decr (k := 1) (by omega)) (by decide) rfl (fun ls hl => ?_)
              refine lv_goto (tgt := 113) hx hb dX4_night_140 (by decide) ?_
              exact ih_113 (n2_113 - 1) (u2 v_113 1 (127 + n2_113) (v_113 1 ((127 + n2_113) - 1))) M H locs ls (by first | omega | assumption) (by first | omega | assumption) E (lv_sub hl [1, 0] rfl) w hM
        exact L113 8 6 v_110 M H locs ls (by first | omega | assumption) (by first | omega | assumption) E (lv_sub hl [1, 0] rfl) w hM
      refine lv_icmp_lt (tgt := 110) hx hb dX4_night_68 (by decide) (fun c_68 => ?_) (fun c_68 => ?_)
      · rw [if_pos c_68] at E
        exact J110 (u2 v 1 8 ((v 1 8) + (v 1 3))) M H locs ls E (lv_sub hl [1] rfl) w hM
      · rw [if_neg c_68] at E
        refine lv_aload_n hx hb dX4_night_71 rfl (lv_at hl 1 rfl) ?_
        refine mx_get (v := .ref (pp 1)) X w in_X4 (ci := 3) rfl 0 (by decide) q2011 (fun _ h => h) hM.2.1 rfl dX4_night_72 ?_
        refine lv_bipush (v := (8 : Int32)) hx hb dX4_night_75 (by decide) ?_
        refine md_ald X w hM 1 (by decide) (by decide) 8 rfl (show 8 < 170 by decide) dX4_night_77 ?_
        refine lv_aload_n hx hb dX4_night_78 rfl (lv_at hl 1 rfl) ?_
        refine mx_bi w (va_runV (As := []) (rest := [.int ((u2 v 1 8 ((v 1 8) + (v 1 3))) 1 8)]) X (mt_middleNight l G A pp M0 (u2 v 1 8 ((v 1 8) + (v 1 3)))  nn (by simp [u2]; exact enn) (hn7)) (cwV 0 X.2.2.2.2 (lw_V q2258 q2260 qs74 q113 q2261) rfl rfl rfl (by decide +kernel) ⟨by rw [hRf]; decide, by rw [hRl]; decide⟩) (mx_preV w hM hM.2.1 rfl) rfl rfl hl.1 rfl (lv_room (Nat.le_of_ble_eq_true rfl)) dX4_night_79 ⟨Nat.zero_le _, Nat.zero_le _⟩) (fun r M H locs hp w => ?_)
        obtain ⟨rfl, hM⟩ := hp
        refine lv_aload_n hx hb dX4_night_82 rfl (lv_at hl 1 rfl) ?_
        refine lv_bipush (v := (17 : Int32)) hx hb dX4_night_83 (by decide) ?_
        refine mx_bi w (va_runV (As := [.int (nI 17)]) (rest := [.int (mf_middleNight (u2 v 1 8 ((v 1 8) + (v 1 3))) ), .int ((u2 v 1 8 ((v 1 8) + (v 1 3))) 1 8)]) X (mt_setting l G A pp M0 (u2 v 1 8 ((v 1 8) + (v 1 3))) 17  (by first | omega | assumption)) (cwV 1 X.2.2.2.2 (lw_V q2078 q2080 qs47 q113 q2081) rfl rfl rfl (by decide +kernel) ⟨by rw [hRf]; decide, by rw [hRl]; decide⟩) (mx_preV w hM hM.2.1 rfl) rfl rfl hl.1 rfl (lv_room (Nat.le_of_ble_eq_true rfl)) dX4_night_85 ⟨Nat.zero_le _, Nat.zero_le _⟩) (fun r M H locs hp w => ?_)
        obtain ⟨rfl, hM⟩ := hp
        refine lv_iadd hx hb dX4_night_88 ?_
        refine lv_icmp_le (tgt := 110) hx hb dX4_night_89 (by decide) (fun c_89 => ?_) (fun c_89 => ?_)
        · rw [if_pos c_89] at E
          exact J110 (u2 v 1 8 ((v 1 8) + (v 1 3))) M H locs ls E (lv_sub hl [1] rfl) w hM
        · rw [if_neg c_89] at E
          refine lv_aload_n hx hb dX4_night_92 rfl (lv_at hl 1 rfl) ?_
          refine mx_get (v := .ref (pp 1)) X w in_X4 (ci := 3) rfl 0 (by decide) q2011 (fun _ h => h) hM.2.1 rfl dX4_night_93 ?_
          refine lv_bipush (v := (9 : Int32)) hx hb dX4_night_96 (by decide) ?_
          refine lv_dup2_11 hx hb dX4_night_98 rfl rfl ?_
          refine md_ald X w hM 1 (by decide) (by decide) 9 rfl (show 9 < 170 by decide) dX4_night_99 ?_
          refine lv_iconst (v := (1 : Int32)) hx hb dX4_night_100 (by decide) ?_
          refine lv_iadd hx hb dX4_night_101 ?_
          refine md_ast (x := (((u2 v 1 8 ((v 1 8) + (v 1 3))) 1 9) + (1 : Int32))) X w hM 1 (by decide) (by decide) 9 rfl (show 9 < 170 by decide) dX4_night_102 (fun M H locs w hM => ?_)
          refine lv_aload_n hx hb dX4_night_103 rfl (lv_at hl 1 rfl) ?_
          refine lv_bipush (v := (6 : Int32)) hx hb dX4_night_104 (by decide) ?_
          refine lv_iconst (v := (-1 : Int32)) hx hb dX4_night_106 (by decide) ?_
          refine mx_bv w (va_runV (As := [.int (6 : Int32), .int (-1 : Int32)]) (rest := []) X (mt_event l G A pp M0 (u2 (u2 v 1 8 ((v 1 8) + (v 1 3))) 1 9 (((u2 v 1 8 ((v 1 8) + (v 1 3))) 1 9) + (1 : Int32))) (6 : Int32) (-1 : Int32)  ) (cwV 2 X.2.2.2.2 (lw_V q2122 q2124 qs55 q113 q2125) rfl rfl rfl (by decide +kernel) ⟨by rw [hRf]; decide, by rw [hRl]; decide⟩) (mx_preV w hM hM.2.1 rfl) rfl rfl hl.1 rfl (lv_room (Nat.le_of_ble_eq_true rfl)) dX4_night_107 ⟨Nat.zero_le _, Nat.zero_le _⟩) (fun M H locs hM w => ?_)
          rw [mf_night_c107] at E
          obtain ⟨v_107, ev_107⟩ : ∃ y, y = (mf_event (u2 (u2 v 1 8 ((v 1 8) + (v 1 3))) 1 9 (((u2 v 1 8 ((v 1 8) + (v 1 3))) 1 9) + (1 : Int32))) (6 : Int32) (-1 : Int32)) := ⟨_, rfl⟩
          rw [← ev_107] at E hM
          exact J110 v_107 M H locs ls E (lv_sub hl [1] rfl) w hM
    · rw [if_neg c_56] at E
      exact fin M H locs ls 59 dX4_night_59 (by rw [← E]; exact hM) w
  · rw [if_neg c_27] at E
    exact fin M H locs ls 30 dX4_night_30 (by rw [← E]; exact hM) w
def mf_dryness_165 (v : (Nat → Nat → Int32)) (is0_34 : Int32) (v_116 : (Nat → Nat → Int32)) (v_165 : (Nat → Nat → Int32)) : (Nat → Nat → Int32) := v_165
def mf_dryness_c162 (v : (Nat → Nat → Int32)) (is0_34 : Int32) (v_116 : (Nat → Nat → Int32)) (v_162 : (Nat → Nat → Int32)) : (Nat → Nat → Int32) := (mf_dryness_165 v is0_34 v_116 v_162)
def mf_dryness_116 (v : (Nat → Nat → Int32)) (is0_34 : Int32) (v_116 : (Nat → Nat → Int32)) : (Nat → Nat → Int32) := (if (v_116 1 2) < (mf_setting v_116 12) then (mf_dryness_165 v is0_34 v_116 v_116) else (if (v_116 1 5) = (1 : Int32) then (if (3 : Int32) ≤ (v_116 1 6) then (mf_dryness_165 v is0_34 v_116 v_116) else (mf_dryness_c162 v is0_34 v_116 (mf_event (u2 v_116 1 5 (0 : Int32)) (5 : Int32) (-1 : Int32)))) else (mf_dryness_165 v is0_34 v_116 v_116)))
def mf_dryness_c113 (v : (Nat → Nat → Int32)) (is0_34 : Int32) (rc_69 : Nat → (Nat → Nat → Int32) → (Nat → Nat → Int32)) (n1_69 : Nat) (v_69 : (Nat → Nat → Int32)) (v_113 : (Nat → Nat → Int32)) : (Nat → Nat → Int32) := (mf_dryness_116 v is0_34 v_113)
def mf_dryness_93 (v : (Nat → Nat → Int32)) (is0_34 : Int32) (rc_69 : Nat → (Nat → Nat → Int32) → (Nat → Nat → Int32)) (n1_69 : Nat) (v_69 : (Nat → Nat → Int32)) (v_93 : (Nat → Nat → Int32)) : (Nat → Nat → Int32) := ( rc_69 (n1_69 + 1) v_93)
def mf_dryness_c90 (v : (Nat → Nat → Int32)) (is0_34 : Int32) (rc_69 : Nat → (Nat → Nat → Int32) → (Nat → Nat → Int32)) (n1_69 : Nat) (v_69 : (Nat → Nat → Int32)) (v_90 : (Nat → Nat → Int32)) : (Nat → Nat → Int32) := (mf_dryness_93 v is0_34 rc_69 n1_69 v_69 v_90)
def mf_dryness_69 (v : (Nat → Nat → Int32)) (is0_34 : Int32) : Nat → Nat → (Nat → Nat → Int32) → (Nat → Nat → Int32)
  | 0, _, v_69 => v_69
  | n_69 + 1, n1_69, v_69 => (if (nC (v_69 1) 14) ≤ n1_69 then (mf_dryness_c113 v is0_34 (mf_dryness_69 v is0_34 n_69) n1_69 v_69 (mf_event (u2 v_69 1 6 ((v_69 1 6) + (1 : Int32))) (4 : Int32) (-1 : Int32))) else (if (mf_runs v_69 n1_69) = true then (mf_dryness_c90 v is0_34 (mf_dryness_69 v is0_34 n_69) n1_69 v_69 (mf_stop v_69 n1_69)) else (mf_dryness_93 v is0_34 (mf_dryness_69 v is0_34 n_69) n1_69 v_69 v_69)))
def mf_dryness_34 (v : (Nat → Nat → Int32)) (is0_34 : Int32) : (Nat → Nat → Int32) := (if ((u2 v 1 7 is0_34) 1 7) < (mf_setting (u2 v 1 7 is0_34) 13) then (mf_dryness_116 v is0_34 (u2 v 1 7 is0_34)) else (if ((u2 v 1 7 is0_34) 1 5) = 0 then (mf_dryness_69 v is0_34 7 0 (u2 (u2 v 1 7 is0_34) 1 5 (1 : Int32))) else (mf_dryness_116 v is0_34 (u2 v 1 7 is0_34))))
def mf_dryness (v : (Nat → Nat → Int32)) : (Nat → Nat → Int32) := (if (mf_setting v 11) ≤ (v 1 2) then (mf_dryness_34 v (0 : Int32)) else (mf_dryness_34 v ((v 1 7) + (1 : Int32))))
set_option maxHeartbeats 4000000 in
set_option maxRecDepth 100000 in
theorem mt_dryness (l : Launch) (G : mg) (A : Nat → Prop) (pp : Nat → Nat) (M0 : mh) (v : Nat → Nat → Int32)  (T np nz ng : Nat) (hI : IP T np nz ng (v 1)) : Met l yX4_dryness (ws_ yX4_dryness cX4_dryness 2 (none)) ({ frames := 4, cells := 0, slots := 0, locals := 87 }) (va_Pc [.ref (pp 0)] (mU G A (fun M => Mdl G pp M0 M v))) (mQv G A (fun M => Mdl G pp M0 M (mf_dryness v))) 0 0 A := by
  refine mx_ofv (by decide) (Nat.le_of_ble_eq_true rfl) ?_
  intro p e R s m av below meth c M H Q ls X hRf hRl hRc hRs hin hM w fin hl
  have X : CallFix p m c cX4_dryness 2 s av lw_all "FieldPumpsModel" := X
  have hx := X.1
  have hb := X.2.1
  have hl : lv_has ls 2 [(0, .ref (pp 0))] := hl
  have hRf : R.frames = 4 := hRf
  have hRl : R.locals = 87 := hRl
  generalize ([] : List Loc) = locs at w ⊢
  generalize E : mf_dryness v = z at fin
  rw [mf_dryness] at E
  have hb6 := hI.b
  have hcp := hI.cp
  have hcz := hI.cz
  have hcg := hI.cg
  refine lv_aload_n hx hb dX4_dryness_0 rfl (lv_at hl 0 rfl) ?_
  refine mx_get (v := .ref (pp 1)) X w in_X4 (ci := 3) rfl 0 (by decide) q2011 (fun _ h => h) hM.2.1 rfl dX4_dryness_1 ?_
  refine lv_bipush (v := (7 : Int32)) hx hb dX4_dryness_4 (by decide) ?_
  refine lv_aload_n hx hb dX4_dryness_6 rfl (lv_at hl 0 rfl) ?_
  refine mx_get (v := .ref (pp 1)) X w in_X4 (ci := 3) rfl 0 (by decide) q2011 (fun _ h => h) hM.2.1 rfl dX4_dryness_7 ?_
  refine lv_iconst (v := (2 : Int32)) hx hb dX4_dryness_10 (by decide) ?_
  refine md_ald X w hM 1 (by decide) (by decide) 2 rfl (show 2 < 170 by decide) dX4_dryness_11 ?_
  refine lv_aload_n hx hb dX4_dryness_12 rfl (lv_at hl 0 rfl) ?_
  refine lv_bipush (v := (11 : Int32)) hx hb dX4_dryness_13 (by decide) ?_
  refine mx_bi w (va_runV (As := [.int (nI 11)]) (rest := [.int (v 1 2), .int (7 : Int32), .ref (pp 1)]) X (mt_setting l G A pp M0 v 11  (by first | omega | assumption)) (cwV 1 X.2.2.2.2 (lw_V q2078 q2080 qs47 q113 q2081) rfl rfl rfl (by decide +kernel) ⟨by rw [hRf]; decide, by rw [hRl]; decide⟩) (mx_preV w hM hM.2.1 rfl) rfl rfl hl.1 rfl (lv_room (Nat.le_of_ble_eq_true rfl)) dX4_dryness_15 ⟨Nat.zero_le _, Nat.zero_le _⟩) (fun r M H locs hp w => ?_)
  obtain ⟨rfl, hM⟩ := hp
  have J34 : ∀ (is0_34 : Int32) (M : mh) (H : Heap) (locs : List Loc) (ls : Array Slot), mf_dryness_34 v is0_34 = z → lv_has ls 2 [(0, .ref (pp 0))] → mW G A s M H locs → Mdl G pp M0 M v → W p l e R s m av below meth c H locs 0 0 Q (F0 m 34 ls [.int is0_34, .int (7 : Int32), .ref (pp 1)]) := by
    intro is0_34 M H locs ls  E hl w hM
    rw [mf_dryness_34] at E
    refine md_ast (x := is0_34) X w hM 1 (by decide) (by decide) 7 rfl (show 7 < 170 by decide) dX4_dryness_34 (fun M H locs w hM => ?_)
    refine lv_aload_n hx hb dX4_dryness_35 rfl (lv_at hl 0 rfl) ?_
    refine mx_get (v := .ref (pp 1)) X w in_X4 (ci := 3) rfl 0 (by decide) q2011 (fun _ h => h) hM.2.1 rfl dX4_dryness_36 ?_
    refine lv_bipush (v := (7 : Int32)) hx hb dX4_dryness_39 (by decide) ?_
    refine md_ald X w hM 1 (by decide) (by decide) 7 rfl (show 7 < 170 by decide) dX4_dryness_41 ?_
    refine lv_aload_n hx hb dX4_dryness_42 rfl (lv_at hl 0 rfl) ?_
    refine lv_bipush (v := (13 : Int32)) hx hb dX4_dryness_43 (by decide) ?_
    refine mx_bi w (va_runV (As := [.int (nI 13)]) (rest := [.int ((u2 v 1 7 is0_34) 1 7)]) X (mt_setting l G A pp M0 (u2 v 1 7 is0_34) 13  (by first | omega | assumption)) (cwV 1 X.2.2.2.2 (lw_V q2078 q2080 qs47 q113 q2081) rfl rfl rfl (by decide +kernel) ⟨by rw [hRf]; decide, by rw [hRl]; decide⟩) (mx_preV w hM hM.2.1 rfl) rfl rfl hl.1 rfl (lv_room (Nat.le_of_ble_eq_true rfl)) dX4_dryness_45 ⟨Nat.zero_le _, Nat.zero_le _⟩) (fun r M H locs hp w => ?_)
    obtain ⟨rfl, hM⟩ := hp
    have J116 : ∀ (v_116 : (Nat → Nat → Int32)) (M : mh) (H : Heap) (locs : List Loc) (ls : Array Slot), mf_dryness_116 v is0_34 v_116 = z → lv_has ls 2 [(0, .ref (pp 0))] → mW G A s M H locs → Mdl G pp M0 M v_116 → W p l e R s m av below meth c H locs 0 0 Q (F0 m 116 ls []) := by
      intro v_116 M H locs ls  E hl w hM
      rw [mf_dryness_116] at E
      refine lv_aload_n hx hb dX4_dryness_116 rfl (lv_at hl 0 rfl) ?_
      refine mx_get (v := .ref (pp 1)) X w in_X4 (ci := 3) rfl 0 (by decide) q2011 (fun _ h => h) hM.2.1 rfl dX4_dryness_117 ?_
      refine lv_iconst (v := (2 : Int32)) hx hb dX4_dryness_120 (by decide) ?_
      refine md_ald X w hM 1 (by decide) (by decide) 2 rfl (show 2 < 170 by decide) dX4_dryness_121 ?_
      refine lv_aload_n hx hb dX4_dryness_122 rfl (lv_at hl 0 rfl) ?_
      refine lv_bipush (v := (12 : Int32)) hx hb dX4_dryness_123 (by decide) ?_
      refine mx_bi w (va_runV (As := [.int (nI 12)]) (rest := [.int (v_116 1 2)]) X (mt_setting l G A pp M0 v_116 12  (by first | omega | assumption)) (cwV 1 X.2.2.2.2 (lw_V q2078 q2080 qs47 q113 q2081) rfl rfl rfl (by decide +kernel) ⟨by rw [hRf]; decide, by rw [hRl]; decide⟩) (mx_preV w hM hM.2.1 rfl) rfl rfl hl.1 rfl (lv_room (Nat.le_of_ble_eq_true rfl)) dX4_dryness_125 ⟨Nat.zero_le _, Nat.zero_le _⟩) (fun r M H locs hp w => ?_)
      obtain ⟨rfl, hM⟩ := hp
      have J165 : ∀ (v_165 : (Nat → Nat → Int32)) (M : mh) (H : Heap) (locs : List Loc) (ls : Array Slot), mf_dryness_165 v is0_34 v_116 v_165 = z → lv_has ls 2 [] → mW G A s M H locs → Mdl G pp M0 M v_165 → W p l e R s m av below meth c H locs 0 0 Q (F0 m 165 ls []) := by
        intro v_165 M H locs ls  E hl w hM
        rw [mf_dryness_165] at E
        exact fin M H locs ls 165 dX4_dryness_165 (by rw [← E]; exact hM) w
      refine lv_icmp_lt (tgt := 165) hx hb dX4_dryness_128 (by decide) (fun c_128 => ?_) (fun c_128 => ?_)
      · rw [if_pos c_128] at E
        exact J165 v_116 M H locs ls E (lv_sub hl [] rfl) w hM
      · rw [if_neg c_128] at E
        refine lv_aload_n hx hb dX4_dryness_131 rfl (lv_at hl 0 rfl) ?_
        refine mx_get (v := .ref (pp 1)) X w in_X4 (ci := 3) rfl 0 (by decide) q2011 (fun _ h => h) hM.2.1 rfl dX4_dryness_132 ?_
        refine lv_iconst (v := (5 : Int32)) hx hb dX4_dryness_135 (by decide) ?_
        refine md_ald X w hM 1 (by decide) (by decide) 5 rfl (show 5 < 170 by decide) dX4_dryness_136 ?_
        refine lv_iconst (v := (1 : Int32)) hx hb dX4_dryness_137 (by decide) ?_
        refine lv_icmp_ne (tgt := 165) hx hb dX4_dryness_138 (by decide) (fun c_138 => ?_) (fun c_138 => ?_)
        · rw [if_neg c_138] at E
          exact J165 v_116 M H locs ls E (lv_sub hl [] rfl) w hM
        · rw [if_pos c_138] at E
          refine lv_aload_n hx hb dX4_dryness_141 rfl (lv_at hl 0 rfl) ?_
          refine mx_get (v := .ref (pp 1)) X w in_X4 (ci := 3) rfl 0 (by decide) q2011 (fun _ h => h) hM.2.1 rfl dX4_dryness_142 ?_
          refine lv_bipush (v := (6 : Int32)) hx hb dX4_dryness_145 (by decide) ?_
          refine md_ald X w hM 1 (by decide) (by decide) 6 rfl (show 6 < 170 by decide) dX4_dryness_147 ?_
          refine lv_iconst (v := (3 : Int32)) hx hb dX4_dryness_148 (by decide) ?_
          refine lv_icmp_ge (tgt := 165) hx hb dX4_dryness_149 (by decide) (fun c_149 => ?_) (fun c_149 => ?_)
          · rw [if_pos c_149] at E
            exact J165 v_116 M H locs ls E (lv_sub hl [] rfl) w hM
          · rw [if_neg c_149] at E
            refine lv_aload_n hx hb dX4_dryness_152 rfl (lv_at hl 0 rfl) ?_
            refine mx_get (v := .ref (pp 1)) X w in_X4 (ci := 3) rfl 0 (by decide) q2011 (fun _ h => h) hM.2.1 rfl dX4_dryness_153 ?_
            refine lv_iconst (v := (5 : Int32)) hx hb dX4_dryness_156 (by decide) ?_
            refine lv_iconst (v := (0 : Int32)) hx hb dX4_dryness_157 (by decide) ?_
            refine md_ast (x := (0 : Int32)) X w hM 1 (by decide) (by decide) 5 rfl (show 5 < 170 by decide) dX4_dryness_158 (fun M H locs w hM => ?_)
            refine lv_aload_n hx hb dX4_dryness_159 rfl (lv_at hl 0 rfl) ?_
            refine lv_iconst (v := (5 : Int32)) hx hb dX4_dryness_160 (by decide) ?_
            refine lv_iconst (v := (-1 : Int32)) hx hb dX4_dryness_161 (by decide) ?_
            refine mx_bv w (va_runV (As := [.int (5 : Int32), .int (-1 : Int32)]) (rest := []) X (mt_event l G A pp M0 (u2 v_116 1 5 (0 : Int32)) (5 : Int32) (-1 : Int32)  ) (cwV 2 X.2.2.2.2 (lw_V q2122 q2124 qs55 q113 q2125) rfl rfl rfl (by decide +kernel) ⟨by rw [hRf]; decide, by rw [hRl]; decide⟩) (mx_preV w hM hM.2.1 rfl) rfl rfl hl.1 rfl (lv_room (Nat.le_of_ble_eq_true rfl)) dX4_dryness_162 ⟨Nat.zero_le _, Nat.zero_le _⟩) (fun M H locs hM w => ?_)
            rw [mf_dryness_c162] at E
            obtain ⟨v_162, ev_162⟩ : ∃ y, y = (mf_event (u2 v_116 1 5 (0 : Int32)) (5 : Int32) (-1 : Int32)) := ⟨_, rfl⟩
            rw [← ev_162] at E hM
            exact J165 v_162 M H locs ls E (lv_sub hl [] rfl) w hM
    refine lv_icmp_lt (tgt := 116) hx hb dX4_dryness_48 (by decide) (fun c_48 => ?_) (fun c_48 => ?_)
    · rw [if_pos c_48] at E
      exact J116 (u2 v 1 7 is0_34) M H locs ls E (lv_sub hl [0] rfl) w hM
    · rw [if_neg c_48] at E
      refine lv_aload_n hx hb dX4_dryness_51 rfl (lv_at hl 0 rfl) ?_
      refine mx_get (v := .ref (pp 1)) X w in_X4 (ci := 3) rfl 0 (by decide) q2011 (fun _ h => h) hM.2.1 rfl dX4_dryness_52 ?_
      refine lv_iconst (v := (5 : Int32)) hx hb dX4_dryness_55 (by decide) ?_
      refine md_ald X w hM 1 (by decide) (by decide) 5 rfl (show 5 < 170 by decide) dX4_dryness_56 ?_
      refine lv_if_ne (tgt := 116) hx hb dX4_dryness_57 (by decide) (fun c_57 => ?_) (fun c_57 => ?_)
      · rw [if_neg c_57] at E
        exact J116 (u2 v 1 7 is0_34) M H locs ls E (lv_sub hl [0] rfl) w hM
      · rw [if_pos c_57] at E
        refine lv_aload_n hx hb dX4_dryness_60 rfl (lv_at hl 0 rfl) ?_
        refine mx_get (v := .ref (pp 1)) X w in_X4 (ci := 3) rfl 0 (by decide) q2011 (fun _ h => h) hM.2.1 rfl dX4_dryness_61 ?_
        refine lv_iconst (v := (5 : Int32)) hx hb dX4_dryness_64 (by decide) ?_
        refine lv_iconst (v := (1 : Int32)) hx hb dX4_dryness_65 (by decide) ?_
        refine md_ast (x := (1 : Int32)) X w hM 1 (by decide) (by decide) 5 rfl (show 5 < 170 by decide) dX4_dryness_66 (fun M H locs w hM => ?_)
        refine lv_iconst (v := (0 : Int32)) hx hb dX4_dryness_67 (by decide) ?_
        refine lv_istore_n (lv' := [(1, .int (0 : Int32)), (0, .ref (pp 0))]) hx hb dX4_dryness_68 rfl hl (by decide) rfl (fun ls hl => ?_)
        have L69 : ∀ (n_69 : Nat) (n1_69 : Nat) (v_69 : (Nat → Nat → Int32)) (M : mh) (H : Heap) (locs : List Loc) (ls : Array Slot), (hq : IP T np nz ng (v_69 1)) → (hi : n1_69 ≤ np) → (hm : np < n1_69 + n_69) → mf_dryness_69 v is0_34 n_69 n1_69 v_69 = z → lv_has ls 2 [(0, .ref (pp 0)), (1, .int (nI n1_69))] → mW G A s M H locs → Mdl G pp M0 M v_69 → W p l e R s m av below meth c H locs 0 0 Q (F0 m 69 ls []) := by
          intro n_69
          induction n_69 with
          | zero =>
            intro n1_69 v_69 M H locs ls hq hi hm E hl w hM
            exfalso; omega
          | succ n_69 ih_69 =>
            intro n1_69 v_69 M H locs ls hq hi hm E hl w hM
            rw [mf_dryness_69] at E
            have hc69 := IP.cp hq
            refine lv_iload_n hx hb dX4_dryness_69 rfl (lv_at hl 1 rfl) ?_
            refine lv_aload_n hx hb dX4_dryness_70 rfl (lv_at hl 0 rfl) ?_
            refine mx_get (v := .ref (pp 1)) X w in_X4 (ci := 3) rfl 0 (by decide) q2011 (fun _ h => h) hM.2.1 rfl dX4_dryness_71 ?_
            refine lv_bipush (v := (14 : Int32)) hx hb dX4_dryness_74 (by decide) ?_
            refine md_ald X w hM 1 (by decide) (by decide) 14 rfl (show 14 < 170 by decide) dX4_dryness_76 ?_
            refine mx_cast (z := nI (nC (v_69 1) 14)) (by rw [hc69]; exact hq.enp) ?_
            refine mx_nge (u := n1_69) (v := (nC (v_69 1) 14)) (tgt := 99) hx hb rfl rfl (by omega) (by omega) dX4_dryness_77 (by decide) (fun c_77 => ?_) (fun c_77 => ?_)
            · rw [if_pos c_77] at E
              refine lv_aload_n hx hb dX4_dryness_99 rfl (lv_at hl 0 rfl) ?_
              refine mx_get (v := .ref (pp 1)) X w in_X4 (ci := 3) rfl 0 (by decide) q2011 (fun _ h => h) hM.2.1 rfl dX4_dryness_100 ?_
              refine lv_bipush (v := (6 : Int32)) hx hb dX4_dryness_103 (by decide) ?_
              refine lv_dup2_11 hx hb dX4_dryness_105 rfl rfl ?_
              refine md_ald X w hM 1 (by decide) (by decide) 6 rfl (show 6 < 170 by decide) dX4_dryness_106 ?_
              refine lv_iconst (v := (1 : Int32)) hx hb dX4_dryness_107 (by decide) ?_
              refine lv_iadd hx hb dX4_dryness_108 ?_
              refine md_ast (x := ((v_69 1 6) + (1 : Int32))) X w hM 1 (by decide) (by decide) 6 rfl (show 6 < 170 by decide) dX4_dryness_109 (fun M H locs w hM => ?_)
              refine lv_aload_n hx hb dX4_dryness_110 rfl (lv_at hl 0 rfl) ?_
              refine lv_iconst (v := (4 : Int32)) hx hb dX4_dryness_111 (by decide) ?_
              refine lv_iconst (v := (-1 : Int32)) hx hb dX4_dryness_112 (by decide) ?_
              refine mx_bv w (va_runV (As := [.int (4 : Int32), .int (-1 : Int32)]) (rest := []) X (mt_event l G A pp M0 (u2 v_69 1 6 ((v_69 1 6) + (1 : Int32))) (4 : Int32) (-1 : Int32)  ) (cwV 2 X.2.2.2.2 (lw_V q2122 q2124 qs55 q113 q2125) rfl rfl rfl (by decide +kernel) ⟨by rw [hRf]; decide, by rw [hRl]; decide⟩) (mx_preV w hM hM.2.1 rfl) rfl rfl hl.1 rfl (lv_room (Nat.le_of_ble_eq_true rfl)) dX4_dryness_113 ⟨Nat.zero_le _, Nat.zero_le _⟩) (fun M H locs hM w => ?_)
              rw [mf_dryness_c113] at E
              obtain ⟨v_113, ev_113⟩ : ∃ y, y = (mf_event (u2 v_69 1 6 ((v_69 1 6) + (1 : Int32))) (4 : Int32) (-1 : Int32)) := ⟨_, rfl⟩
              rw [← ev_113] at E hM
              exact J116 v_113 M H locs ls E (lv_sub hl [0] rfl) w hM
            · rw [if_neg c_77] at E
              refine lv_aload_n hx hb dX4_dryness_80 rfl (lv_at hl 0 rfl) ?_
              refine lv_iload_n hx hb dX4_dryness_81 rfl (lv_at hl 1 rfl) ?_
              refine mx_bi w (va_runV (As := [.int (nI n1_69)]) (rest := []) X (mt_runs l G A pp M0 v_69 n1_69  (by first | omega | assumption)) (cwV 1 X.2.2.2.2 (lw_V q2110 q2112 qs52 q113 q2113) rfl rfl rfl (by decide +kernel) ⟨by rw [hRf]; decide, by rw [hRl]; decide⟩) (mx_preV w hM hM.2.1 rfl) rfl rfl hl.1 rfl (lv_room (Nat.le_of_ble_eq_true rfl)) dX4_dryness_82 ⟨Nat.zero_le _, Nat.zero_le _⟩) (fun r M H locs hp w => ?_)
              obtain ⟨rfl, hM⟩ := hp
              have J93 : ∀ (v_93 : (Nat → Nat → Int32)) (M : mh) (H : Heap) (locs : List Loc) (ls : Array Slot), (hq93 : IP T np nz ng (v_93 1)) → mf_dryness_93 v is0_34 (mf_dryness_69 v is0_34 n_69) n1_69 v_69 v_93 = z → lv_has ls 2 [(0, .ref (pp 0)), (1, .int (nI n1_69))] → mW G A s M H locs → Mdl G pp M0 M v_93 → W p l e R s m av below meth c H locs 0 0 Q (F0 m 93 ls []) := by
                intro v_93 M H locs ls hq93 E hl w hM
                rw [mf_dryness_93] at E
                refine lv_iinc (v := (nI (n1_69 + 1))) (lv' := [(1, .int (nI (n1_69 + 1))), (0, .ref (pp 0))]) hx hb dX4_dryness_93 hl (k := 1) rfl (nI_incr _ 1) (by decide) rfl (fun ls hl => ?_)
                refine lv_goto (tgt := 69) hx hb dX4_dryness_96 (by decide) ?_
                exact ih_69 (n1_69 + 1) v_93 M H locs ls (by first | omega | assumption | exact hq93) (by first | omega | assumption) (by first | omega | assumption) E (lv_sub hl [1, 0] rfl) w hM
              refine mx_beq (tgt := 93) hx hb dX4_dryness_85 (by decide) (fun c_85 => ?_) (fun c_85 => ?_)
              · rw [if_neg c_85] at E
                exact J93 v_69 M H locs ls (by first | exact hq9 | exact hq) E (lv_sub hl [0, 1] rfl) w hM
              · rw [if_pos c_85] at E
                refine lv_aload_n hx hb dX4_dryness_88 rfl (lv_at hl 0 rfl) ?_
                refine lv_iload_n hx hb dX4_dryness_89 rfl (lv_at hl 1 rfl) ?_
                refine mx_bv w (va_runV (As := [.int (nI n1_69)]) (rest := []) X (mt_stop l G A pp M0 v_69 n1_69 T np nz ng (by first | omega | assumption) (by first | omega | assumption)) (cwV 1 X.2.2.2.2 (lw_V q2114 q2116 qs53 q113 q2117) rfl rfl rfl (by decide +kernel) ⟨by rw [hRf]; decide, by rw [hRl]; decide⟩) (mx_preV w hM hM.2.1 rfl) rfl rfl hl.1 rfl (lv_room (Nat.le_of_ble_eq_true rfl)) dX4_dryness_90 ⟨Nat.zero_le _, Nat.zero_le _⟩) (fun M H locs hM w => ?_)
                rw [mf_dryness_c90] at E
                obtain ⟨v_90, ev_90⟩ : ∃ y, y = (mf_stop v_69 n1_69) := ⟨_, rfl⟩
                rw [← ev_90] at E hM
                have hq9 : IP T np nz ng (v_90 1) := by rw [ev_90]; exact IP_stop (by omega) hq
                exact J93 v_90 M H locs ls (by first | exact hq9 | exact hq) E (lv_sub hl [0, 1] rfl) w hM
        exact L69 7 0 (u2 (u2 v 1 7 is0_34) 1 5 (1 : Int32)) M H locs ls (by first | omega | assumption | exact IP.up (IP.up hI (okc_free hI.b (by omega))) (okc_5 hI.b (rg_1 (by decide)))) (by first | omega | assumption) (by first | omega | assumption) E (lv_sub hl [1, 0] rfl) w hM
  refine lv_icmp_ge (tgt := 33) hx hb dX4_dryness_18 (by decide) (fun c_18 => ?_) (fun c_18 => ?_)
  · rw [if_pos c_18] at E
    refine lv_iconst (v := (0 : Int32)) hx hb dX4_dryness_33 (by decide) ?_
    exact J34 (0 : Int32) M H locs ls E (lv_sub hl [0] rfl) w hM
  · rw [if_neg c_18] at E
    refine lv_aload_n hx hb dX4_dryness_21 rfl (lv_at hl 0 rfl) ?_
    refine mx_get (v := .ref (pp 1)) X w in_X4 (ci := 3) rfl 0 (by decide) q2011 (fun _ h => h) hM.2.1 rfl dX4_dryness_22 ?_
    refine lv_bipush (v := (7 : Int32)) hx hb dX4_dryness_25 (by decide) ?_
    refine md_ald X w hM 1 (by decide) (by decide) 7 rfl (show 7 < 170 by decide) dX4_dryness_27 ?_
    refine lv_iconst (v := (1 : Int32)) hx hb dX4_dryness_28 (by decide) ?_
    refine lv_iadd hx hb dX4_dryness_29 ?_
    refine lv_goto (tgt := 34) hx hb dX4_dryness_30 (by decide) ?_
    exact J34 ((v 1 7) + (1 : Int32)) M H locs ls E (lv_sub hl [0] rfl) w hM
def mf_speedOfVariable (v : (Nat → Nat → Int32)) : Int32 := (mf_of v (tN (v 1 4)) 4)
set_option maxHeartbeats 4000000 in
set_option maxRecDepth 100000 in
theorem mt_speedOfVariable (l : Launch) (G : mg) (A : Nat → Prop) (pp : Nat → Nat) (M0 : mh) (v : Nat → Nat → Int32)  (hj1 : v 1 4 = nI (tN (v 1 4))) (hj2 : tN (v 1 4) < 6) : Met l yX4_speedOfVariable (ws_ yX4_speedOfVariable cX4_speedOfVariable 1 (some .int)) ({ frames := 1, cells := 0, slots := 0, locals := 22 }) (va_Pc [.ref (pp 0)] (mU G A (fun M => Mdl G pp M0 M v))) (mQi G A (fun r M => r = mf_speedOfVariable v ∧ Mdl G pp M0 M v)) 0 0 A := by
  refine mx_ofi (by decide) (Nat.le_of_ble_eq_true rfl) ?_
  intro p e R s m av below meth c M H Q ls X hRf hRl hRc hRs hin hM w fin hl
  have X : CallFix p m c cX4_speedOfVariable 1 s av lw_all "FieldPumpsModel" := X
  have hx := X.1
  have hb := X.2.1
  have hl : lv_has ls 1 [(0, .ref (pp 0))] := hl
  have hRf : R.frames = 1 := hRf
  have hRl : R.locals = 22 := hRl
  generalize ([] : List Loc) = locs at w ⊢
  generalize E : mf_speedOfVariable v = z at fin
  rw [mf_speedOfVariable] at E
  refine lv_aload_n hx hb dX4_speedOfVariable_0 rfl (lv_at hl 0 rfl) ?_
  refine lv_aload_n hx hb dX4_speedOfVariable_1 rfl (lv_at hl 0 rfl) ?_
  refine mx_get (v := .ref (pp 1)) X w in_X4 (ci := 3) rfl 0 (by decide) q2011 (fun _ h => h) hM.2.1 rfl dX4_speedOfVariable_2 ?_
  refine lv_iconst (v := (4 : Int32)) hx hb dX4_speedOfVariable_5 (by decide) ?_
  refine md_ald X w hM 1 (by decide) (by decide) 4 rfl (show 4 < 170 by decide) dX4_speedOfVariable_6 ?_
  refine mx_cast (z := nI (tN (v 1 4))) (hj1) ?_
  refine lv_iconst (v := (4 : Int32)) hx hb dX4_speedOfVariable_7 (by decide) ?_
  refine mx_bi w (va_runV (As := [.int (nI (tN (v 1 4))), .int (nI 4)]) (rest := []) X (mt_of l G A pp M0 v (tN (v 1 4)) 4  (by first | omega | assumption) (by first | omega | assumption)) (cwV 2 X.2.2.2.2 (lw_V q2101 q2103 qs50 q113 q2104) rfl rfl rfl (by decide +kernel) ⟨by rw [hRf]; decide, by rw [hRl]; decide⟩) (mx_preV w hM hM.2.1 rfl) rfl rfl hl.1 rfl (lv_room (Nat.le_of_ble_eq_true rfl)) dX4_speedOfVariable_8 ⟨Nat.zero_le _, Nat.zero_le _⟩) (fun r M H locs hp w => ?_)
  obtain ⟨rfl, hM⟩ := hp
  exact fin (mf_of v (tN (v 1 4)) 4) M H locs ls 11 dX4_speedOfVariable_11 ⟨E, hM⟩ w
def mf_regulate_73 (v : (Nat → Nat → Int32)) (v_73 : (Nat → Nat → Int32)) : (Nat → Nat → Int32) := v_73
def mf_regulate_c70 (v : (Nat → Nat → Int32)) (v_70 : (Nat → Nat → Int32)) : (Nat → Nat → Int32) := (mf_regulate_73 v v_70)
def mf_regulate (v : (Nat → Nat → Int32)) : (Nat → Nat → Int32) := (if (v 1 4) = (-1 : Int32) then (mf_regulate_73 v v) else (mf_regulate_c70 v (mf_put v (tN (v 1 4)) 4 (mf_within ((mf_of v (tN (v 1 4)) 4) + (mf_within ((((mf_setting v 0) - (v 1 1)) * (mf_setting v 2)) / (100 : Int32)) (-(mf_setting v 3)) (mf_setting v 3))) (mf_setting v 4) (1000 : Int32)))))
set_option maxHeartbeats 4000000 in
set_option maxRecDepth 100000 in
theorem mt_regulate (l : Launch) (G : mg) (A : Nat → Prop) (pp : Nat → Nat) (M0 : mh) (v : Nat → Nat → Int32)  (T np nz ng : Nat) (hI : IP T np nz ng (v 1)) : Met l yX4_regulate (ws_ yX4_regulate cX4_regulate 3 (none)) ({ frames := 1, cells := 0, slots := 0, locals := 23 }) (va_Pc [.ref (pp 0)] (mU G A (fun M => Mdl G pp M0 M v))) (mQv G A (fun M => Mdl G pp M0 M (mf_regulate v))) 0 0 A := by
  refine mx_ofv (by decide) (Nat.le_of_ble_eq_true rfl) ?_
  intro p e R s m av below meth c M H Q ls X hRf hRl hRc hRs hin hM w fin hl
  have X : CallFix p m c cX4_regulate 3 s av lw_all "FieldPumpsModel" := X
  have hx := X.1
  have hb := X.2.1
  have hl : lv_has ls 3 [(0, .ref (pp 0))] := hl
  have hRf : R.frames = 1 := hRf
  have hRl : R.locals = 23 := hRl
  generalize ([] : List Loc) = locs at w ⊢
  generalize E : mf_regulate v = z at fin
  rw [mf_regulate] at E
  have hb6 := hI.b
  have hcp := hI.cp
  have hcz := hI.cz
  have hcg := hI.cg
  refine lv_aload_n hx hb dX4_regulate_0 rfl (lv_at hl 0 rfl) ?_
  refine mx_get (v := .ref (pp 1)) X w in_X4 (ci := 3) rfl 0 (by decide) q2011 (fun _ h => h) hM.2.1 rfl dX4_regulate_1 ?_
  refine lv_iconst (v := (4 : Int32)) hx hb dX4_regulate_4 (by decide) ?_
  refine md_ald X w hM 1 (by decide) (by decide) 4 rfl (show 4 < 170 by decide) dX4_regulate_5 ?_
  refine lv_istore_n (lv' := [(1, .int (v 1 4)), (0, .ref (pp 0))]) hx hb dX4_regulate_6 rfl hl (by decide) rfl (fun ls hl => ?_)
  refine lv_iload_n hx hb dX4_regulate_7 rfl (lv_at hl 0 rfl) ?_
  refine lv_iconst (v := (-1 : Int32)) hx hb dX4_regulate_8 (by decide) ?_
  have J73 : ∀ (v_73 : (Nat → Nat → Int32)) (M : mh) (H : Heap) (locs : List Loc) (ls : Array Slot), mf_regulate_73 v v_73 = z → lv_has ls 3 [] → mW G A s M H locs → Mdl G pp M0 M v_73 → W p l e R s m av below meth c H locs 0 0 Q (F0 m 73 ls []) := by
    intro v_73 M H locs ls  E hl w hM
    rw [mf_regulate_73] at E
    exact fin M H locs ls 73 dX4_regulate_73 (by rw [← E]; exact hM) w
  refine lv_icmp_eq (tgt := 73) hx hb dX4_regulate_9 (by decide) (fun c_9 => ?_) (fun c_9 => ?_)
  · rw [if_pos c_9] at E
    exact J73 v M H locs ls E (lv_sub hl [] rfl) w hM
  · rw [if_neg c_9] at E
    obtain ⟨hj1, hj2⟩ := isP_n hI.var c_9 hI.n6
    refine lv_aload_n hx hb dX4_regulate_12 rfl (lv_at hl 1 rfl) ?_
    refine lv_iconst (v := (0 : Int32)) hx hb dX4_regulate_13 (by decide) ?_
    refine mx_bi w (va_runV (As := [.int (nI 0)]) (rest := []) X (mt_setting l G A pp M0 v 0  (by first | omega | assumption)) (cwV 1 X.2.2.2.2 (lw_V q2078 q2080 qs47 q113 q2081) rfl rfl rfl (by decide +kernel) ⟨by rw [hRf]; decide, by rw [hRl]; decide⟩) (mx_preV w hM hM.2.1 rfl) rfl rfl hl.1 rfl (lv_room (Nat.le_of_ble_eq_true rfl)) dX4_regulate_14 ⟨Nat.zero_le _, Nat.zero_le _⟩) (fun r M H locs hp w => ?_)
    obtain ⟨rfl, hM⟩ := hp
    refine lv_aload_n hx hb dX4_regulate_17 rfl (lv_at hl 1 rfl) ?_
    refine mx_get (v := .ref (pp 1)) X w in_X4 (ci := 3) rfl 0 (by decide) q2011 (fun _ h => h) hM.2.1 rfl dX4_regulate_18 ?_
    refine lv_iconst (v := (1 : Int32)) hx hb dX4_regulate_21 (by decide) ?_
    refine md_ald X w hM 1 (by decide) (by decide) 1 rfl (show 1 < 170 by decide) dX4_regulate_22 ?_
    refine lv_isub hx hb dX4_regulate_23 ?_
    refine lv_aload_n hx hb dX4_regulate_24 rfl (lv_at hl 1 rfl) ?_
    refine lv_iconst (v := (2 : Int32)) hx hb dX4_regulate_25 (by decide) ?_
    refine mx_bi w (va_runV (As := [.int (nI 2)]) (rest := [.int ((mf_setting v 0) - (v 1 1))]) X (mt_setting l G A pp M0 v 2  (by first | omega | assumption)) (cwV 1 X.2.2.2.2 (lw_V q2078 q2080 qs47 q113 q2081) rfl rfl rfl (by decide +kernel) ⟨by rw [hRf]; decide, by rw [hRl]; decide⟩) (mx_preV w hM hM.2.1 rfl) rfl rfl hl.1 rfl (lv_room (Nat.le_of_ble_eq_true rfl)) dX4_regulate_26 ⟨Nat.zero_le _, Nat.zero_le _⟩) (fun r M H locs hp w => ?_)
    obtain ⟨rfl, hM⟩ := hp
    refine lv_imul hx hb dX4_regulate_29 ?_
    refine lv_bipush (v := (100 : Int32)) hx hb dX4_regulate_30 (by decide) ?_
    refine lv_idiv hx hb dX4_regulate_32 (by decide) ?_
    refine lv_aload_n hx hb dX4_regulate_33 rfl (lv_at hl 1 rfl) ?_
    refine lv_iconst (v := (3 : Int32)) hx hb dX4_regulate_34 (by decide) ?_
    refine mx_bi w (va_runV (As := [.int (nI 3)]) (rest := [.int ((((mf_setting v 0) - (v 1 1)) * (mf_setting v 2)) / (100 : Int32))]) X (mt_setting l G A pp M0 v 3  (by first | omega | assumption)) (cwV 1 X.2.2.2.2 (lw_V q2078 q2080 qs47 q113 q2081) rfl rfl rfl (by decide +kernel) ⟨by rw [hRf]; decide, by rw [hRl]; decide⟩) (mx_preV w hM hM.2.1 rfl) rfl rfl hl.1 rfl (lv_room (Nat.le_of_ble_eq_true rfl)) dX4_regulate_35 ⟨Nat.zero_le _, Nat.zero_le _⟩) (fun r M H locs hp w => ?_)
    obtain ⟨rfl, hM⟩ := hp
    refine lv_ineg hx hb dX4_regulate_38 ?_
    refine lv_aload_n hx hb dX4_regulate_39 rfl (lv_at hl 1 rfl) ?_
    refine lv_iconst (v := (3 : Int32)) hx hb dX4_regulate_40 (by decide) ?_
    refine mx_bi w (va_runV (As := [.int (nI 3)]) (rest := [.int (-(mf_setting v 3)), .int ((((mf_setting v 0) - (v 1 1)) * (mf_setting v 2)) / (100 : Int32))]) X (mt_setting l G A pp M0 v 3  (by first | omega | assumption)) (cwV 1 X.2.2.2.2 (lw_V q2078 q2080 qs47 q113 q2081) rfl rfl rfl (by decide +kernel) ⟨by rw [hRf]; decide, by rw [hRl]; decide⟩) (mx_preV w hM hM.2.1 rfl) rfl rfl hl.1 rfl (lv_room (Nat.le_of_ble_eq_true rfl)) dX4_regulate_41 ⟨Nat.zero_le _, Nat.zero_le _⟩) (fun r M H locs hp w => ?_)
    obtain ⟨rfl, hM⟩ := hp
    refine mx_bi w (va_runS (As := [.int ((((mf_setting v 0) - (v 1 1)) * (mf_setting v 2)) / (100 : Int32)), .int (-(mf_setting v 3)), .int (mf_setting v 3)]) (rest := []) X (mt_within l G A M ((((mf_setting v 0) - (v 1 1)) * (mf_setting v 2)) / (100 : Int32)) (-(mf_setting v 3)) (mf_setting v 3)  ) (va_cwS 3 X.2.2.2.2 (lw_S q2247 q2248 q113 q2249) rfl rfl rfl (by decide +kernel) ⟨by rw [hRf]; decide, by rw [hRl]; decide⟩) (mx_preS w rfl) rfl rfl hl.1 rfl (lv_room (Nat.le_of_ble_eq_true rfl)) dX4_regulate_44 ⟨Nat.zero_le _, Nat.zero_le _⟩) (fun r M H locs hp w => ?_)
    obtain ⟨rfl, hp2⟩ := hp; rw [← hp2] at hM; clear hp2
    refine lv_istore_n (lv' := [(2, .int (mf_within ((((mf_setting v 0) - (v 1 1)) * (mf_setting v 2)) / (100 : Int32)) (-(mf_setting v 3)) (mf_setting v 3))), (1, .int (v 1 4)), (0, .ref (pp 0))]) hx hb dX4_regulate_47 rfl hl (by decide) rfl (fun ls hl => ?_)
    refine lv_aload_n hx hb dX4_regulate_48 rfl (lv_at hl 2 rfl) ?_
    refine lv_iload_n hx hb dX4_regulate_49 rfl (lv_at hl 1 rfl) ?_
    refine mx_cast (z := nI (tN (v 1 4))) (hj1) ?_
    refine lv_iconst (v := (4 : Int32)) hx hb dX4_regulate_50 (by decide) ?_
    refine lv_aload_n hx hb dX4_regulate_51 rfl (lv_at hl 2 rfl) ?_
    refine lv_iload_n hx hb dX4_regulate_52 rfl (lv_at hl 1 rfl) ?_
    refine mx_cast (z := nI (tN (v 1 4))) (hj1) ?_
    refine lv_iconst (v := (4 : Int32)) hx hb dX4_regulate_53 (by decide) ?_
    refine mx_bi w (va_runV (As := [.int (nI (tN (v 1 4))), .int (nI 4)]) (rest := [.int (4 : Int32), .int (nI (tN (v 1 4))), .ref (pp 0)]) X (mt_of l G A pp M0 v (tN (v 1 4)) 4  (by first | omega | assumption) (by first | omega | assumption)) (cwV 2 X.2.2.2.2 (lw_V q2101 q2103 qs50 q113 q2104) rfl rfl rfl (by decide +kernel) ⟨by rw [hRf]; decide, by rw [hRl]; decide⟩) (mx_preV w hM hM.2.1 rfl) rfl rfl hl.1 rfl (lv_room (Nat.le_of_ble_eq_true rfl)) dX4_regulate_54 ⟨Nat.zero_le _, Nat.zero_le _⟩) (fun r M H locs hp w => ?_)
    obtain ⟨rfl, hM⟩ := hp
    refine lv_iload_n hx hb dX4_regulate_57 rfl (lv_at hl 0 rfl) ?_
    refine lv_iadd hx hb dX4_regulate_58 ?_
    refine lv_aload_n hx hb dX4_regulate_59 rfl (lv_at hl 2 rfl) ?_
    refine lv_iconst (v := (4 : Int32)) hx hb dX4_regulate_60 (by decide) ?_
    refine mx_bi w (va_runV (As := [.int (nI 4)]) (rest := [.int ((mf_of v (tN (v 1 4)) 4) + (mf_within ((((mf_setting v 0) - (v 1 1)) * (mf_setting v 2)) / (100 : Int32)) (-(mf_setting v 3)) (mf_setting v 3))), .int (4 : Int32), .int (nI (tN (v 1 4))), .ref (pp 0)]) X (mt_setting l G A pp M0 v 4  (by first | omega | assumption)) (cwV 1 X.2.2.2.2 (lw_V q2078 q2080 qs47 q113 q2081) rfl rfl rfl (by decide +kernel) ⟨by rw [hRf]; decide, by rw [hRl]; decide⟩) (mx_preV w hM hM.2.1 rfl) rfl rfl hl.1 rfl (lv_room (Nat.le_of_ble_eq_true rfl)) dX4_regulate_61 ⟨Nat.zero_le _, Nat.zero_le _⟩) (fun r M H locs hp w => ?_)
    obtain ⟨rfl, hM⟩ := hp
    refine lv_sipush (v := (1000 : Int32)) hx hb dX4_regulate_64 (by decide) ?_
    refine mx_bi w (va_runS (As := [.int ((mf_of v (tN (v 1 4)) 4) + (mf_within ((((mf_setting v 0) - (v 1 1)) * (mf_setting v 2)) / (100 : Int32)) (-(mf_setting v 3)) (mf_setting v 3))), .int (mf_setting v 4), .int (1000 : Int32)]) (rest := [.int (4 : Int32), .int (nI (tN (v 1 4))), .ref (pp 0)]) X (mt_within l G A M ((mf_of v (tN (v 1 4)) 4) + (mf_within ((((mf_setting v 0) - (v 1 1)) * (mf_setting v 2)) / (100 : Int32)) (-(mf_setting v 3)) (mf_setting v 3))) (mf_setting v 4) (1000 : Int32)  ) (va_cwS 3 X.2.2.2.2 (lw_S q2247 q2248 q113 q2249) rfl rfl rfl (by decide +kernel) ⟨by rw [hRf]; decide, by rw [hRl]; decide⟩) (mx_preS w rfl) rfl rfl hl.1 rfl (lv_room (Nat.le_of_ble_eq_true rfl)) dX4_regulate_67 ⟨Nat.zero_le _, Nat.zero_le _⟩) (fun r M H locs hp w => ?_)
    obtain ⟨rfl, hp2⟩ := hp; rw [← hp2] at hM; clear hp2
    refine mx_bv w (va_runV (As := [.int (nI (tN (v 1 4))), .int (nI 4), .int (mf_within ((mf_of v (tN (v 1 4)) 4) + (mf_within ((((mf_setting v 0) - (v 1 1)) * (mf_setting v 2)) / (100 : Int32)) (-(mf_setting v 3)) (mf_setting v 3))) (mf_setting v 4) (1000 : Int32))]) (rest := []) X (mt_put l G A pp M0 v (tN (v 1 4)) 4 (mf_within ((mf_of v (tN (v 1 4)) 4) + (mf_within ((((mf_setting v 0) - (v 1 1)) * (mf_setting v 2)) / (100 : Int32)) (-(mf_setting v 3)) (mf_setting v 3))) (mf_setting v 4) (1000 : Int32))  (by first | omega | assumption) (by first | omega | assumption)) (cwV 3 X.2.2.2.2 (lw_V q2089 q2091 qs48 q113 q2092) rfl rfl rfl (by decide +kernel) ⟨by rw [hRf]; decide, by rw [hRl]; decide⟩) (mx_preV w hM hM.2.1 rfl) rfl rfl hl.1 rfl (lv_room (Nat.le_of_ble_eq_true rfl)) dX4_regulate_70 ⟨Nat.zero_le _, Nat.zero_le _⟩) (fun M H locs hM w => ?_)
    rw [mf_regulate_c70] at E
    obtain ⟨v_70, ev_70⟩ : ∃ y, y = (mf_put v (tN (v 1 4)) 4 (mf_within ((mf_of v (tN (v 1 4)) 4) + (mf_within ((((mf_setting v 0) - (v 1 1)) * (mf_setting v 2)) / (100 : Int32)) (-(mf_setting v 3)) (mf_setting v 3))) (mf_setting v 4) (1000 : Int32))) := ⟨_, rfl⟩
    rw [← ev_70] at E hM
    exact J73 v_70 M H locs ls E (lv_sub hl [] rfl) w hM
def mf_counts_21 (v : (Nat → Nat → Int32)) (what : Nat) (goes : Bool) (is0_21 : Int32) : (Nat → Nat → Int32) := (u2 v 1 what is0_21)
def mf_counts (v : (Nat → Nat → Int32)) (what : Nat) (goes : Bool) : (Nat → Nat → Int32) := (if goes = true then (mf_counts_21 v what goes ((v 1 what) + (1 : Int32))) else (mf_counts_21 v what goes (0 : Int32)))
set_option maxHeartbeats 4000000 in
set_option maxRecDepth 100000 in
theorem mt_counts (l : Launch) (G : mg) (A : Nat → Prop) (pp : Nat → Nat) (M0 : mh) (v : Nat → Nat → Int32) (what : Nat) (goes : Bool) (hw : what < 13) : Met l yX4_counts (ws_ yX4_counts cX4_counts 3 (none)) ({ frames := 0, cells := 0, slots := 0, locals := 0 }) (va_Pc [.ref (pp 0), .int (nI what), .int (bI goes)] (mU G A (fun M => Mdl G pp M0 M v))) (mQv G A (fun M => Mdl G pp M0 M (mf_counts v what goes))) 0 0 A := by
  refine mx_ofv (by decide) (Nat.le_of_ble_eq_true rfl) ?_
  intro p e R s m av below meth c M H Q ls X hRf hRl hRc hRs hin hM w fin hl
  have X : CallFix p m c cX4_counts 3 s av lw_all "FieldPumpsModel" := X
  have hx := X.1
  have hb := X.2.1
  have hl : lv_has ls 3 [(0, .ref (pp 0)), (1, .int (nI what)), (2, .int (bI goes))] := hl
  have hRf : R.frames = 0 := hRf
  have hRl : R.locals = 0 := hRl
  generalize ([] : List Loc) = locs at w ⊢
  generalize E : mf_counts v what goes = z at fin
  rw [mf_counts] at E
  refine lv_aload_n hx hb dX4_counts_0 rfl (lv_at hl 0 rfl) ?_
  refine mx_get (v := .ref (pp 1)) X w in_X4 (ci := 3) rfl 0 (by decide) q2011 (fun _ h => h) hM.2.1 rfl dX4_counts_1 ?_
  refine lv_iload_n hx hb dX4_counts_4 rfl (lv_at hl 1 rfl) ?_
  refine lv_iload_n hx hb dX4_counts_5 rfl (lv_at hl 2 rfl) ?_
  have J21 : ∀ (is0_21 : Int32) (M : mh) (H : Heap) (locs : List Loc) (ls : Array Slot), mf_counts_21 v what goes is0_21 = z → lv_has ls 3 [] → mW G A s M H locs → Mdl G pp M0 M v → W p l e R s m av below meth c H locs 0 0 Q (F0 m 21 ls [.int is0_21, .int (nI what), .ref (pp 1)]) := by
    intro is0_21 M H locs ls  E hl w hM
    rw [mf_counts_21] at E
    refine md_ast (x := is0_21) X w hM 1 (by decide) (by decide) what rfl (show what < 170 by omega) dX4_counts_21 (fun M H locs w hM => ?_)
    exact fin M H locs ls 22 dX4_counts_22 (by rw [← E]; exact hM) w
  refine mx_beq (tgt := 20) hx hb dX4_counts_6 (by decide) (fun c_6 => ?_) (fun c_6 => ?_)
  · rw [if_neg c_6] at E
    refine lv_iconst (v := (0 : Int32)) hx hb dX4_counts_20 (by decide) ?_
    exact J21 (0 : Int32) M H locs ls E (lv_sub hl [] rfl) w hM
  · rw [if_pos c_6] at E
    refine lv_aload_n hx hb dX4_counts_9 rfl (lv_at hl 0 rfl) ?_
    refine mx_get (v := .ref (pp 1)) X w in_X4 (ci := 3) rfl 0 (by decide) q2011 (fun _ h => h) hM.2.1 rfl dX4_counts_10 ?_
    refine lv_iload_n hx hb dX4_counts_13 rfl (lv_at hl 1 rfl) ?_
    refine md_ald X w hM 1 (by decide) (by decide) what rfl (show what < 170 by omega) dX4_counts_14 ?_
    refine lv_iconst (v := (1 : Int32)) hx hb dX4_counts_15 (by decide) ?_
    refine lv_iadd hx hb dX4_counts_16 ?_
    refine lv_goto (tgt := 21) hx hb dX4_counts_17 (by decide) ?_
    exact J21 ((v 1 what) + (1 : Int32)) M H locs ls E (lv_sub hl [] rfl) w hM
def mf_countAll_c202 (v : (Nat → Nat → Int32)) (bs0_12 : Bool) (bs0_38 : Bool) (bs0_66 : Bool) (bs0_90 : Bool) (bs0_128 : Bool) (v_128 : (Nat → Nat → Int32)) (bs0_167 : Bool) (v_167 : (Nat → Nat → Int32)) (bs0_202 : Bool) (v_202 : (Nat → Nat → Int32)) : (Nat → Nat → Int32) := v_202
def mf_countAll_202 (v : (Nat → Nat → Int32)) (bs0_12 : Bool) (bs0_38 : Bool) (bs0_66 : Bool) (bs0_90 : Bool) (bs0_128 : Bool) (v_128 : (Nat → Nat → Int32)) (bs0_167 : Bool) (v_167 : (Nat → Nat → Int32)) (bs0_202 : Bool) : (Nat → Nat → Int32) := (mf_countAll_c202 v bs0_12 bs0_38 bs0_66 bs0_90 bs0_128 v_128 bs0_167 v_167 bs0_202 (mf_counts v_167 12 bs0_202))
def mf_countAll_201 (v : (Nat → Nat → Int32)) (bs0_12 : Bool) (bs0_38 : Bool) (bs0_66 : Bool) (bs0_90 : Bool) (bs0_128 : Bool) (v_128 : (Nat → Nat → Int32)) (bs0_167 : Bool) (v_167 : (Nat → Nat → Int32))  : (Nat → Nat → Int32) := (mf_countAll_202 v bs0_12 bs0_38 bs0_66 bs0_90 bs0_128 v_128 bs0_167 v_167 false)
def mf_countAll_c167 (v : (Nat → Nat → Int32)) (bs0_12 : Bool) (bs0_38 : Bool) (bs0_66 : Bool) (bs0_90 : Bool) (bs0_128 : Bool) (v_128 : (Nat → Nat → Int32)) (bs0_167 : Bool) (v_167 : (Nat → Nat → Int32)) : (Nat → Nat → Int32) := (if bs0_90 = true then (if bs0_66 = true then (if (mf_setting v_167 7) ≤ (v_167 1 3) then (mf_countAll_201 v bs0_12 bs0_38 bs0_66 bs0_90 bs0_128 v_128 bs0_167 v_167 ) else (mf_countAll_202 v bs0_12 bs0_38 bs0_66 bs0_90 bs0_128 v_128 bs0_167 v_167 true)) else (mf_countAll_201 v bs0_12 bs0_38 bs0_66 bs0_90 bs0_128 v_128 bs0_167 v_167 )) else (mf_countAll_201 v bs0_12 bs0_38 bs0_66 bs0_90 bs0_128 v_128 bs0_167 v_167 ))
def mf_countAll_167 (v : (Nat → Nat → Int32)) (bs0_12 : Bool) (bs0_38 : Bool) (bs0_66 : Bool) (bs0_90 : Bool) (bs0_128 : Bool) (v_128 : (Nat → Nat → Int32)) (bs0_167 : Bool) : (Nat → Nat → Int32) := (mf_countAll_c167 v bs0_12 bs0_38 bs0_66 bs0_90 bs0_128 v_128 bs0_167 (mf_counts v_128 11 bs0_167))
def mf_countAll_166 (v : (Nat → Nat → Int32)) (bs0_12 : Bool) (bs0_38 : Bool) (bs0_66 : Bool) (bs0_90 : Bool) (bs0_128 : Bool) (v_128 : (Nat → Nat → Int32))  : (Nat → Nat → Int32) := (mf_countAll_167 v bs0_12 bs0_38 bs0_66 bs0_90 bs0_128 v_128 false)
def mf_countAll_c128 (v : (Nat → Nat → Int32)) (bs0_12 : Bool) (bs0_38 : Bool) (bs0_66 : Bool) (bs0_90 : Bool) (bs0_128 : Bool) (v_128 : (Nat → Nat → Int32)) : (Nat → Nat → Int32) := (if bs0_12 = true then (if bs0_66 = true then (if (v_128 1 1) ≤ ((mf_setting v_128 0) + (mf_setting v_128 1)) then (mf_countAll_166 v bs0_12 bs0_38 bs0_66 bs0_90 bs0_128 v_128 ) else (mf_countAll_167 v bs0_12 bs0_38 bs0_66 bs0_90 bs0_128 v_128 true)) else (mf_countAll_166 v bs0_12 bs0_38 bs0_66 bs0_90 bs0_128 v_128 )) else (mf_countAll_166 v bs0_12 bs0_38 bs0_66 bs0_90 bs0_128 v_128 ))
def mf_countAll_128 (v : (Nat → Nat → Int32)) (bs0_12 : Bool) (bs0_38 : Bool) (bs0_66 : Bool) (bs0_90 : Bool) (bs0_128 : Bool) : (Nat → Nat → Int32) := (mf_countAll_c128 v bs0_12 bs0_38 bs0_66 bs0_90 bs0_128 (mf_counts v 10 bs0_128))
def mf_countAll_127 (v : (Nat → Nat → Int32)) (bs0_12 : Bool) (bs0_38 : Bool) (bs0_66 : Bool) (bs0_90 : Bool)  : (Nat → Nat → Int32) := (mf_countAll_128 v bs0_12 bs0_38 bs0_66 bs0_90 false)
def mf_countAll_90 (v : (Nat → Nat → Int32)) (bs0_12 : Bool) (bs0_38 : Bool) (bs0_66 : Bool) (bs0_90 : Bool) : (Nat → Nat → Int32) := (if bs0_12 = true then (if bs0_38 = true then (if ((mf_setting v 0) - (mf_setting v 1)) ≤ (v 1 1) then (mf_countAll_127 v bs0_12 bs0_38 bs0_66 bs0_90 ) else (mf_countAll_128 v bs0_12 bs0_38 bs0_66 bs0_90 true)) else (mf_countAll_127 v bs0_12 bs0_38 bs0_66 bs0_90 )) else (mf_countAll_127 v bs0_12 bs0_38 bs0_66 bs0_90 ))
def mf_countAll_89 (v : (Nat → Nat → Int32)) (bs0_12 : Bool) (bs0_38 : Bool) (bs0_66 : Bool)  : (Nat → Nat → Int32) := (mf_countAll_90 v bs0_12 bs0_38 bs0_66 false)
def mf_countAll_66 (v : (Nat → Nat → Int32)) (bs0_12 : Bool) (bs0_38 : Bool) (bs0_66 : Bool) : (Nat → Nat → Int32) := (if (mf_running v ) = (1 : Int32) then (if (v 1 4) = (-1 : Int32) then (mf_countAll_89 v bs0_12 bs0_38 bs0_66 ) else (mf_countAll_90 v bs0_12 bs0_38 bs0_66 true)) else (mf_countAll_89 v bs0_12 bs0_38 bs0_66 ))
def mf_countAll_61 (v : (Nat → Nat → Int32)) (bs0_12 : Bool) (bs0_38 : Bool)  : (Nat → Nat → Int32) := (mf_countAll_66 v bs0_12 bs0_38 true)
def mf_countAll_38 (v : (Nat → Nat → Int32)) (bs0_12 : Bool) (bs0_38 : Bool) : (Nat → Nat → Int32) := (if (v 1 4) = (-1 : Int32) then (mf_countAll_61 v bs0_12 bs0_38 ) else (if (mf_speedOfVariable v ) = (mf_setting v 4) then (mf_countAll_61 v bs0_12 bs0_38 ) else (mf_countAll_66 v bs0_12 bs0_38 false)))
def mf_countAll_33 (v : (Nat → Nat → Int32)) (bs0_12 : Bool)  : (Nat → Nat → Int32) := (mf_countAll_38 v bs0_12 true)
def mf_countAll_12 (v : (Nat → Nat → Int32)) (bs0_12 : Bool) : (Nat → Nat → Int32) := (if (v 1 4) = (-1 : Int32) then (mf_countAll_33 v bs0_12 ) else (if (mf_speedOfVariable v ) = (1000 : Int32) then (mf_countAll_33 v bs0_12 ) else (mf_countAll_38 v bs0_12 false)))
def mf_countAll (v : (Nat → Nat → Int32)) : (Nat → Nat → Int32) := (if (mf_running v ) ≤ 0 then (mf_countAll_12 v false) else (mf_countAll_12 v true))
set_option maxHeartbeats 4000000 in
set_option maxRecDepth 100000 in
theorem mt_countAll (l : Launch) (G : mg) (A : Nat → Prop) (pp : Nat → Nat) (M0 : mh) (v : Nat → Nat → Int32)  (T np nz ng : Nat) (hI : IP T np nz ng (v 1)) : Met l yX4_countAll (ws_ yX4_countAll cX4_countAll 5 (none)) ({ frames := 3, cells := 0, slots := 0, locals := 65 }) (va_Pc [.ref (pp 0)] (mU G A (fun M => Mdl G pp M0 M v))) (mQv G A (fun M => Mdl G pp M0 M (mf_countAll v))) 0 0 A := by
  refine mx_ofv (by decide) (Nat.le_of_ble_eq_true rfl) ?_
  intro p e R s m av below meth c M H Q ls X hRf hRl hRc hRs hin hM w fin hl
  have X : CallFix p m c cX4_countAll 5 s av lw_all "FieldPumpsModel" := X
  have hx := X.1
  have hb := X.2.1
  have hl : lv_has ls 5 [(0, .ref (pp 0))] := hl
  have hRf : R.frames = 3 := hRf
  have hRl : R.locals = 65 := hRl
  generalize ([] : List Loc) = locs at w ⊢
  generalize E : mf_countAll v = z at fin
  rw [mf_countAll] at E
  have hb6 := hI.b
  have hcp := hI.cp
  have hcz := hI.cz
  have hcg := hI.cg
  refine lv_aload_n hx hb dX4_countAll_0 rfl (lv_at hl 0 rfl) ?_
  refine mx_bi w (va_runV (As := []) (rest := []) X (mt_running l G A pp M0 v  np (hI.enp) (hI.n6)) (cwV 0 X.2.2.2.2 (lw_V q2159 q2161 qs60 q113 q2162) rfl rfl rfl (by decide +kernel) ⟨by rw [hRf]; decide, by rw [hRl]; decide⟩) (mx_preV w hM hM.2.1 rfl) rfl rfl hl.1 rfl (lv_room (Nat.le_of_ble_eq_true rfl)) dX4_countAll_1 ⟨Nat.zero_le _, Nat.zero_le _⟩) (fun r M H locs hp w => ?_)
  obtain ⟨rfl, hM⟩ := hp
  have J12 : ∀ (bs0_12 : Bool) (M : mh) (H : Heap) (locs : List Loc) (ls : Array Slot), mf_countAll_12 v bs0_12 = z → lv_has ls 5 [(0, .ref (pp 0))] → mW G A s M H locs → Mdl G pp M0 M v → W p l e R s m av below meth c H locs 0 0 Q (F0 m 12 ls [.int (bI bs0_12)]) := by
    intro bs0_12 M H locs ls  E hl w hM
    rw [mf_countAll_12] at E
    refine lv_istore_n (lv' := [(1, .int (bI bs0_12)), (0, .ref (pp 0))]) hx hb dX4_countAll_12 rfl hl (by decide) rfl (fun ls hl => ?_)
    refine lv_aload_n hx hb dX4_countAll_13 rfl (lv_at hl 1 rfl) ?_
    refine mx_get (v := .ref (pp 1)) X w in_X4 (ci := 3) rfl 0 (by decide) q2011 (fun _ h => h) hM.2.1 rfl dX4_countAll_14 ?_
    refine lv_iconst (v := (4 : Int32)) hx hb dX4_countAll_17 (by decide) ?_
    refine md_ald X w hM 1 (by decide) (by decide) 4 rfl (show 4 < 170 by decide) dX4_countAll_18 ?_
    refine lv_iconst (v := (-1 : Int32)) hx hb dX4_countAll_19 (by decide) ?_
    have J38 : ∀ (bs0_38 : Bool) (M : mh) (H : Heap) (locs : List Loc) (ls : Array Slot), mf_countAll_38 v bs0_12 bs0_38 = z → lv_has ls 5 [(1, .int (bI bs0_12)), (0, .ref (pp 0))] → mW G A s M H locs → Mdl G pp M0 M v → W p l e R s m av below meth c H locs 0 0 Q (F0 m 38 ls [.int (bI bs0_38)]) := by
      intro bs0_38 M H locs ls  E hl w hM
      rw [mf_countAll_38] at E
      refine lv_istore_n (lv' := [(2, .int (bI bs0_38)), (1, .int (bI bs0_12)), (0, .ref (pp 0))]) hx hb dX4_countAll_38 rfl hl (by decide) rfl (fun ls hl => ?_)
      refine lv_aload_n hx hb dX4_countAll_39 rfl (lv_at hl 2 rfl) ?_
      refine mx_get (v := .ref (pp 1)) X w in_X4 (ci := 3) rfl 0 (by decide) q2011 (fun _ h => h) hM.2.1 rfl dX4_countAll_40 ?_
      refine lv_iconst (v := (4 : Int32)) hx hb dX4_countAll_43 (by decide) ?_
      refine md_ald X w hM 1 (by decide) (by decide) 4 rfl (show 4 < 170 by decide) dX4_countAll_44 ?_
      refine lv_iconst (v := (-1 : Int32)) hx hb dX4_countAll_45 (by decide) ?_
      have J66 : ∀ (bs0_66 : Bool) (M : mh) (H : Heap) (locs : List Loc) (ls : Array Slot), mf_countAll_66 v bs0_12 bs0_38 bs0_66 = z → lv_has ls 5 [(2, .int (bI bs0_38)), (1, .int (bI bs0_12)), (0, .ref (pp 0))] → mW G A s M H locs → Mdl G pp M0 M v → W p l e R s m av below meth c H locs 0 0 Q (F0 m 66 ls [.int (bI bs0_66)]) := by
        intro bs0_66 M H locs ls  E hl w hM
        rw [mf_countAll_66] at E
        refine lv_istore_n (lv' := [(3, .int (bI bs0_66)), (2, .int (bI bs0_38)), (1, .int (bI bs0_12)), (0, .ref (pp 0))]) hx hb dX4_countAll_66 rfl hl (by decide) rfl (fun ls hl => ?_)
        refine lv_aload_n hx hb dX4_countAll_67 rfl (lv_at hl 3 rfl) ?_
        refine mx_bi w (va_runV (As := []) (rest := []) X (mt_running l G A pp M0 v  np (hI.enp) (hI.n6)) (cwV 0 X.2.2.2.2 (lw_V q2159 q2161 qs60 q113 q2162) rfl rfl rfl (by decide +kernel) ⟨by rw [hRf]; decide, by rw [hRl]; decide⟩) (mx_preV w hM hM.2.1 rfl) rfl rfl hl.1 rfl (lv_room (Nat.le_of_ble_eq_true rfl)) dX4_countAll_68 ⟨Nat.zero_le _, Nat.zero_le _⟩) (fun r M H locs hp w => ?_)
        obtain ⟨rfl, hM⟩ := hp
        refine lv_iconst (v := (1 : Int32)) hx hb dX4_countAll_71 (by decide) ?_
        have J90 : ∀ (bs0_90 : Bool) (M : mh) (H : Heap) (locs : List Loc) (ls : Array Slot), mf_countAll_90 v bs0_12 bs0_38 bs0_66 bs0_90 = z → lv_has ls 5 [(3, .int (bI bs0_66)), (2, .int (bI bs0_38)), (1, .int (bI bs0_12)), (0, .ref (pp 0))] → mW G A s M H locs → Mdl G pp M0 M v → W p l e R s m av below meth c H locs 0 0 Q (F0 m 90 ls [.int (bI bs0_90)]) := by
          intro bs0_90 M H locs ls  E hl w hM
          rw [mf_countAll_90] at E
          refine lv_istore (lv' := [(4, .int (bI bs0_90)), (3, .int (bI bs0_66)), (2, .int (bI bs0_38)), (1, .int (bI bs0_12)), (0, .ref (pp 0))]) hx hb dX4_countAll_90 hl (by decide) rfl (fun ls hl => ?_)
          refine lv_aload_n hx hb dX4_countAll_92 rfl (lv_at hl 4 rfl) ?_
          refine lv_bipush (v := (10 : Int32)) hx hb dX4_countAll_93 (by decide) ?_
          refine lv_iload_n hx hb dX4_countAll_95 rfl (lv_at hl 3 rfl) ?_
          have J128 : ∀ (bs0_128 : Bool) (M : mh) (H : Heap) (locs : List Loc) (ls : Array Slot), mf_countAll_128 v bs0_12 bs0_38 bs0_66 bs0_90 bs0_128 = z → lv_has ls 5 [(4, .int (bI bs0_90)), (3, .int (bI bs0_66)), (1, .int (bI bs0_12)), (0, .ref (pp 0))] → mW G A s M H locs → Mdl G pp M0 M v → W p l e R s m av below meth c H locs 0 0 Q (F0 m 128 ls [.int (bI bs0_128), .int (10 : Int32), .ref (pp 0)]) := by
            intro bs0_128 M H locs ls  E hl w hM
            rw [mf_countAll_128] at E
            refine mx_bv w (va_runV (As := [.int (nI 10), .int (bI bs0_128)]) (rest := []) X (mt_counts l G A pp M0 v 10 bs0_128  (by first | omega | assumption)) (cwV 2 X.2.2.2.2 (lw_V q2290 q2292 qs82 q113 q2293) rfl rfl rfl (by decide +kernel) ⟨by rw [hRf]; decide, by rw [hRl]; decide⟩) (mx_preV w hM hM.2.1 rfl) rfl rfl hl.1 rfl (lv_room (Nat.le_of_ble_eq_true rfl)) dX4_countAll_128 ⟨Nat.zero_le _, Nat.zero_le _⟩) (fun M H locs hM w => ?_)
            rw [mf_countAll_c128] at E
            obtain ⟨v_128, ev_128⟩ : ∃ y, y = (mf_counts v 10 bs0_128) := ⟨_, rfl⟩
            rw [← ev_128] at E hM
            refine lv_aload_n hx hb dX4_countAll_131 rfl (lv_at hl 3 rfl) ?_
            refine lv_bipush (v := (11 : Int32)) hx hb dX4_countAll_132 (by decide) ?_
            refine lv_iload_n hx hb dX4_countAll_134 rfl (lv_at hl 2 rfl) ?_
            have J167 : ∀ (bs0_167 : Bool) (M : mh) (H : Heap) (locs : List Loc) (ls : Array Slot), mf_countAll_167 v bs0_12 bs0_38 bs0_66 bs0_90 bs0_128 v_128 bs0_167 = z → lv_has ls 5 [(4, .int (bI bs0_90)), (3, .int (bI bs0_66)), (0, .ref (pp 0))] → mW G A s M H locs → Mdl G pp M0 M v_128 → W p l e R s m av below meth c H locs 0 0 Q (F0 m 167 ls [.int (bI bs0_167), .int (11 : Int32), .ref (pp 0)]) := by
              intro bs0_167 M H locs ls  E hl w hM
              rw [mf_countAll_167] at E
              refine mx_bv w (va_runV (As := [.int (nI 11), .int (bI bs0_167)]) (rest := []) X (mt_counts l G A pp M0 v_128 11 bs0_167  (by first | omega | assumption)) (cwV 2 X.2.2.2.2 (lw_V q2290 q2292 qs82 q113 q2293) rfl rfl rfl (by decide +kernel) ⟨by rw [hRf]; decide, by rw [hRl]; decide⟩) (mx_preV w hM hM.2.1 rfl) rfl rfl hl.1 rfl (lv_room (Nat.le_of_ble_eq_true rfl)) dX4_countAll_167 ⟨Nat.zero_le _, Nat.zero_le _⟩) (fun M H locs hM w => ?_)
              rw [mf_countAll_c167] at E
              obtain ⟨v_167, ev_167⟩ : ∃ y, y = (mf_counts v_128 11 bs0_167) := ⟨_, rfl⟩
              rw [← ev_167] at E hM
              refine lv_aload_n hx hb dX4_countAll_170 rfl (lv_at hl 2 rfl) ?_
              refine lv_bipush (v := (12 : Int32)) hx hb dX4_countAll_171 (by decide) ?_
              refine lv_iload hx hb dX4_countAll_173 (lv_at hl 0 rfl) ?_
              have J202 : ∀ (bs0_202 : Bool) (M : mh) (H : Heap) (locs : List Loc) (ls : Array Slot), mf_countAll_202 v bs0_12 bs0_38 bs0_66 bs0_90 bs0_128 v_128 bs0_167 v_167 bs0_202 = z → lv_has ls 5 [] → mW G A s M H locs → Mdl G pp M0 M v_167 → W p l e R s m av below meth c H locs 0 0 Q (F0 m 202 ls [.int (bI bs0_202), .int (12 : Int32), .ref (pp 0)]) := by
                intro bs0_202 M H locs ls  E hl w hM
                rw [mf_countAll_202] at E
                refine mx_bv w (va_runV (As := [.int (nI 12), .int (bI bs0_202)]) (rest := []) X (mt_counts l G A pp M0 v_167 12 bs0_202  (by first | omega | assumption)) (cwV 2 X.2.2.2.2 (lw_V q2290 q2292 qs82 q113 q2293) rfl rfl rfl (by decide +kernel) ⟨by rw [hRf]; decide, by rw [hRl]; decide⟩) (mx_preV w hM hM.2.1 rfl) rfl rfl hl.1 rfl (lv_room (Nat.le_of_ble_eq_true rfl)) dX4_countAll_202 ⟨Nat.zero_le _, Nat.zero_le _⟩) (fun M H locs hM w => ?_)
                rw [mf_countAll_c202] at E
                obtain ⟨v_202, ev_202⟩ : ∃ y, y = (mf_counts v_167 12 bs0_202) := ⟨_, rfl⟩
                rw [← ev_202] at E hM
                exact fin M H locs ls 205 dX4_countAll_205 (by rw [← E]; exact hM) w
              have J201 : ∀  (M : mh) (H : Heap) (locs : List Loc) (ls : Array Slot), mf_countAll_201 v bs0_12 bs0_38 bs0_66 bs0_90 bs0_128 v_128 bs0_167 v_167  = z → lv_has ls 5 [] → mW G A s M H locs → Mdl G pp M0 M v_167 → W p l e R s m av below meth c H locs 0 0 Q (F0 m 201 ls [.int (12 : Int32), .ref (pp 0)]) := by
                intro  M H locs ls  E hl w hM
                rw [mf_countAll_201] at E
                refine lv_iconst (v := (0 : Int32)) hx hb dX4_countAll_201 (by decide) ?_
                exact J202 false M H locs ls E (lv_sub hl [] rfl) w hM
              refine mx_beq (tgt := 201) hx hb dX4_countAll_175 (by decide) (fun c_175 => ?_) (fun c_175 => ?_)
              · rw [if_neg c_175] at E
                exact J201  M H locs ls E (lv_sub hl [] rfl) w hM
              · rw [if_pos c_175] at E
                refine lv_iload_n hx hb dX4_countAll_178 rfl (lv_at hl 1 rfl) ?_
                refine mx_beq (tgt := 201) hx hb dX4_countAll_179 (by decide) (fun c_179 => ?_) (fun c_179 => ?_)
                · rw [if_neg c_179] at E
                  exact J201  M H locs ls E (lv_sub hl [] rfl) w hM
                · rw [if_pos c_179] at E
                  refine lv_aload_n hx hb dX4_countAll_182 rfl (lv_at hl 2 rfl) ?_
                  refine mx_get (v := .ref (pp 1)) X w in_X4 (ci := 3) rfl 0 (by decide) q2011 (fun _ h => h) hM.2.1 rfl dX4_countAll_183 ?_
                  refine lv_iconst (v := (3 : Int32)) hx hb dX4_countAll_186 (by decide) ?_
                  refine md_ald X w hM 1 (by decide) (by decide) 3 rfl (show 3 < 170 by decide) dX4_countAll_187 ?_
                  refine lv_aload_n hx hb dX4_countAll_188 rfl (lv_at hl 2 rfl) ?_
                  refine lv_bipush (v := (7 : Int32)) hx hb dX4_countAll_189 (by decide) ?_
                  refine mx_bi w (va_runV (As := [.int (nI 7)]) (rest := [.int (v_167 1 3), .int (12 : Int32), .ref (pp 0)]) X (mt_setting l G A pp M0 v_167 7  (by first | omega | assumption)) (cwV 1 X.2.2.2.2 (lw_V q2078 q2080 qs47 q113 q2081) rfl rfl rfl (by decide +kernel) ⟨by rw [hRf]; decide, by rw [hRl]; decide⟩) (mx_preV w hM hM.2.1 rfl) rfl rfl hl.1 rfl (lv_room (Nat.le_of_ble_eq_true rfl)) dX4_countAll_191 ⟨Nat.zero_le _, Nat.zero_le _⟩) (fun r M H locs hp w => ?_)
                  obtain ⟨rfl, hM⟩ := hp
                  refine lv_icmp_ge (tgt := 201) hx hb dX4_countAll_194 (by decide) (fun c_194 => ?_) (fun c_194 => ?_)
                  · rw [if_pos c_194] at E
                    exact J201  M H locs ls E (lv_sub hl [] rfl) w hM
                  · rw [if_neg c_194] at E
                    refine lv_iconst (v := (1 : Int32)) hx hb dX4_countAll_197 (by decide) ?_
                    refine lv_goto (tgt := 202) hx hb dX4_countAll_198 (by decide) ?_
                    exact J202 true M H locs ls E (lv_sub hl [] rfl) w hM
            have J166 : ∀  (M : mh) (H : Heap) (locs : List Loc) (ls : Array Slot), mf_countAll_166 v bs0_12 bs0_38 bs0_66 bs0_90 bs0_128 v_128  = z → lv_has ls 5 [(4, .int (bI bs0_90)), (3, .int (bI bs0_66)), (0, .ref (pp 0))] → mW G A s M H locs → Mdl G pp M0 M v_128 → W p l e R s m av below meth c H locs 0 0 Q (F0 m 166 ls [.int (11 : Int32), .ref (pp 0)]) := by
              intro  M H locs ls  E hl w hM
              rw [mf_countAll_166] at E
              refine lv_iconst (v := (0 : Int32)) hx hb dX4_countAll_166 (by decide) ?_
              exact J167 false M H locs ls E (lv_sub hl [0, 1, 2] rfl) w hM
            refine mx_beq (tgt := 166) hx hb dX4_countAll_135 (by decide) (fun c_135 => ?_) (fun c_135 => ?_)
            · rw [if_neg c_135] at E
              exact J166  M H locs ls E (lv_sub hl [0, 1, 3] rfl) w hM
            · rw [if_pos c_135] at E
              refine lv_iload_n hx hb dX4_countAll_138 rfl (lv_at hl 1 rfl) ?_
              refine mx_beq (tgt := 166) hx hb dX4_countAll_139 (by decide) (fun c_139 => ?_) (fun c_139 => ?_)
              · rw [if_neg c_139] at E
                exact J166  M H locs ls E (lv_sub hl [0, 1, 3] rfl) w hM
              · rw [if_pos c_139] at E
                refine lv_aload_n hx hb dX4_countAll_142 rfl (lv_at hl 3 rfl) ?_
                refine mx_get (v := .ref (pp 1)) X w in_X4 (ci := 3) rfl 0 (by decide) q2011 (fun _ h => h) hM.2.1 rfl dX4_countAll_143 ?_
                refine lv_iconst (v := (1 : Int32)) hx hb dX4_countAll_146 (by decide) ?_
                refine md_ald X w hM 1 (by decide) (by decide) 1 rfl (show 1 < 170 by decide) dX4_countAll_147 ?_
                refine lv_aload_n hx hb dX4_countAll_148 rfl (lv_at hl 3 rfl) ?_
                refine lv_iconst (v := (0 : Int32)) hx hb dX4_countAll_149 (by decide) ?_
                refine mx_bi w (va_runV (As := [.int (nI 0)]) (rest := [.int (v_128 1 1), .int (11 : Int32), .ref (pp 0)]) X (mt_setting l G A pp M0 v_128 0  (by first | omega | assumption)) (cwV 1 X.2.2.2.2 (lw_V q2078 q2080 qs47 q113 q2081) rfl rfl rfl (by decide +kernel) ⟨by rw [hRf]; decide, by rw [hRl]; decide⟩) (mx_preV w hM hM.2.1 rfl) rfl rfl hl.1 rfl (lv_room (Nat.le_of_ble_eq_true rfl)) dX4_countAll_150 ⟨Nat.zero_le _, Nat.zero_le _⟩) (fun r M H locs hp w => ?_)
                obtain ⟨rfl, hM⟩ := hp
                refine lv_aload_n hx hb dX4_countAll_153 rfl (lv_at hl 3 rfl) ?_
                refine lv_iconst (v := (1 : Int32)) hx hb dX4_countAll_154 (by decide) ?_
                refine mx_bi w (va_runV (As := [.int (nI 1)]) (rest := [.int (mf_setting v_128 0), .int (v_128 1 1), .int (11 : Int32), .ref (pp 0)]) X (mt_setting l G A pp M0 v_128 1  (by first | omega | assumption)) (cwV 1 X.2.2.2.2 (lw_V q2078 q2080 qs47 q113 q2081) rfl rfl rfl (by decide +kernel) ⟨by rw [hRf]; decide, by rw [hRl]; decide⟩) (mx_preV w hM hM.2.1 rfl) rfl rfl hl.1 rfl (lv_room (Nat.le_of_ble_eq_true rfl)) dX4_countAll_155 ⟨Nat.zero_le _, Nat.zero_le _⟩) (fun r M H locs hp w => ?_)
                obtain ⟨rfl, hM⟩ := hp
                refine lv_iadd hx hb dX4_countAll_158 ?_
                refine lv_icmp_le (tgt := 166) hx hb dX4_countAll_159 (by decide) (fun c_159 => ?_) (fun c_159 => ?_)
                · rw [if_pos c_159] at E
                  exact J166  M H locs ls E (lv_sub hl [0, 1, 3] rfl) w hM
                · rw [if_neg c_159] at E
                  refine lv_iconst (v := (1 : Int32)) hx hb dX4_countAll_162 (by decide) ?_
                  refine lv_goto (tgt := 167) hx hb dX4_countAll_163 (by decide) ?_
                  exact J167 true M H locs ls E (lv_sub hl [0, 1, 3] rfl) w hM
          have J127 : ∀  (M : mh) (H : Heap) (locs : List Loc) (ls : Array Slot), mf_countAll_127 v bs0_12 bs0_38 bs0_66 bs0_90  = z → lv_has ls 5 [(4, .int (bI bs0_90)), (3, .int (bI bs0_66)), (1, .int (bI bs0_12)), (0, .ref (pp 0))] → mW G A s M H locs → Mdl G pp M0 M v → W p l e R s m av below meth c H locs 0 0 Q (F0 m 127 ls [.int (10 : Int32), .ref (pp 0)]) := by
            intro  M H locs ls  E hl w hM
            rw [mf_countAll_127] at E
            refine lv_iconst (v := (0 : Int32)) hx hb dX4_countAll_127 (by decide) ?_
            exact J128 false M H locs ls E (lv_sub hl [0, 1, 2, 3] rfl) w hM
          refine mx_beq (tgt := 127) hx hb dX4_countAll_96 (by decide) (fun c_96 => ?_) (fun c_96 => ?_)
          · rw [if_neg c_96] at E
            exact J127  M H locs ls E (lv_sub hl [0, 1, 3, 4] rfl) w hM
          · rw [if_pos c_96] at E
            refine lv_iload_n hx hb dX4_countAll_99 rfl (lv_at hl 2 rfl) ?_
            refine mx_beq (tgt := 127) hx hb dX4_countAll_100 (by decide) (fun c_100 => ?_) (fun c_100 => ?_)
            · rw [if_neg c_100] at E
              exact J127  M H locs ls E (lv_sub hl [0, 1, 3, 4] rfl) w hM
            · rw [if_pos c_100] at E
              refine lv_aload_n hx hb dX4_countAll_103 rfl (lv_at hl 4 rfl) ?_
              refine mx_get (v := .ref (pp 1)) X w in_X4 (ci := 3) rfl 0 (by decide) q2011 (fun _ h => h) hM.2.1 rfl dX4_countAll_104 ?_
              refine lv_iconst (v := (1 : Int32)) hx hb dX4_countAll_107 (by decide) ?_
              refine md_ald X w hM 1 (by decide) (by decide) 1 rfl (show 1 < 170 by decide) dX4_countAll_108 ?_
              refine lv_aload_n hx hb dX4_countAll_109 rfl (lv_at hl 4 rfl) ?_
              refine lv_iconst (v := (0 : Int32)) hx hb dX4_countAll_110 (by decide) ?_
              refine mx_bi w (va_runV (As := [.int (nI 0)]) (rest := [.int (v 1 1), .int (10 : Int32), .ref (pp 0)]) X (mt_setting l G A pp M0 v 0  (by first | omega | assumption)) (cwV 1 X.2.2.2.2 (lw_V q2078 q2080 qs47 q113 q2081) rfl rfl rfl (by decide +kernel) ⟨by rw [hRf]; decide, by rw [hRl]; decide⟩) (mx_preV w hM hM.2.1 rfl) rfl rfl hl.1 rfl (lv_room (Nat.le_of_ble_eq_true rfl)) dX4_countAll_111 ⟨Nat.zero_le _, Nat.zero_le _⟩) (fun r M H locs hp w => ?_)
              obtain ⟨rfl, hM⟩ := hp
              refine lv_aload_n hx hb dX4_countAll_114 rfl (lv_at hl 4 rfl) ?_
              refine lv_iconst (v := (1 : Int32)) hx hb dX4_countAll_115 (by decide) ?_
              refine mx_bi w (va_runV (As := [.int (nI 1)]) (rest := [.int (mf_setting v 0), .int (v 1 1), .int (10 : Int32), .ref (pp 0)]) X (mt_setting l G A pp M0 v 1  (by first | omega | assumption)) (cwV 1 X.2.2.2.2 (lw_V q2078 q2080 qs47 q113 q2081) rfl rfl rfl (by decide +kernel) ⟨by rw [hRf]; decide, by rw [hRl]; decide⟩) (mx_preV w hM hM.2.1 rfl) rfl rfl hl.1 rfl (lv_room (Nat.le_of_ble_eq_true rfl)) dX4_countAll_116 ⟨Nat.zero_le _, Nat.zero_le _⟩) (fun r M H locs hp w => ?_)
              obtain ⟨rfl, hM⟩ := hp
              refine lv_isub hx hb dX4_countAll_119 ?_
              refine lv_icmp_ge (tgt := 127) hx hb dX4_countAll_120 (by decide) (fun c_120 => ?_) (fun c_120 => ?_)
              · rw [if_pos c_120] at E
                exact J127  M H locs ls E (lv_sub hl [0, 1, 3, 4] rfl) w hM
              · rw [if_neg c_120] at E
                refine lv_iconst (v := (1 : Int32)) hx hb dX4_countAll_123 (by decide) ?_
                refine lv_goto (tgt := 128) hx hb dX4_countAll_124 (by decide) ?_
                exact J128 true M H locs ls E (lv_sub hl [0, 1, 3, 4] rfl) w hM
        have J89 : ∀  (M : mh) (H : Heap) (locs : List Loc) (ls : Array Slot), mf_countAll_89 v bs0_12 bs0_38 bs0_66  = z → lv_has ls 5 [(3, .int (bI bs0_66)), (2, .int (bI bs0_38)), (1, .int (bI bs0_12)), (0, .ref (pp 0))] → mW G A s M H locs → Mdl G pp M0 M v → W p l e R s m av below meth c H locs 0 0 Q (F0 m 89 ls []) := by
          intro  M H locs ls  E hl w hM
          rw [mf_countAll_89] at E
          refine lv_iconst (v := (0 : Int32)) hx hb dX4_countAll_89 (by decide) ?_
          exact J90 false M H locs ls E (lv_sub hl [0, 1, 2, 3] rfl) w hM
        refine lv_icmp_ne (tgt := 89) hx hb dX4_countAll_72 (by decide) (fun c_72 => ?_) (fun c_72 => ?_)
        · rw [if_neg c_72] at E
          exact J89  M H locs ls E (lv_sub hl [0, 1, 2, 3] rfl) w hM
        · rw [if_pos c_72] at E
          refine lv_aload_n hx hb dX4_countAll_75 rfl (lv_at hl 3 rfl) ?_
          refine mx_get (v := .ref (pp 1)) X w in_X4 (ci := 3) rfl 0 (by decide) q2011 (fun _ h => h) hM.2.1 rfl dX4_countAll_76 ?_
          refine lv_iconst (v := (4 : Int32)) hx hb dX4_countAll_79 (by decide) ?_
          refine md_ald X w hM 1 (by decide) (by decide) 4 rfl (show 4 < 170 by decide) dX4_countAll_80 ?_
          refine lv_iconst (v := (-1 : Int32)) hx hb dX4_countAll_81 (by decide) ?_
          refine lv_icmp_eq (tgt := 89) hx hb dX4_countAll_82 (by decide) (fun c_82 => ?_) (fun c_82 => ?_)
          · rw [if_pos c_82] at E
            exact J89  M H locs ls E (lv_sub hl [0, 1, 2, 3] rfl) w hM
          · rw [if_neg c_82] at E
            refine lv_iconst (v := (1 : Int32)) hx hb dX4_countAll_85 (by decide) ?_
            refine lv_goto (tgt := 90) hx hb dX4_countAll_86 (by decide) ?_
            exact J90 true M H locs ls E (lv_sub hl [0, 1, 2, 3] rfl) w hM
      have J61 : ∀  (M : mh) (H : Heap) (locs : List Loc) (ls : Array Slot), mf_countAll_61 v bs0_12 bs0_38  = z → lv_has ls 5 [(2, .int (bI bs0_38)), (1, .int (bI bs0_12)), (0, .ref (pp 0))] → mW G A s M H locs → Mdl G pp M0 M v → W p l e R s m av below meth c H locs 0 0 Q (F0 m 61 ls []) := by
        intro  M H locs ls  E hl w hM
        rw [mf_countAll_61] at E
        refine lv_iconst (v := (1 : Int32)) hx hb dX4_countAll_61 (by decide) ?_
        refine lv_goto (tgt := 66) hx hb dX4_countAll_62 (by decide) ?_
        exact J66 true M H locs ls E (lv_sub hl [0, 1, 2] rfl) w hM
      refine lv_icmp_eq (tgt := 61) hx hb dX4_countAll_46 (by decide) (fun c_46 => ?_) (fun c_46 => ?_)
      · rw [if_pos c_46] at E
        exact J61  M H locs ls E (lv_sub hl [0, 1, 2] rfl) w hM
      · rw [if_neg c_46] at E
        obtain ⟨hj1, hj2⟩ := isP_n hI.var c_46 hI.n6
        refine lv_aload_n hx hb dX4_countAll_49 rfl (lv_at hl 2 rfl) ?_
        refine mx_bi w (va_runV (As := []) (rest := []) X (mt_speedOfVariable l G A pp M0 v   (hj1) (by omega)) (cwV 0 X.2.2.2.2 (lw_V q2286 q2288 qs81 q113 q2289) rfl rfl rfl (by decide +kernel) ⟨by rw [hRf]; decide, by rw [hRl]; decide⟩) (mx_preV w hM hM.2.1 rfl) rfl rfl hl.1 rfl (lv_room (Nat.le_of_ble_eq_true rfl)) dX4_countAll_50 ⟨Nat.zero_le _, Nat.zero_le _⟩) (fun r M H locs hp w => ?_)
        obtain ⟨rfl, hM⟩ := hp
        refine lv_aload_n hx hb dX4_countAll_53 rfl (lv_at hl 2 rfl) ?_
        refine lv_iconst (v := (4 : Int32)) hx hb dX4_countAll_54 (by decide) ?_
        refine mx_bi w (va_runV (As := [.int (nI 4)]) (rest := [.int (mf_speedOfVariable v )]) X (mt_setting l G A pp M0 v 4  (by first | omega | assumption)) (cwV 1 X.2.2.2.2 (lw_V q2078 q2080 qs47 q113 q2081) rfl rfl rfl (by decide +kernel) ⟨by rw [hRf]; decide, by rw [hRl]; decide⟩) (mx_preV w hM hM.2.1 rfl) rfl rfl hl.1 rfl (lv_room (Nat.le_of_ble_eq_true rfl)) dX4_countAll_55 ⟨Nat.zero_le _, Nat.zero_le _⟩) (fun r M H locs hp w => ?_)
        obtain ⟨rfl, hM⟩ := hp
        refine lv_icmp_ne (tgt := 65) hx hb dX4_countAll_58 (by decide) (fun c_58 => ?_) (fun c_58 => ?_)
        · rw [if_neg c_58] at E
          refine lv_iconst (v := (0 : Int32)) hx hb dX4_countAll_65 (by decide) ?_
          exact J66 false M H locs ls E (lv_sub hl [0, 1, 2] rfl) w hM
        · rw [if_pos c_58] at E
          exact J61  M H locs ls E (lv_sub hl [0, 1, 2] rfl) w hM
    have J33 : ∀  (M : mh) (H : Heap) (locs : List Loc) (ls : Array Slot), mf_countAll_33 v bs0_12  = z → lv_has ls 5 [(1, .int (bI bs0_12)), (0, .ref (pp 0))] → mW G A s M H locs → Mdl G pp M0 M v → W p l e R s m av below meth c H locs 0 0 Q (F0 m 33 ls []) := by
      intro  M H locs ls  E hl w hM
      rw [mf_countAll_33] at E
      refine lv_iconst (v := (1 : Int32)) hx hb dX4_countAll_33 (by decide) ?_
      refine lv_goto (tgt := 38) hx hb dX4_countAll_34 (by decide) ?_
      exact J38 true M H locs ls E (lv_sub hl [0, 1] rfl) w hM
    refine lv_icmp_eq (tgt := 33) hx hb dX4_countAll_20 (by decide) (fun c_20 => ?_) (fun c_20 => ?_)
    · rw [if_pos c_20] at E
      exact J33  M H locs ls E (lv_sub hl [0, 1] rfl) w hM
    · rw [if_neg c_20] at E
      obtain ⟨hj1, hj2⟩ := isP_n hI.var c_20 hI.n6
      refine lv_aload_n hx hb dX4_countAll_23 rfl (lv_at hl 1 rfl) ?_
      refine mx_bi w (va_runV (As := []) (rest := []) X (mt_speedOfVariable l G A pp M0 v   (hj1) (by omega)) (cwV 0 X.2.2.2.2 (lw_V q2286 q2288 qs81 q113 q2289) rfl rfl rfl (by decide +kernel) ⟨by rw [hRf]; decide, by rw [hRl]; decide⟩) (mx_preV w hM hM.2.1 rfl) rfl rfl hl.1 rfl (lv_room (Nat.le_of_ble_eq_true rfl)) dX4_countAll_24 ⟨Nat.zero_le _, Nat.zero_le _⟩) (fun r M H locs hp w => ?_)
      obtain ⟨rfl, hM⟩ := hp
      refine lv_sipush (v := (1000 : Int32)) hx hb dX4_countAll_27 (by decide) ?_
      refine lv_icmp_ne (tgt := 37) hx hb dX4_countAll_30 (by decide) (fun c_30 => ?_) (fun c_30 => ?_)
      · rw [if_neg c_30] at E
        refine lv_iconst (v := (0 : Int32)) hx hb dX4_countAll_37 (by decide) ?_
        exact J38 false M H locs ls E (lv_sub hl [0, 1] rfl) w hM
      · rw [if_pos c_30] at E
        exact J33  M H locs ls E (lv_sub hl [0, 1] rfl) w hM
  refine lv_if_le (tgt := 11) hx hb dX4_countAll_4 (by decide) (fun c_4 => ?_) (fun c_4 => ?_)
  · rw [if_pos c_4] at E
    refine lv_iconst (v := (0 : Int32)) hx hb dX4_countAll_11 (by decide) ?_
    exact J12 false M H locs ls E (lv_sub hl [0] rfl) w hM
  · rw [if_neg c_4] at E
    refine lv_iconst (v := (1 : Int32)) hx hb dX4_countAll_7 (by decide) ?_
    refine lv_goto (tgt := 12) hx hb dX4_countAll_8 (by decide) ?_
    exact J12 true M H locs ls E (lv_sub hl [0] rfl) w hM
def mf_beginAnew (v : (Nat → Nat → Int32)) : (Nat → Nat → Int32) := (u2 (u2 (u2 v 1 10 (0 : Int32)) 1 11 (0 : Int32)) 1 12 (0 : Int32))
set_option maxHeartbeats 4000000 in
set_option maxRecDepth 100000 in
theorem mt_beginAnew (l : Launch) (G : mg) (A : Nat → Prop) (pp : Nat → Nat) (M0 : mh) (v : Nat → Nat → Int32)   : Met l yX4_beginAnew (ws_ yX4_beginAnew cX4_beginAnew 1 (none)) ({ frames := 0, cells := 0, slots := 0, locals := 0 }) (va_Pc [.ref (pp 0)] (mU G A (fun M => Mdl G pp M0 M v))) (mQv G A (fun M => Mdl G pp M0 M (mf_beginAnew v))) 0 0 A := by
  refine mx_ofv (by decide) (Nat.le_of_ble_eq_true rfl) ?_
  intro p e R s m av below meth c M H Q ls X hRf hRl hRc hRs hin hM w fin hl
  have X : CallFix p m c cX4_beginAnew 1 s av lw_all "FieldPumpsModel" := X
  have hx := X.1
  have hb := X.2.1
  have hl : lv_has ls 1 [(0, .ref (pp 0))] := hl
  have hRf : R.frames = 0 := hRf
  have hRl : R.locals = 0 := hRl
  generalize ([] : List Loc) = locs at w ⊢
  generalize E : mf_beginAnew v = z at fin
  rw [mf_beginAnew] at E
  refine lv_aload_n hx hb dX4_beginAnew_0 rfl (lv_at hl 0 rfl) ?_
  refine mx_get (v := .ref (pp 1)) X w in_X4 (ci := 3) rfl 0 (by decide) q2011 (fun _ h => h) hM.2.1 rfl dX4_beginAnew_1 ?_
  refine lv_bipush (v := (10 : Int32)) hx hb dX4_beginAnew_4 (by decide) ?_
  refine lv_iconst (v := (0 : Int32)) hx hb dX4_beginAnew_6 (by decide) ?_
  refine md_ast (x := (0 : Int32)) X w hM 1 (by decide) (by decide) 10 rfl (show 10 < 170 by decide) dX4_beginAnew_7 (fun M H locs w hM => ?_)
  refine lv_aload_n hx hb dX4_beginAnew_8 rfl (lv_at hl 0 rfl) ?_
  refine mx_get (v := .ref (pp 1)) X w in_X4 (ci := 3) rfl 0 (by decide) q2011 (fun _ h => h) hM.2.1 rfl dX4_beginAnew_9 ?_
  refine lv_bipush (v := (11 : Int32)) hx hb dX4_beginAnew_12 (by decide) ?_
  refine lv_iconst (v := (0 : Int32)) hx hb dX4_beginAnew_14 (by decide) ?_
  refine md_ast (x := (0 : Int32)) X w hM 1 (by decide) (by decide) 11 rfl (show 11 < 170 by decide) dX4_beginAnew_15 (fun M H locs w hM => ?_)
  refine lv_aload_n hx hb dX4_beginAnew_16 rfl (lv_at hl 0 rfl) ?_
  refine mx_get (v := .ref (pp 1)) X w in_X4 (ci := 3) rfl 0 (by decide) q2011 (fun _ h => h) hM.2.1 rfl dX4_beginAnew_17 ?_
  refine lv_bipush (v := (12 : Int32)) hx hb dX4_beginAnew_20 (by decide) ?_
  refine lv_iconst (v := (0 : Int32)) hx hb dX4_beginAnew_22 (by decide) ?_
  refine md_ast (x := (0 : Int32)) X w hM 1 (by decide) (by decide) 12 rfl (show 12 < 170 by decide) dX4_beginAnew_23 (fun M H locs w hM => ?_)
  exact fin M H locs ls 24 dX4_beginAnew_24 (by rw [← E]; exact hM) w
def mf_longest_68 (v : (Nat → Nat → Int32)) (rc_4 : Int32 → Nat → Int32) (i1_4 : Int32) (n2_4 : Nat) (bs0_38 : Bool) (is0_68 : Int32) : Int32 := ( rc_4 is0_68 (n2_4 + 1))
def mf_longest_67 (v : (Nat → Nat → Int32)) (rc_4 : Int32 → Nat → Int32) (i1_4 : Int32) (n2_4 : Nat) (bs0_38 : Bool)  : Int32 := (mf_longest_68 v rc_4 i1_4 n2_4 bs0_38 i1_4)
def mf_longest_63 (v : (Nat → Nat → Int32)) (rc_4 : Int32 → Nat → Int32) (i1_4 : Int32) (n2_4 : Nat) (bs0_38 : Bool)  : Int32 := (mf_longest_68 v rc_4 i1_4 n2_4 bs0_38 (nI n2_4))
def mf_longest_38 (v : (Nat → Nat → Int32)) (rc_4 : Int32 → Nat → Int32) (i1_4 : Int32) (n2_4 : Nat) (bs0_38 : Bool) : Int32 := (if bs0_38 = true then (if i1_4 = (-1 : Int32) then (mf_longest_63 v rc_4 i1_4 n2_4 bs0_38 ) else (if (mf_of v n2_4 5) ≤ (mf_of v (tN i1_4) 5) then (mf_longest_67 v rc_4 i1_4 n2_4 bs0_38 ) else (mf_longest_63 v rc_4 i1_4 n2_4 bs0_38 ))) else (mf_longest_67 v rc_4 i1_4 n2_4 bs0_38 ))
def mf_longest_37 (v : (Nat → Nat → Int32)) (rc_4 : Int32 → Nat → Int32) (i1_4 : Int32) (n2_4 : Nat)  : Int32 := (mf_longest_38 v rc_4 i1_4 n2_4 false)
def mf_longest_4 (v : (Nat → Nat → Int32)) : Nat → Int32 → Nat → Int32
  | 0, _, _ => (-1)
  | n_4 + 1, i1_4, n2_4 => (if (nC (v 1) 14) ≤ n2_4 then i1_4 else (if (mf_runs v n2_4) = true then (if (nI n2_4) = (v 1 4) then (mf_longest_37 v (mf_longest_4 v n_4) i1_4 n2_4 ) else (mf_longest_38 v (mf_longest_4 v n_4) i1_4 n2_4 true)) else (mf_longest_37 v (mf_longest_4 v n_4) i1_4 n2_4 )))
def mf_longest (v : (Nat → Nat → Int32)) : Int32 := (mf_longest_4 v 7 (-1 : Int32) 0)
set_option maxHeartbeats 4000000 in
set_option maxRecDepth 100000 in
theorem mt_longest (l : Launch) (G : mg) (A : Nat → Prop) (pp : Nat → Nat) (M0 : mh) (v : Nat → Nat → Int32)  (np : Nat) (enp : v 1 14 = nI np) (hn6 : np ≤ 6) : Met l yX4_longest (ws_ yX4_longest cX4_longest 4 (some .int)) ({ frames := 2, cells := 0, slots := 0, locals := 43 }) (va_Pc [.ref (pp 0)] (mU G A (fun M => Mdl G pp M0 M v))) (mQi G A (fun r M => r = mf_longest v ∧ Mdl G pp M0 M v)) 0 0 A := by
  refine mx_ofi (by decide) (Nat.le_of_ble_eq_true rfl) ?_
  intro p e R s m av below meth c M H Q ls X hRf hRl hRc hRs hin hM w fin hl
  have X : CallFix p m c cX4_longest 4 s av lw_all "FieldPumpsModel" := X
  have hx := X.1
  have hb := X.2.1
  have hl : lv_has ls 4 [(0, .ref (pp 0))] := hl
  have hRf : R.frames = 2 := hRf
  have hRl : R.locals = 43 := hRl
  generalize ([] : List Loc) = locs at w ⊢
  generalize E : mf_longest v = z at fin
  rw [mf_longest] at E
  have hcp := nC_of enp (by omega)
  refine lv_iconst (v := (-1 : Int32)) hx hb dX4_longest_0 (by decide) ?_
  refine lv_istore_n (lv' := [(1, .int (-1 : Int32)), (0, .ref (pp 0))]) hx hb dX4_longest_1 rfl hl (by decide) rfl (fun ls hl => ?_)
  refine lv_iconst (v := (0 : Int32)) hx hb dX4_longest_2 (by decide) ?_
  refine lv_istore_n (lv' := [(2, .int (0 : Int32)), (1, .int (-1 : Int32)), (0, .ref (pp 0))]) hx hb dX4_longest_3 rfl hl (by decide) rfl (fun ls hl => ?_)
  have L4 : ∀ (n_4 : Nat) (i1_4 : Int32) (n2_4 : Nat) (M : mh) (H : Heap) (locs : List Loc) (ls : Array Slot), (hb1 : isP np i1_4) → (hi : n2_4 ≤ np) → (hm : np < n2_4 + n_4) → mf_longest_4 v n_4 i1_4 n2_4 = z → lv_has ls 4 [(0, .ref (pp 0)), (1, .int i1_4), (2, .int (nI n2_4))] → mW G A s M H locs → Mdl G pp M0 M v → W p l e R s m av below meth c H locs 0 0 Q (F0 m 4 ls []) := by
    intro n_4
    induction n_4 with
    | zero =>
      intro i1_4 n2_4 M H locs ls hb1 hi hm E hl w hM
      exfalso; omega
    | succ n_4 ih_4 =>
      intro i1_4 n2_4 M H locs ls hb1 hi hm E hl w hM
      rw [mf_longest_4] at E
      refine lv_iload_n hx hb dX4_longest_4 rfl (lv_at hl 2 rfl) ?_
      refine lv_aload_n hx hb dX4_longest_5 rfl (lv_at hl 0 rfl) ?_
      refine mx_get (v := .ref (pp 1)) X w in_X4 (ci := 3) rfl 0 (by decide) q2011 (fun _ h => h) hM.2.1 rfl dX4_longest_6 ?_
      refine lv_bipush (v := (14 : Int32)) hx hb dX4_longest_9 (by decide) ?_
      refine md_ald X w hM 1 (by decide) (by decide) 14 rfl (show 14 < 170 by decide) dX4_longest_11 ?_
      refine mx_cast (z := nI (nC (v 1) 14)) (by rw [hcp]; exact enp) ?_
      refine mx_nge (u := n2_4) (v := (nC (v 1) 14)) (tgt := 75) hx hb rfl rfl (by omega) (by omega) dX4_longest_12 (by decide) (fun c_12 => ?_) (fun c_12 => ?_)
      · rw [if_pos c_12] at E
        refine lv_iload_n hx hb dX4_longest_75 rfl (lv_at hl 1 rfl) ?_
        exact fin i1_4 M H locs ls 76 dX4_longest_76 ⟨E, hM⟩ w
      · rw [if_neg c_12] at E
        refine lv_aload_n hx hb dX4_longest_15 rfl (lv_at hl 0 rfl) ?_
        refine lv_iload_n hx hb dX4_longest_16 rfl (lv_at hl 2 rfl) ?_
        refine mx_bi w (va_runV (As := [.int (nI n2_4)]) (rest := []) X (mt_runs l G A pp M0 v n2_4  (by first | omega | assumption)) (cwV 1 X.2.2.2.2 (lw_V q2110 q2112 qs52 q113 q2113) rfl rfl rfl (by decide +kernel) ⟨by rw [hRf]; decide, by rw [hRl]; decide⟩) (mx_preV w hM hM.2.1 rfl) rfl rfl hl.1 rfl (lv_room (Nat.le_of_ble_eq_true rfl)) dX4_longest_17 ⟨Nat.zero_le _, Nat.zero_le _⟩) (fun r M H locs hp w => ?_)
        obtain ⟨rfl, hM⟩ := hp
        have J38 : ∀ (bs0_38 : Bool) (M : mh) (H : Heap) (locs : List Loc) (ls : Array Slot), mf_longest_38 v (mf_longest_4 v n_4) i1_4 n2_4 bs0_38 = z → lv_has ls 4 [(0, .ref (pp 0)), (1, .int i1_4), (2, .int (nI n2_4))] → mW G A s M H locs → Mdl G pp M0 M v → W p l e R s m av below meth c H locs 0 0 Q (F0 m 38 ls [.int (bI bs0_38)]) := by
          intro bs0_38 M H locs ls  E hl w hM
          rw [mf_longest_38] at E
          refine lv_istore_n (lv' := [(3, .int (bI bs0_38)), (0, .ref (pp 0)), (1, .int i1_4), (2, .int (nI n2_4))]) hx hb dX4_longest_38 rfl hl (by decide) rfl (fun ls hl => ?_)
          refine lv_iload_n hx hb dX4_longest_39 rfl (lv_at hl 0 rfl) ?_
          have J68 : ∀ (is0_68 : Int32) (M : mh) (H : Heap) (locs : List Loc) (ls : Array Slot), (h68 : isP np is0_68) → mf_longest_68 v (mf_longest_4 v n_4) i1_4 n2_4 bs0_38 is0_68 = z → lv_has ls 4 [(0, .ref (pp 0)), (2, .int (nI n2_4))] → mW G A s M H locs → Mdl G pp M0 M v → W p l e R s m av below meth c H locs 0 0 Q (F0 m 68 ls [.int is0_68]) := by
            intro is0_68 M H locs ls h68 E hl w hM
            rw [mf_longest_68] at E
            refine lv_istore_n (lv' := [(1, .int is0_68), (0, .ref (pp 0)), (2, .int (nI n2_4))]) hx hb dX4_longest_68 rfl hl (by decide) rfl (fun ls hl => ?_)
            refine lv_iinc (v := (nI (n2_4 + 1))) (lv' := [(2, .int (nI (n2_4 + 1))), (1, .int is0_68), (0, .ref (pp 0))]) hx hb dX4_longest_69 hl (k := 2) rfl (nI_incr _ 1) (by decide) rfl (fun ls hl => ?_)
            refine lv_goto (tgt := 4) hx hb dX4_longest_72 (by decide) ?_
            exact ih_4 is0_68 (n2_4 + 1) M H locs ls (by first | omega | assumption | exact h68) (by first | omega | assumption) (by first | omega | assumption) E (lv_sub hl [2, 1, 0] rfl) w hM
          have J67 : ∀  (M : mh) (H : Heap) (locs : List Loc) (ls : Array Slot), mf_longest_67 v (mf_longest_4 v n_4) i1_4 n2_4 bs0_38  = z → lv_has ls 4 [(0, .ref (pp 0)), (1, .int i1_4), (2, .int (nI n2_4))] → mW G A s M H locs → Mdl G pp M0 M v → W p l e R s m av below meth c H locs 0 0 Q (F0 m 67 ls []) := by
            intro  M H locs ls  E hl w hM
            rw [mf_longest_67] at E
            refine lv_iload_n hx hb dX4_longest_67 rfl (lv_at hl 1 rfl) ?_
            exact J68 i1_4 M H locs ls (by first | exact hb1 | exact isP_nI (by omega)) E (lv_sub hl [0, 2] rfl) w hM
          refine mx_beq (tgt := 67) hx hb dX4_longest_40 (by decide) (fun c_40 => ?_) (fun c_40 => ?_)
          · rw [if_neg c_40] at E
            exact J67  M H locs ls E (lv_sub hl [1, 2, 3] rfl) w hM
          · rw [if_pos c_40] at E
            refine lv_iload_n hx hb dX4_longest_43 rfl (lv_at hl 2 rfl) ?_
            refine lv_iconst (v := (-1 : Int32)) hx hb dX4_longest_44 (by decide) ?_
            have J63 : ∀  (M : mh) (H : Heap) (locs : List Loc) (ls : Array Slot), mf_longest_63 v (mf_longest_4 v n_4) i1_4 n2_4 bs0_38  = z → lv_has ls 4 [(0, .ref (pp 0)), (2, .int (nI n2_4))] → mW G A s M H locs → Mdl G pp M0 M v → W p l e R s m av below meth c H locs 0 0 Q (F0 m 63 ls []) := by
              intro  M H locs ls  E hl w hM
              rw [mf_longest_63] at E
              refine lv_iload_n hx hb dX4_longest_63 rfl (lv_at hl 1 rfl) ?_
              refine lv_goto (tgt := 68) hx hb dX4_longest_64 (by decide) ?_
              exact J68 (nI n2_4) M H locs ls (by first | exact hb1 | exact isP_nI (by omega)) E (lv_sub hl [0, 1] rfl) w hM
            refine lv_icmp_eq (tgt := 63) hx hb dX4_longest_45 (by decide) (fun c_45 => ?_) (fun c_45 => ?_)
            · rw [if_pos c_45] at E
              exact J63  M H locs ls E (lv_sub hl [1, 3] rfl) w hM
            · rw [if_neg c_45] at E
              obtain ⟨hj1, hj2⟩ := isP_n hb1 c_45 hn6
              refine lv_aload_n hx hb dX4_longest_48 rfl (lv_at hl 1 rfl) ?_
              refine lv_iload_n hx hb dX4_longest_49 rfl (lv_at hl 3 rfl) ?_
              refine lv_iconst (v := (5 : Int32)) hx hb dX4_longest_50 (by decide) ?_
              refine mx_bi w (va_runV (As := [.int (nI n2_4), .int (nI 5)]) (rest := []) X (mt_of l G A pp M0 v n2_4 5  (by first | omega | assumption) (by first | omega | assumption)) (cwV 2 X.2.2.2.2 (lw_V q2101 q2103 qs50 q113 q2104) rfl rfl rfl (by decide +kernel) ⟨by rw [hRf]; decide, by rw [hRl]; decide⟩) (mx_preV w hM hM.2.1 rfl) rfl rfl hl.1 rfl (lv_room (Nat.le_of_ble_eq_true rfl)) dX4_longest_51 ⟨Nat.zero_le _, Nat.zero_le _⟩) (fun r M H locs hp w => ?_)
              obtain ⟨rfl, hM⟩ := hp
              refine lv_aload_n hx hb dX4_longest_54 rfl (lv_at hl 1 rfl) ?_
              refine lv_iload_n hx hb dX4_longest_55 rfl (lv_at hl 2 rfl) ?_
              refine mx_cast (z := nI (tN i1_4)) (hj1) ?_
              refine lv_iconst (v := (5 : Int32)) hx hb dX4_longest_56 (by decide) ?_
              refine mx_bi w (va_runV (As := [.int (nI (tN i1_4)), .int (nI 5)]) (rest := [.int (mf_of v n2_4 5)]) X (mt_of l G A pp M0 v (tN i1_4) 5  (by first | omega | assumption) (by first | omega | assumption)) (cwV 2 X.2.2.2.2 (lw_V q2101 q2103 qs50 q113 q2104) rfl rfl rfl (by decide +kernel) ⟨by rw [hRf]; decide, by rw [hRl]; decide⟩) (mx_preV w hM hM.2.1 rfl) rfl rfl hl.1 rfl (lv_room (Nat.le_of_ble_eq_true rfl)) dX4_longest_57 ⟨Nat.zero_le _, Nat.zero_le _⟩) (fun r M H locs hp w => ?_)
              obtain ⟨rfl, hM⟩ := hp
              refine lv_icmp_le (tgt := 67) hx hb dX4_longest_60 (by decide) (fun c_60 => ?_) (fun c_60 => ?_)
              · rw [if_pos c_60] at E
                exact J67  M H locs ls E (lv_sub hl [1, 2, 3] rfl) w hM
              · rw [if_neg c_60] at E
                exact J63  M H locs ls E (lv_sub hl [1, 3] rfl) w hM
        have J37 : ∀  (M : mh) (H : Heap) (locs : List Loc) (ls : Array Slot), mf_longest_37 v (mf_longest_4 v n_4) i1_4 n2_4  = z → lv_has ls 4 [(0, .ref (pp 0)), (1, .int i1_4), (2, .int (nI n2_4))] → mW G A s M H locs → Mdl G pp M0 M v → W p l e R s m av below meth c H locs 0 0 Q (F0 m 37 ls []) := by
          intro  M H locs ls  E hl w hM
          rw [mf_longest_37] at E
          refine lv_iconst (v := (0 : Int32)) hx hb dX4_longest_37 (by decide) ?_
          exact J38 false M H locs ls E (lv_sub hl [0, 1, 2] rfl) w hM
        refine mx_beq (tgt := 37) hx hb dX4_longest_20 (by decide) (fun c_20 => ?_) (fun c_20 => ?_)
        · rw [if_neg c_20] at E
          exact J37  M H locs ls E (lv_sub hl [0, 1, 2] rfl) w hM
        · rw [if_pos c_20] at E
          refine lv_iload_n hx hb dX4_longest_23 rfl (lv_at hl 2 rfl) ?_
          refine lv_aload_n hx hb dX4_longest_24 rfl (lv_at hl 0 rfl) ?_
          refine mx_get (v := .ref (pp 1)) X w in_X4 (ci := 3) rfl 0 (by decide) q2011 (fun _ h => h) hM.2.1 rfl dX4_longest_25 ?_
          refine lv_iconst (v := (4 : Int32)) hx hb dX4_longest_28 (by decide) ?_
          refine md_ald X w hM 1 (by decide) (by decide) 4 rfl (show 4 < 170 by decide) dX4_longest_29 ?_
          refine lv_icmp_eq (tgt := 37) hx hb dX4_longest_30 (by decide) (fun c_30 => ?_) (fun c_30 => ?_)
          · rw [if_pos c_30] at E
            exact J37  M H locs ls E (lv_sub hl [0, 1, 2] rfl) w hM
          · rw [if_neg c_30] at E
            refine lv_iconst (v := (1 : Int32)) hx hb dX4_longest_33 (by decide) ?_
            refine lv_goto (tgt := 38) hx hb dX4_longest_34 (by decide) ?_
            exact J38 true M H locs ls E (lv_sub hl [0, 1, 2] rfl) w hM
  exact L4 7 (-1 : Int32) 0 M H locs ls (by first | omega | assumption | exact isP_m1) (by first | omega | assumption) (by first | omega | assumption) E (lv_sub hl [2, 1, 0] rfl) w hM
theorem longest_4_P {np : Nat} (v : Nat → Nat → Int32) (hc : nC (v 1) 14 = np) : ∀ (n : Nat) (i : Int32) (k : Nat), isP np i → isP np (mf_longest_4 v n i k) := by
  intro n
  induction n with
  | zero => intro i k _; exact isP_m1
  | succ n ih =>
    intro i k h
    rw [mf_longest_4]
    simp only [mf_longest_37, mf_longest_38, mf_longest_63, mf_longest_67, mf_longest_68]
    repeat' split
    all_goals first | exact h | exact ih _ _ h | exact ih _ _ (isP_nI (by omega))
theorem longest_P {np : Nat} {v : Nat → Nat → Int32} (hc : nC (v 1) 14 = np) : isP np (mf_longest v) := longest_4_P v hc _ _ _ isP_m1
def mf_cascade_115 (v : (Nat → Nat → Int32)) (v_115 : (Nat → Nat → Int32)) : (Nat → Nat → Int32) := v_115
def mf_cascade_c112 (v : (Nat → Nat → Int32)) (v_102 : (Nat → Nat → Int32)) (v_108 : (Nat → Nat → Int32)) (v_112 : (Nat → Nat → Int32)) : (Nat → Nat → Int32) := (mf_cascade_115 v v_112)
def mf_cascade_c108 (v : (Nat → Nat → Int32)) (v_102 : (Nat → Nat → Int32)) (v_108 : (Nat → Nat → Int32)) : (Nat → Nat → Int32) := (mf_cascade_c112 v v_102 v_108 (mf_beginAnew v_108 ))
def mf_cascade_c102 (v : (Nat → Nat → Int32)) (v_102 : (Nat → Nat → Int32)) : (Nat → Nat → Int32) := (mf_cascade_c108 v v_102 (mf_event v_102 (2 : Int32) (-1 : Int32)))
def mf_cascade_79 (v : (Nat → Nat → Int32))  : (Nat → Nat → Int32) := (if (v 1 12) < (mf_setting v 8) then (mf_cascade_115 v v) else (mf_cascade_c102 v (mf_stop v (tN (v 1 4)))))
def mf_cascade_c73 (v : (Nat → Nat → Int32)) (v_69 : (Nat → Nat → Int32)) (v_73 : (Nat → Nat → Int32)) : (Nat → Nat → Int32) := (mf_cascade_115 v v_73)
def mf_cascade_c69 (v : (Nat → Nat → Int32)) (v_69 : (Nat → Nat → Int32)) : (Nat → Nat → Int32) := (mf_cascade_c73 v v_69 (mf_beginAnew v_69 ))
def mf_cascade_40 (v : (Nat → Nat → Int32))  : (Nat → Nat → Int32) := (if (v 1 11) < (mf_setting v 6) then (mf_cascade_79 v ) else (if (mf_longest v ) = (-1 : Int32) then (mf_cascade_79 v ) else (mf_cascade_c69 v (mf_stop v (tN (mf_longest v))))))
def mf_cascade_c34 (v : (Nat → Nat → Int32)) (v_30 : (Nat → Nat → Int32)) (v_34 : (Nat → Nat → Int32)) : (Nat → Nat → Int32) := (mf_cascade_115 v v_34)
def mf_cascade_c30 (v : (Nat → Nat → Int32)) (v_30 : (Nat → Nat → Int32)) : (Nat → Nat → Int32) := (mf_cascade_c34 v v_30 (mf_beginAnew v_30 ))
def mf_cascade (v : (Nat → Nat → Int32)) : (Nat → Nat → Int32) := (if (v 1 10) < (mf_setting v 5) then (mf_cascade_40 v ) else (if (mf_ready v (0 : Int32)) = (-1 : Int32) then (mf_cascade_40 v ) else (mf_cascade_c30 v (mf_start v (tN (mf_ready v 0))))))
set_option maxHeartbeats 4000000 in
set_option maxRecDepth 100000 in
theorem mt_cascade (l : Launch) (G : mg) (A : Nat → Prop) (pp : Nat → Nat) (M0 : mh) (v : Nat → Nat → Int32)  (T np nz ng : Nat) (hI : IP T np nz ng (v 1)) (hsl : ¬ v 1 12 < mf_setting v 8 → ¬ v 1 4 = -1) : Met l yX4_cascade (ws_ yX4_cascade cX4_cascade 1 (none)) ({ frames := 5, cells := 0, slots := 0, locals := 113 }) (va_Pc [.ref (pp 0)] (mU G A (fun M => Mdl G pp M0 M v))) (mQv G A (fun M => Mdl G pp M0 M (mf_cascade v))) 0 0 A := by
  refine mx_ofv (by decide) (Nat.le_of_ble_eq_true rfl) ?_
  intro p e R s m av below meth c M H Q ls X hRf hRl hRc hRs hin hM w fin hl
  have X : CallFix p m c cX4_cascade 1 s av lw_all "FieldPumpsModel" := X
  have hx := X.1
  have hb := X.2.1
  have hl : lv_has ls 1 [(0, .ref (pp 0))] := hl
  have hRf : R.frames = 5 := hRf
  have hRl : R.locals = 113 := hRl
  generalize ([] : List Loc) = locs at w ⊢
  generalize E : mf_cascade v = z at fin
  rw [mf_cascade] at E
  have hb6 := hI.b
  have hcp := hI.cp
  have hcz := hI.cz
  have hcg := hI.cg
  refine lv_aload_n hx hb dX4_cascade_0 rfl (lv_at hl 0 rfl) ?_
  refine mx_get (v := .ref (pp 1)) X w in_X4 (ci := 3) rfl 0 (by decide) q2011 (fun _ h => h) hM.2.1 rfl dX4_cascade_1 ?_
  refine lv_bipush (v := (10 : Int32)) hx hb dX4_cascade_4 (by decide) ?_
  refine md_ald X w hM 1 (by decide) (by decide) 10 rfl (show 10 < 170 by decide) dX4_cascade_6 ?_
  refine lv_aload_n hx hb dX4_cascade_7 rfl (lv_at hl 0 rfl) ?_
  refine lv_iconst (v := (5 : Int32)) hx hb dX4_cascade_8 (by decide) ?_
  refine mx_bi w (va_runV (As := [.int (nI 5)]) (rest := [.int (v 1 10)]) X (mt_setting l G A pp M0 v 5  (by first | omega | assumption)) (cwV 1 X.2.2.2.2 (lw_V q2078 q2080 qs47 q113 q2081) rfl rfl rfl (by decide +kernel) ⟨by rw [hRf]; decide, by rw [hRl]; decide⟩) (mx_preV w hM hM.2.1 rfl) rfl rfl hl.1 rfl (lv_room (Nat.le_of_ble_eq_true rfl)) dX4_cascade_9 ⟨Nat.zero_le _, Nat.zero_le _⟩) (fun r M H locs hp w => ?_)
  obtain ⟨rfl, hM⟩ := hp
  have J115 : ∀ (v_115 : (Nat → Nat → Int32)) (M : mh) (H : Heap) (locs : List Loc) (ls : Array Slot), mf_cascade_115 v v_115 = z → lv_has ls 1 [] → mW G A s M H locs → Mdl G pp M0 M v_115 → W p l e R s m av below meth c H locs 0 0 Q (F0 m 115 ls []) := by
    intro v_115 M H locs ls  E hl w hM
    rw [mf_cascade_115] at E
    exact fin M H locs ls 115 dX4_cascade_115 (by rw [← E]; exact hM) w
  have J40 : ∀  (M : mh) (H : Heap) (locs : List Loc) (ls : Array Slot), mf_cascade_40 v  = z → lv_has ls 1 [(0, .ref (pp 0))] → mW G A s M H locs → Mdl G pp M0 M v → W p l e R s m av below meth c H locs 0 0 Q (F0 m 40 ls []) := by
    intro  M H locs ls  E hl w hM
    rw [mf_cascade_40] at E
    refine lv_aload_n hx hb dX4_cascade_40 rfl (lv_at hl 0 rfl) ?_
    refine mx_get (v := .ref (pp 1)) X w in_X4 (ci := 3) rfl 0 (by decide) q2011 (fun _ h => h) hM.2.1 rfl dX4_cascade_41 ?_
    refine lv_bipush (v := (11 : Int32)) hx hb dX4_cascade_44 (by decide) ?_
    refine md_ald X w hM 1 (by decide) (by decide) 11 rfl (show 11 < 170 by decide) dX4_cascade_46 ?_
    refine lv_aload_n hx hb dX4_cascade_47 rfl (lv_at hl 0 rfl) ?_
    refine lv_bipush (v := (6 : Int32)) hx hb dX4_cascade_48 (by decide) ?_
    refine mx_bi w (va_runV (As := [.int (nI 6)]) (rest := [.int (v 1 11)]) X (mt_setting l G A pp M0 v 6  (by first | omega | assumption)) (cwV 1 X.2.2.2.2 (lw_V q2078 q2080 qs47 q113 q2081) rfl rfl rfl (by decide +kernel) ⟨by rw [hRf]; decide, by rw [hRl]; decide⟩) (mx_preV w hM hM.2.1 rfl) rfl rfl hl.1 rfl (lv_room (Nat.le_of_ble_eq_true rfl)) dX4_cascade_50 ⟨Nat.zero_le _, Nat.zero_le _⟩) (fun r M H locs hp w => ?_)
    obtain ⟨rfl, hM⟩ := hp
    have J79 : ∀  (M : mh) (H : Heap) (locs : List Loc) (ls : Array Slot), mf_cascade_79 v  = z → lv_has ls 1 [(0, .ref (pp 0))] → mW G A s M H locs → Mdl G pp M0 M v → W p l e R s m av below meth c H locs 0 0 Q (F0 m 79 ls []) := by
      intro  M H locs ls  E hl w hM
      rw [mf_cascade_79] at E
      refine lv_aload_n hx hb dX4_cascade_79 rfl (lv_at hl 0 rfl) ?_
      refine mx_get (v := .ref (pp 1)) X w in_X4 (ci := 3) rfl 0 (by decide) q2011 (fun _ h => h) hM.2.1 rfl dX4_cascade_80 ?_
      refine lv_bipush (v := (12 : Int32)) hx hb dX4_cascade_83 (by decide) ?_
      refine md_ald X w hM 1 (by decide) (by decide) 12 rfl (show 12 < 170 by decide) dX4_cascade_85 ?_
      refine lv_aload_n hx hb dX4_cascade_86 rfl (lv_at hl 0 rfl) ?_
      refine lv_bipush (v := (8 : Int32)) hx hb dX4_cascade_87 (by decide) ?_
      refine mx_bi w (va_runV (As := [.int (nI 8)]) (rest := [.int (v 1 12)]) X (mt_setting l G A pp M0 v 8  (by first | omega | assumption)) (cwV 1 X.2.2.2.2 (lw_V q2078 q2080 qs47 q113 q2081) rfl rfl rfl (by decide +kernel) ⟨by rw [hRf]; decide, by rw [hRl]; decide⟩) (mx_preV w hM hM.2.1 rfl) rfl rfl hl.1 rfl (lv_room (Nat.le_of_ble_eq_true rfl)) dX4_cascade_89 ⟨Nat.zero_le _, Nat.zero_le _⟩) (fun r M H locs hp w => ?_)
      obtain ⟨rfl, hM⟩ := hp
      refine lv_icmp_lt (tgt := 115) hx hb dX4_cascade_92 (by decide) (fun c_92 => ?_) (fun c_92 => ?_)
      · rw [if_pos c_92] at E
        exact J115 v M H locs ls E (lv_sub hl [] rfl) w hM
      · rw [if_neg c_92] at E
        obtain ⟨hj1, hj2⟩ := isP_n hI.var (hsl c_92) hI.n6
        refine lv_aload_n hx hb dX4_cascade_95 rfl (lv_at hl 0 rfl) ?_
        refine lv_aload_n hx hb dX4_cascade_96 rfl (lv_at hl 0 rfl) ?_
        refine mx_get (v := .ref (pp 1)) X w in_X4 (ci := 3) rfl 0 (by decide) q2011 (fun _ h => h) hM.2.1 rfl dX4_cascade_97 ?_
        refine lv_iconst (v := (4 : Int32)) hx hb dX4_cascade_100 (by decide) ?_
        refine md_ald X w hM 1 (by decide) (by decide) 4 rfl (show 4 < 170 by decide) dX4_cascade_101 ?_
        refine mx_cast (z := nI (tN (v 1 4))) (hj1) ?_
        refine mx_bv w (va_runV (As := [.int (nI (tN (v 1 4)))]) (rest := []) X (mt_stop l G A pp M0 v (tN (v 1 4)) T np nz ng (by first | omega | assumption) (by first | omega | assumption)) (cwV 1 X.2.2.2.2 (lw_V q2114 q2116 qs53 q113 q2117) rfl rfl rfl (by decide +kernel) ⟨by rw [hRf]; decide, by rw [hRl]; decide⟩) (mx_preV w hM hM.2.1 rfl) rfl rfl hl.1 rfl (lv_room (Nat.le_of_ble_eq_true rfl)) dX4_cascade_102 ⟨Nat.zero_le _, Nat.zero_le _⟩) (fun M H locs hM w => ?_)
        rw [mf_cascade_c102] at E
        obtain ⟨v_102, ev_102⟩ : ∃ y, y = (mf_stop v (tN (v 1 4))) := ⟨_, rfl⟩
        rw [← ev_102] at E hM
        refine lv_aload_n hx hb dX4_cascade_105 rfl (lv_at hl 0 rfl) ?_
        refine lv_iconst (v := (2 : Int32)) hx hb dX4_cascade_106 (by decide) ?_
        refine lv_iconst (v := (-1 : Int32)) hx hb dX4_cascade_107 (by decide) ?_
        refine mx_bv w (va_runV (As := [.int (2 : Int32), .int (-1 : Int32)]) (rest := []) X (mt_event l G A pp M0 v_102 (2 : Int32) (-1 : Int32)  ) (cwV 2 X.2.2.2.2 (lw_V q2122 q2124 qs55 q113 q2125) rfl rfl rfl (by decide +kernel) ⟨by rw [hRf]; decide, by rw [hRl]; decide⟩) (mx_preV w hM hM.2.1 rfl) rfl rfl hl.1 rfl (lv_room (Nat.le_of_ble_eq_true rfl)) dX4_cascade_108 ⟨Nat.zero_le _, Nat.zero_le _⟩) (fun M H locs hM w => ?_)
        rw [mf_cascade_c108] at E
        obtain ⟨v_108, ev_108⟩ : ∃ y, y = (mf_event v_102 (2 : Int32) (-1 : Int32)) := ⟨_, rfl⟩
        rw [← ev_108] at E hM
        refine lv_aload_n hx hb dX4_cascade_111 rfl (lv_at hl 0 rfl) ?_
        refine mx_bv w (va_runV (As := []) (rest := []) X (mt_beginAnew l G A pp M0 v_108   ) (cwV 0 X.2.2.2.2 (lw_V q2266 q2268 qs76 q113 q2269) rfl rfl rfl (by decide +kernel) ⟨by rw [hRf]; decide, by rw [hRl]; decide⟩) (mx_preV w hM hM.2.1 rfl) rfl rfl hl.1 rfl (lv_room (Nat.le_of_ble_eq_true rfl)) dX4_cascade_112 ⟨Nat.zero_le _, Nat.zero_le _⟩) (fun M H locs hM w => ?_)
        rw [mf_cascade_c112] at E
        obtain ⟨v_112, ev_112⟩ : ∃ y, y = (mf_beginAnew v_108 ) := ⟨_, rfl⟩
        rw [← ev_112] at E hM
        exact J115 v_112 M H locs ls E (lv_sub hl [] rfl) w hM
    refine lv_icmp_lt (tgt := 79) hx hb dX4_cascade_53 (by decide) (fun c_53 => ?_) (fun c_53 => ?_)
    · rw [if_pos c_53] at E
      exact J79  M H locs ls E (lv_sub hl [0] rfl) w hM
    · rw [if_neg c_53] at E
      refine lv_aload_n hx hb dX4_cascade_56 rfl (lv_at hl 0 rfl) ?_
      refine mx_bi w (va_runV (As := []) (rest := []) X (mt_longest l G A pp M0 v  np (hI.enp) (hI.n6)) (cwV 0 X.2.2.2.2 (lw_V q2298 q2300 qs84 q113 q2301) rfl rfl rfl (by decide +kernel) ⟨by rw [hRf]; decide, by rw [hRl]; decide⟩) (mx_preV w hM hM.2.1 rfl) rfl rfl hl.1 rfl (lv_room (Nat.le_of_ble_eq_true rfl)) dX4_cascade_57 ⟨Nat.zero_le _, Nat.zero_le _⟩) (fun r M H locs hp w => ?_)
      obtain ⟨rfl, hM⟩ := hp
      refine lv_iconst (v := (-1 : Int32)) hx hb dX4_cascade_60 (by decide) ?_
      refine lv_icmp_eq (tgt := 79) hx hb dX4_cascade_61 (by decide) (fun c_61 => ?_) (fun c_61 => ?_)
      · rw [if_pos c_61] at E
        exact J79  M H locs ls E (lv_sub hl [0] rfl) w hM
      · rw [if_neg c_61] at E
        obtain ⟨hj1, hj2⟩ := isP_n (longest_P hI.cp) c_61 hI.n6
        refine lv_aload_n hx hb dX4_cascade_64 rfl (lv_at hl 0 rfl) ?_
        refine lv_aload_n hx hb dX4_cascade_65 rfl (lv_at hl 0 rfl) ?_
        refine mx_bi w (va_runV (As := []) (rest := [.ref (pp 0)]) X (mt_longest l G A pp M0 v  np (hI.enp) (hI.n6)) (cwV 0 X.2.2.2.2 (lw_V q2298 q2300 qs84 q113 q2301) rfl rfl rfl (by decide +kernel) ⟨by rw [hRf]; decide, by rw [hRl]; decide⟩) (mx_preV w hM hM.2.1 rfl) rfl rfl hl.1 rfl (lv_room (Nat.le_of_ble_eq_true rfl)) dX4_cascade_66 ⟨Nat.zero_le _, Nat.zero_le _⟩) (fun r M H locs hp w => ?_)
        obtain ⟨rfl, hM⟩ := hp
        refine mx_cast (z := nI (tN (mf_longest v))) (hj1) ?_
        refine mx_bv w (va_runV (As := [.int (nI (tN (mf_longest v)))]) (rest := []) X (mt_stop l G A pp M0 v (tN (mf_longest v)) T np nz ng (by first | omega | assumption) (by first | omega | assumption)) (cwV 1 X.2.2.2.2 (lw_V q2114 q2116 qs53 q113 q2117) rfl rfl rfl (by decide +kernel) ⟨by rw [hRf]; decide, by rw [hRl]; decide⟩) (mx_preV w hM hM.2.1 rfl) rfl rfl hl.1 rfl (lv_room (Nat.le_of_ble_eq_true rfl)) dX4_cascade_69 ⟨Nat.zero_le _, Nat.zero_le _⟩) (fun M H locs hM w => ?_)
        rw [mf_cascade_c69] at E
        obtain ⟨v_69, ev_69⟩ : ∃ y, y = (mf_stop v (tN (mf_longest v))) := ⟨_, rfl⟩
        rw [← ev_69] at E hM
        refine lv_aload_n hx hb dX4_cascade_72 rfl (lv_at hl 0 rfl) ?_
        refine mx_bv w (va_runV (As := []) (rest := []) X (mt_beginAnew l G A pp M0 v_69   ) (cwV 0 X.2.2.2.2 (lw_V q2266 q2268 qs76 q113 q2269) rfl rfl rfl (by decide +kernel) ⟨by rw [hRf]; decide, by rw [hRl]; decide⟩) (mx_preV w hM hM.2.1 rfl) rfl rfl hl.1 rfl (lv_room (Nat.le_of_ble_eq_true rfl)) dX4_cascade_73 ⟨Nat.zero_le _, Nat.zero_le _⟩) (fun M H locs hM w => ?_)
        rw [mf_cascade_c73] at E
        obtain ⟨v_73, ev_73⟩ : ∃ y, y = (mf_beginAnew v_69 ) := ⟨_, rfl⟩
        rw [← ev_73] at E hM
        refine lv_goto (tgt := 115) hx hb dX4_cascade_76 (by decide) ?_
        exact J115 v_73 M H locs ls E (lv_sub hl [] rfl) w hM
  refine lv_icmp_lt (tgt := 40) hx hb dX4_cascade_12 (by decide) (fun c_12 => ?_) (fun c_12 => ?_)
  · rw [if_pos c_12] at E
    exact J40  M H locs ls E (lv_sub hl [0] rfl) w hM
  · rw [if_neg c_12] at E
    refine lv_aload_n hx hb dX4_cascade_15 rfl (lv_at hl 0 rfl) ?_
    refine lv_iconst (v := (0 : Int32)) hx hb dX4_cascade_16 (by decide) ?_
    refine mx_bi w (va_runV (As := [.int (0 : Int32)]) (rest := []) X (mt_ready l G A pp M0 v (0 : Int32) np (hI.enp) (hI.n6)) (cwV 1 X.2.2.2.2 (lw_V q2147 q2149 qs57 q113 q2150) rfl rfl rfl (by decide +kernel) ⟨by rw [hRf]; decide, by rw [hRl]; decide⟩) (mx_preV w hM hM.2.1 rfl) rfl rfl hl.1 rfl (lv_room (Nat.le_of_ble_eq_true rfl)) dX4_cascade_17 ⟨Nat.zero_le _, Nat.zero_le _⟩) (fun r M H locs hp w => ?_)
    obtain ⟨rfl, hM⟩ := hp
    refine lv_iconst (v := (-1 : Int32)) hx hb dX4_cascade_20 (by decide) ?_
    refine lv_icmp_eq (tgt := 40) hx hb dX4_cascade_21 (by decide) (fun c_21 => ?_) (fun c_21 => ?_)
    · rw [if_pos c_21] at E
      exact J40  M H locs ls E (lv_sub hl [0] rfl) w hM
    · rw [if_neg c_21] at E
      obtain ⟨hj1, hj2⟩ := isP_n (ready_P 0 hI.cp) c_21 hI.n6
      refine lv_aload_n hx hb dX4_cascade_24 rfl (lv_at hl 0 rfl) ?_
      refine lv_aload_n hx hb dX4_cascade_25 rfl (lv_at hl 0 rfl) ?_
      refine lv_iconst (v := (0 : Int32)) hx hb dX4_cascade_26 (by decide) ?_
      refine mx_bi w (va_runV (As := [.int (0 : Int32)]) (rest := [.ref (pp 0)]) X (mt_ready l G A pp M0 v (0 : Int32) np (hI.enp) (hI.n6)) (cwV 1 X.2.2.2.2 (lw_V q2147 q2149 qs57 q113 q2150) rfl rfl rfl (by decide +kernel) ⟨by rw [hRf]; decide, by rw [hRl]; decide⟩) (mx_preV w hM hM.2.1 rfl) rfl rfl hl.1 rfl (lv_room (Nat.le_of_ble_eq_true rfl)) dX4_cascade_27 ⟨Nat.zero_le _, Nat.zero_le _⟩) (fun r M H locs hp w => ?_)
      obtain ⟨rfl, hM⟩ := hp
      refine mx_cast (z := nI (tN (mf_ready v 0))) (hj1) ?_
      refine mx_bv w (va_runV (As := [.int (nI (tN (mf_ready v 0)))]) (rest := []) X (mt_start l G A pp M0 v (tN (mf_ready v 0)) T np nz ng (by first | omega | assumption) (by first | omega | assumption)) (cwV 1 X.2.2.2.2 (lw_V q2274 q2276 qs78 q113 q2277) rfl rfl rfl (by decide +kernel) ⟨by rw [hRf]; decide, by rw [hRl]; decide⟩) (mx_preV w hM hM.2.1 rfl) rfl rfl hl.1 rfl (lv_room (Nat.le_of_ble_eq_true rfl)) dX4_cascade_30 ⟨Nat.zero_le _, Nat.zero_le _⟩) (fun M H locs hM w => ?_)
      rw [mf_cascade_c30] at E
      obtain ⟨v_30, ev_30⟩ : ∃ y, y = (mf_start v (tN (mf_ready v 0))) := ⟨_, rfl⟩
      rw [← ev_30] at E hM
      refine lv_aload_n hx hb dX4_cascade_33 rfl (lv_at hl 0 rfl) ?_
      refine mx_bv w (va_runV (As := []) (rest := []) X (mt_beginAnew l G A pp M0 v_30   ) (cwV 0 X.2.2.2.2 (lw_V q2266 q2268 qs76 q113 q2269) rfl rfl rfl (by decide +kernel) ⟨by rw [hRf]; decide, by rw [hRl]; decide⟩) (mx_preV w hM hM.2.1 rfl) rfl rfl hl.1 rfl (lv_room (Nat.le_of_ble_eq_true rfl)) dX4_cascade_34 ⟨Nat.zero_le _, Nat.zero_le _⟩) (fun M H locs hM w => ?_)
      rw [mf_cascade_c34] at E
      obtain ⟨v_34, ev_34⟩ : ∃ y, y = (mf_beginAnew v_30 ) := ⟨_, rfl⟩
      rw [← ev_34] at E hM
      refine lv_goto (tgt := 115) hx hb dX4_cascade_37 (by decide) ?_
      exact J115 v_34 M H locs ls E (lv_sub hl [] rfl) w hM
def mf_rotate_37 (v : (Nat → Nat → Int32))  : (Nat → Nat → Int32) := v
def mf_rotate_158 (v : (Nat → Nat → Int32)) (rc_42 : Int32 → Nat → (Nat → Nat → Int32)) (i2_42 : Int32) (n3_42 : Nat) (v_158 : (Nat → Nat → Int32)) : (Nat → Nat → Int32) := v_158
def mf_rotate_c155 (v : (Nat → Nat → Int32)) (rc_42 : Int32 → Nat → (Nat → Nat → Int32)) (i2_42 : Int32) (n3_42 : Nat) (v_143 : (Nat → Nat → Int32)) (v_150 : (Nat → Nat → Int32)) (v_155 : (Nat → Nat → Int32)) : (Nat → Nat → Int32) := (mf_rotate_158 v rc_42 i2_42 n3_42 v_155)
def mf_rotate_c150 (v : (Nat → Nat → Int32)) (rc_42 : Int32 → Nat → (Nat → Nat → Int32)) (i2_42 : Int32) (n3_42 : Nat) (v_143 : (Nat → Nat → Int32)) (v_150 : (Nat → Nat → Int32)) : (Nat → Nat → Int32) := (mf_rotate_c155 v rc_42 i2_42 n3_42 v_143 v_150 (mf_stop v_150 (tN (v 1 4))))
def mf_rotate_c143 (v : (Nat → Nat → Int32)) (rc_42 : Int32 → Nat → (Nat → Nat → Int32)) (i2_42 : Int32) (n3_42 : Nat) (v_143 : (Nat → Nat → Int32)) : (Nat → Nat → Int32) := (mf_rotate_c150 v rc_42 i2_42 n3_42 v_143 (mf_event v_143 (7 : Int32) i2_42))
def mf_rotate_122 (v : (Nat → Nat → Int32)) (rc_42 : Int32 → Nat → (Nat → Nat → Int32)) (i2_42 : Int32) (n3_42 : Nat) (bs0_90 : Bool) (is0_122 : Int32) : (Nat → Nat → Int32) := ( rc_42 is0_122 (n3_42 + 1))
def mf_rotate_121 (v : (Nat → Nat → Int32)) (rc_42 : Int32 → Nat → (Nat → Nat → Int32)) (i2_42 : Int32) (n3_42 : Nat) (bs0_90 : Bool)  : (Nat → Nat → Int32) := (mf_rotate_122 v rc_42 i2_42 n3_42 bs0_90 i2_42)
def mf_rotate_117 (v : (Nat → Nat → Int32)) (rc_42 : Int32 → Nat → (Nat → Nat → Int32)) (i2_42 : Int32) (n3_42 : Nat) (bs0_90 : Bool)  : (Nat → Nat → Int32) := (mf_rotate_122 v rc_42 i2_42 n3_42 bs0_90 (nI n3_42))
def mf_rotate_90 (v : (Nat → Nat → Int32)) (rc_42 : Int32 → Nat → (Nat → Nat → Int32)) (i2_42 : Int32) (n3_42 : Nat) (bs0_90 : Bool) : (Nat → Nat → Int32) := (if bs0_90 = true then (if i2_42 = (-1 : Int32) then (mf_rotate_117 v rc_42 i2_42 n3_42 bs0_90 ) else (if (mf_of v (tN i2_42) 5) ≤ (mf_of v n3_42 5) then (mf_rotate_121 v rc_42 i2_42 n3_42 bs0_90 ) else (mf_rotate_117 v rc_42 i2_42 n3_42 bs0_90 ))) else (mf_rotate_121 v rc_42 i2_42 n3_42 bs0_90 ))
def mf_rotate_89 (v : (Nat → Nat → Int32)) (rc_42 : Int32 → Nat → (Nat → Nat → Int32)) (i2_42 : Int32) (n3_42 : Nat)  : (Nat → Nat → Int32) := (mf_rotate_90 v rc_42 i2_42 n3_42 false)
def mf_rotate_42 (v : (Nat → Nat → Int32)) : Nat → Int32 → Nat → (Nat → Nat → Int32)
  | 0, _, _ => v
  | n_42 + 1, i2_42, n3_42 => (if (nC (v 1) 14) ≤ n3_42 then (if i2_42 = (-1 : Int32) then (mf_rotate_158 v (mf_rotate_42 v n_42) i2_42 n3_42 v) else (mf_rotate_c143 v (mf_rotate_42 v n_42) i2_42 n3_42 (mf_begins v (tN i2_42) (mf_of v (tN (v 1 4)) 4) true))) else (if (mf_isReady v n3_42) = true then (if (mf_of v n3_42 0) = 0 then (mf_rotate_89 v (mf_rotate_42 v n_42) i2_42 n3_42 ) else (if (mf_of v (tN (v 1 4)) 5) ≤ (mf_of v n3_42 5) then (mf_rotate_89 v (mf_rotate_42 v n_42) i2_42 n3_42 ) else (mf_rotate_90 v (mf_rotate_42 v n_42) i2_42 n3_42 true))) else (mf_rotate_89 v (mf_rotate_42 v n_42) i2_42 n3_42 )))
def mf_rotate (v : (Nat → Nat → Int32)) : (Nat → Nat → Int32) := (if (mf_setting v 18) = 0 then (mf_rotate_37 v ) else (if (v 1 4) = (-1 : Int32) then (mf_rotate_37 v ) else (if (mf_setting v 18) ≤ (mf_of v (tN (v 1 4)) 6) then (mf_rotate_42 v 7 (-1 : Int32) 0) else (mf_rotate_37 v ))))
set_option maxHeartbeats 4000000 in
set_option maxRecDepth 100000 in
theorem mt_rotate (l : Launch) (G : mg) (A : Nat → Prop) (pp : Nat → Nat) (M0 : mh) (v : Nat → Nat → Int32)  (T np nz ng : Nat) (hI : IP T np nz ng (v 1)) : Met l yX4_rotate (ws_ yX4_rotate cX4_rotate 5 (none)) ({ frames := 4, cells := 0, slots := 0, locals := 87 }) (va_Pc [.ref (pp 0)] (mU G A (fun M => Mdl G pp M0 M v))) (mQv G A (fun M => Mdl G pp M0 M (mf_rotate v))) 0 0 A := by
  refine mx_ofv (by decide) (Nat.le_of_ble_eq_true rfl) ?_
  intro p e R s m av below meth c M H Q ls X hRf hRl hRc hRs hin hM w fin hl
  have X : CallFix p m c cX4_rotate 5 s av lw_all "FieldPumpsModel" := X
  have hx := X.1
  have hb := X.2.1
  have hl : lv_has ls 5 [(0, .ref (pp 0))] := hl
  have hRf : R.frames = 4 := hRf
  have hRl : R.locals = 87 := hRl
  generalize ([] : List Loc) = locs at w ⊢
  generalize E : mf_rotate v = z at fin
  rw [mf_rotate] at E
  have hb6 := hI.b
  have hcp := hI.cp
  have hcz := hI.cz
  have hcg := hI.cg
  refine lv_aload_n hx hb dX4_rotate_0 rfl (lv_at hl 0 rfl) ?_
  refine mx_get (v := .ref (pp 1)) X w in_X4 (ci := 3) rfl 0 (by decide) q2011 (fun _ h => h) hM.2.1 rfl dX4_rotate_1 ?_
  refine lv_iconst (v := (4 : Int32)) hx hb dX4_rotate_4 (by decide) ?_
  refine md_ald X w hM 1 (by decide) (by decide) 4 rfl (show 4 < 170 by decide) dX4_rotate_5 ?_
  refine lv_istore_n (lv' := [(1, .int (v 1 4)), (0, .ref (pp 0))]) hx hb dX4_rotate_6 rfl hl (by decide) rfl (fun ls hl => ?_)
  refine lv_aload_n hx hb dX4_rotate_7 rfl (lv_at hl 1 rfl) ?_
  refine lv_bipush (v := (18 : Int32)) hx hb dX4_rotate_8 (by decide) ?_
  refine mx_bi w (va_runV (As := [.int (nI 18)]) (rest := []) X (mt_setting l G A pp M0 v 18  (by first | omega | assumption)) (cwV 1 X.2.2.2.2 (lw_V q2078 q2080 qs47 q113 q2081) rfl rfl rfl (by decide +kernel) ⟨by rw [hRf]; decide, by rw [hRl]; decide⟩) (mx_preV w hM hM.2.1 rfl) rfl rfl hl.1 rfl (lv_room (Nat.le_of_ble_eq_true rfl)) dX4_rotate_10 ⟨Nat.zero_le _, Nat.zero_le _⟩) (fun r M H locs hp w => ?_)
  obtain ⟨rfl, hM⟩ := hp
  have J37 : ∀  (M : mh) (H : Heap) (locs : List Loc) (ls : Array Slot), mf_rotate_37 v  = z → lv_has ls 5 [] → mW G A s M H locs → Mdl G pp M0 M v → W p l e R s m av below meth c H locs 0 0 Q (F0 m 37 ls []) := by
    intro  M H locs ls  E hl w hM
    rw [mf_rotate_37] at E
    exact fin M H locs ls 37 dX4_rotate_37 (by rw [← E]; exact hM) w
  refine lv_if_eq (tgt := 37) hx hb dX4_rotate_13 (by decide) (fun c_13 => ?_) (fun c_13 => ?_)
  · rw [if_pos c_13] at E
    exact J37  M H locs ls E (lv_sub hl [] rfl) w hM
  · rw [if_neg c_13] at E
    refine lv_iload_n hx hb dX4_rotate_16 rfl (lv_at hl 0 rfl) ?_
    refine lv_iconst (v := (-1 : Int32)) hx hb dX4_rotate_17 (by decide) ?_
    refine lv_icmp_eq (tgt := 37) hx hb dX4_rotate_18 (by decide) (fun c_18 => ?_) (fun c_18 => ?_)
    · rw [if_pos c_18] at E
      exact J37  M H locs ls E (lv_sub hl [] rfl) w hM
    · rw [if_neg c_18] at E
      obtain ⟨hj1, hj2⟩ := isP_n hI.var c_18 hI.n6
      refine lv_aload_n hx hb dX4_rotate_21 rfl (lv_at hl 1 rfl) ?_
      refine lv_iload_n hx hb dX4_rotate_22 rfl (lv_at hl 0 rfl) ?_
      refine mx_cast (z := nI (tN (v 1 4))) (hj1) ?_
      refine lv_bipush (v := (6 : Int32)) hx hb dX4_rotate_23 (by decide) ?_
      refine mx_bi w (va_runV (As := [.int (nI (tN (v 1 4))), .int (nI 6)]) (rest := []) X (mt_of l G A pp M0 v (tN (v 1 4)) 6  (by first | omega | assumption) (by first | omega | assumption)) (cwV 2 X.2.2.2.2 (lw_V q2101 q2103 qs50 q113 q2104) rfl rfl rfl (by decide +kernel) ⟨by rw [hRf]; decide, by rw [hRl]; decide⟩) (mx_preV w hM hM.2.1 rfl) rfl rfl hl.1 rfl (lv_room (Nat.le_of_ble_eq_true rfl)) dX4_rotate_25 ⟨Nat.zero_le _, Nat.zero_le _⟩) (fun r M H locs hp w => ?_)
      obtain ⟨rfl, hM⟩ := hp
      refine lv_aload_n hx hb dX4_rotate_28 rfl (lv_at hl 1 rfl) ?_
      refine lv_bipush (v := (18 : Int32)) hx hb dX4_rotate_29 (by decide) ?_
      refine mx_bi w (va_runV (As := [.int (nI 18)]) (rest := [.int (mf_of v (tN (v 1 4)) 6)]) X (mt_setting l G A pp M0 v 18  (by first | omega | assumption)) (cwV 1 X.2.2.2.2 (lw_V q2078 q2080 qs47 q113 q2081) rfl rfl rfl (by decide +kernel) ⟨by rw [hRf]; decide, by rw [hRl]; decide⟩) (mx_preV w hM hM.2.1 rfl) rfl rfl hl.1 rfl (lv_room (Nat.le_of_ble_eq_true rfl)) dX4_rotate_31 ⟨Nat.zero_le _, Nat.zero_le _⟩) (fun r M H locs hp w => ?_)
      obtain ⟨rfl, hM⟩ := hp
      refine lv_icmp_ge (tgt := 38) hx hb dX4_rotate_34 (by decide) (fun c_34 => ?_) (fun c_34 => ?_)
      · rw [if_pos c_34] at E
        refine lv_iconst (v := (-1 : Int32)) hx hb dX4_rotate_38 (by decide) ?_
        refine lv_istore_n (lv' := [(2, .int (-1 : Int32)), (1, .int (v 1 4)), (0, .ref (pp 0))]) hx hb dX4_rotate_39 rfl hl (by decide) rfl (fun ls hl => ?_)
        refine lv_iconst (v := (0 : Int32)) hx hb dX4_rotate_40 (by decide) ?_
        refine lv_istore_n (lv' := [(3, .int (0 : Int32)), (2, .int (-1 : Int32)), (1, .int (v 1 4)), (0, .ref (pp 0))]) hx hb dX4_rotate_41 rfl hl (by decide) rfl (fun ls hl => ?_)
        have L42 : ∀ (n_42 : Nat) (i2_42 : Int32) (n3_42 : Nat) (M : mh) (H : Heap) (locs : List Loc) (ls : Array Slot), (hb1 : isP np i2_42) → (hi : n3_42 ≤ np) → (hm : np < n3_42 + n_42) → mf_rotate_42 v n_42 i2_42 n3_42 = z → lv_has ls 5 [(1, .int (v 1 4)), (0, .ref (pp 0)), (2, .int i2_42), (3, .int (nI n3_42))] → mW G A s M H locs → Mdl G pp M0 M v → W p l e R s m av below meth c H locs 0 0 Q (F0 m 42 ls []) := by
          intro n_42
          induction n_42 with
          | zero =>
            intro i2_42 n3_42 M H locs ls hb1 hi hm E hl w hM
            exfalso; omega
          | succ n_42 ih_42 =>
            intro i2_42 n3_42 M H locs ls hb1 hi hm E hl w hM
            rw [mf_rotate_42] at E
            refine lv_iload_n hx hb dX4_rotate_42 rfl (lv_at hl 3 rfl) ?_
            refine lv_aload_n hx hb dX4_rotate_43 rfl (lv_at hl 1 rfl) ?_
            refine mx_get (v := .ref (pp 1)) X w in_X4 (ci := 3) rfl 0 (by decide) q2011 (fun _ h => h) hM.2.1 rfl dX4_rotate_44 ?_
            refine lv_bipush (v := (14 : Int32)) hx hb dX4_rotate_47 (by decide) ?_
            refine md_ald X w hM 1 (by decide) (by decide) 14 rfl (show 14 < 170 by decide) dX4_rotate_49 ?_
            refine mx_cast (z := nI (nC (v 1) 14)) (by rw [hcp]; exact hI.enp) ?_
            refine mx_nge (u := n3_42) (v := (nC (v 1) 14)) (tgt := 129) hx hb rfl rfl (by omega) (by omega) dX4_rotate_50 (by decide) (fun c_50 => ?_) (fun c_50 => ?_)
            · rw [if_pos c_50] at E
              refine lv_iload_n hx hb dX4_rotate_129 rfl (lv_at hl 2 rfl) ?_
              refine lv_iconst (v := (-1 : Int32)) hx hb dX4_rotate_130 (by decide) ?_
              have J158 : ∀ (v_158 : (Nat → Nat → Int32)) (M : mh) (H : Heap) (locs : List Loc) (ls : Array Slot), mf_rotate_158 v (mf_rotate_42 v n_42) i2_42 n3_42 v_158 = z → lv_has ls 5 [] → mW G A s M H locs → Mdl G pp M0 M v_158 → W p l e R s m av below meth c H locs 0 0 Q (F0 m 158 ls []) := by
                intro v_158 M H locs ls  E hl w hM
                rw [mf_rotate_158] at E
                exact fin M H locs ls 158 dX4_rotate_158 (by rw [← E]; exact hM) w
              refine lv_icmp_eq (tgt := 158) hx hb dX4_rotate_131 (by decide) (fun c_131 => ?_) (fun c_131 => ?_)
              · rw [if_pos c_131] at E
                exact J158 v M H locs ls E (lv_sub hl [] rfl) w hM
              · rw [if_neg c_131] at E
                obtain ⟨hf1, hf2⟩ := isP_n hb1 c_131 hI.n6
                refine lv_aload_n hx hb dX4_rotate_134 rfl (lv_at hl 1 rfl) ?_
                refine lv_iload_n hx hb dX4_rotate_135 rfl (lv_at hl 2 rfl) ?_
                refine mx_cast (z := nI (tN i2_42)) (hf1) ?_
                refine lv_aload_n hx hb dX4_rotate_136 rfl (lv_at hl 1 rfl) ?_
                refine lv_iload_n hx hb dX4_rotate_137 rfl (lv_at hl 0 rfl) ?_
                refine mx_cast (z := nI (tN (v 1 4))) (hj1) ?_
                refine lv_iconst (v := (4 : Int32)) hx hb dX4_rotate_138 (by decide) ?_
                refine mx_bi w (va_runV (As := [.int (nI (tN (v 1 4))), .int (nI 4)]) (rest := [.int (nI (tN i2_42)), .ref (pp 0)]) X (mt_of l G A pp M0 v (tN (v 1 4)) 4  (by first | omega | assumption) (by first | omega | assumption)) (cwV 2 X.2.2.2.2 (lw_V q2101 q2103 qs50 q113 q2104) rfl rfl rfl (by decide +kernel) ⟨by rw [hRf]; decide, by rw [hRl]; decide⟩) (mx_preV w hM hM.2.1 rfl) rfl rfl hl.1 rfl (lv_room (Nat.le_of_ble_eq_true rfl)) dX4_rotate_139 ⟨Nat.zero_le _, Nat.zero_le _⟩) (fun r M H locs hp w => ?_)
                obtain ⟨rfl, hM⟩ := hp
                refine lv_iconst (v := (1 : Int32)) hx hb dX4_rotate_142 (by decide) ?_
                refine mx_bv w (va_runV (As := [.int (nI (tN i2_42)), .int (mf_of v (tN (v 1 4)) 4), .int (bI true)]) (rest := []) X (mt_begins l G A pp M0 v (tN i2_42) (mf_of v (tN (v 1 4)) 4) true  (by first | omega | assumption)) (cwV 3 X.2.2.2.2 (lw_V q2278 q2280 qs79 q113 q2281) rfl rfl rfl (by decide +kernel) ⟨by rw [hRf]; decide, by rw [hRl]; decide⟩) (mx_preV w hM hM.2.1 rfl) rfl rfl hl.1 rfl (lv_room (Nat.le_of_ble_eq_true rfl)) dX4_rotate_143 ⟨Nat.zero_le _, Nat.zero_le _⟩) (fun M H locs hM w => ?_)
                rw [mf_rotate_c143] at E
                obtain ⟨v_143, ev_143⟩ : ∃ y, y = (mf_begins v (tN i2_42) (mf_of v (tN (v 1 4)) 4) true) := ⟨_, rfl⟩
                rw [← ev_143] at E hM
                refine lv_aload_n hx hb dX4_rotate_146 rfl (lv_at hl 1 rfl) ?_
                refine lv_bipush (v := (7 : Int32)) hx hb dX4_rotate_147 (by decide) ?_
                refine lv_iload_n hx hb dX4_rotate_149 rfl (lv_at hl 2 rfl) ?_
                refine mx_bv w (va_runV (As := [.int (7 : Int32), .int i2_42]) (rest := []) X (mt_event l G A pp M0 v_143 (7 : Int32) i2_42  ) (cwV 2 X.2.2.2.2 (lw_V q2122 q2124 qs55 q113 q2125) rfl rfl rfl (by decide +kernel) ⟨by rw [hRf]; decide, by rw [hRl]; decide⟩) (mx_preV w hM hM.2.1 rfl) rfl rfl hl.1 rfl (lv_room (Nat.le_of_ble_eq_true rfl)) dX4_rotate_150 ⟨Nat.zero_le _, Nat.zero_le _⟩) (fun M H locs hM w => ?_)
                rw [mf_rotate_c150] at E
                obtain ⟨v_150, ev_150⟩ : ∃ y, y = (mf_event v_143 (7 : Int32) i2_42) := ⟨_, rfl⟩
                rw [← ev_150] at E hM
                have hI5 : IP T np nz ng (v_150 1) := by rw [ev_150, ev_143]; exact IP_event (IP_begins hf2 ((hI.pump hj2 (w := 4) (by decide)).2.2.2.2 rfl) hI)
                refine lv_aload_n hx hb dX4_rotate_153 rfl (lv_at hl 1 rfl) ?_
                refine lv_iload_n hx hb dX4_rotate_154 rfl (lv_at hl 0 rfl) ?_
                refine mx_cast (z := nI (tN (v 1 4))) (hj1) ?_
                refine mx_bv w (va_runV (As := [.int (nI (tN (v 1 4)))]) (rest := []) X (mt_stop l G A pp M0 v_150 (tN (v 1 4)) T np nz ng (by first | omega | assumption) (by first | omega | assumption)) (cwV 1 X.2.2.2.2 (lw_V q2114 q2116 qs53 q113 q2117) rfl rfl rfl (by decide +kernel) ⟨by rw [hRf]; decide, by rw [hRl]; decide⟩) (mx_preV w hM hM.2.1 rfl) rfl rfl hl.1 rfl (lv_room (Nat.le_of_ble_eq_true rfl)) dX4_rotate_155 ⟨Nat.zero_le _, Nat.zero_le _⟩) (fun M H locs hM w => ?_)
                rw [mf_rotate_c155] at E
                obtain ⟨v_155, ev_155⟩ : ∃ y, y = (mf_stop v_150 (tN (v 1 4))) := ⟨_, rfl⟩
                rw [← ev_155] at E hM
                exact J158 v_155 M H locs ls E (lv_sub hl [] rfl) w hM
            · rw [if_neg c_50] at E
              refine lv_aload_n hx hb dX4_rotate_53 rfl (lv_at hl 1 rfl) ?_
              refine lv_iload_n hx hb dX4_rotate_54 rfl (lv_at hl 3 rfl) ?_
              refine mx_bi w (va_runV (As := [.int (nI n3_42)]) (rest := []) X (mt_isReady l G A pp M0 v n3_42  (by first | omega | assumption)) (cwV 1 X.2.2.2.2 (lw_V q2151 q2153 qs58 q113 q2154) rfl rfl rfl (by decide +kernel) ⟨by rw [hRf]; decide, by rw [hRl]; decide⟩) (mx_preV w hM hM.2.1 rfl) rfl rfl hl.1 rfl (lv_room (Nat.le_of_ble_eq_true rfl)) dX4_rotate_55 ⟨Nat.zero_le _, Nat.zero_le _⟩) (fun r M H locs hp w => ?_)
              obtain ⟨rfl, hM⟩ := hp
              have J90 : ∀ (bs0_90 : Bool) (M : mh) (H : Heap) (locs : List Loc) (ls : Array Slot), mf_rotate_90 v (mf_rotate_42 v n_42) i2_42 n3_42 bs0_90 = z → lv_has ls 5 [(1, .int (v 1 4)), (0, .ref (pp 0)), (2, .int i2_42), (3, .int (nI n3_42))] → mW G A s M H locs → Mdl G pp M0 M v → W p l e R s m av below meth c H locs 0 0 Q (F0 m 90 ls [.int (bI bs0_90)]) := by
                intro bs0_90 M H locs ls  E hl w hM
                rw [mf_rotate_90] at E
                refine lv_istore (lv' := [(4, .int (bI bs0_90)), (1, .int (v 1 4)), (0, .ref (pp 0)), (2, .int i2_42), (3, .int (nI n3_42))]) hx hb dX4_rotate_90 hl (by decide) rfl (fun ls hl => ?_)
                refine lv_iload hx hb dX4_rotate_92 (lv_at hl 0 rfl) ?_
                have J122 : ∀ (is0_122 : Int32) (M : mh) (H : Heap) (locs : List Loc) (ls : Array Slot), (h122 : isP np is0_122) → mf_rotate_122 v (mf_rotate_42 v n_42) i2_42 n3_42 bs0_90 is0_122 = z → lv_has ls 5 [(1, .int (v 1 4)), (0, .ref (pp 0)), (3, .int (nI n3_42))] → mW G A s M H locs → Mdl G pp M0 M v → W p l e R s m av below meth c H locs 0 0 Q (F0 m 122 ls [.int is0_122]) := by
                  intro is0_122 M H locs ls h122 E hl w hM
                  rw [mf_rotate_122] at E
                  refine lv_istore_n (lv' := [(2, .int is0_122), (1, .int (v 1 4)), (0, .ref (pp 0)), (3, .int (nI n3_42))]) hx hb dX4_rotate_122 rfl hl (by decide) rfl (fun ls hl => ?_)
                  refine lv_iinc (v := (nI (n3_42 + 1))) (lv' := [(3, .int (nI (n3_42 + 1))), (2, .int is0_122), (1, .int (v 1 4)), (0, .ref (pp 0))]) hx hb dX4_rotate_123 hl (k := 3) rfl (nI_incr _ 1) (by decide) rfl (fun ls hl => ?_)
                  refine lv_goto (tgt := 42) hx hb dX4_rotate_126 (by decide) ?_
                  exact ih_42 is0_122 (n3_42 + 1) M H locs ls (by first | omega | assumption | exact h122) (by first | omega | assumption) (by first | omega | assumption) E (lv_sub hl [2, 3, 1, 0] rfl) w hM
                have J121 : ∀  (M : mh) (H : Heap) (locs : List Loc) (ls : Array Slot), mf_rotate_121 v (mf_rotate_42 v n_42) i2_42 n3_42 bs0_90  = z → lv_has ls 5 [(1, .int (v 1 4)), (0, .ref (pp 0)), (2, .int i2_42), (3, .int (nI n3_42))] → mW G A s M H locs → Mdl G pp M0 M v → W p l e R s m av below meth c H locs 0 0 Q (F0 m 121 ls []) := by
                  intro  M H locs ls  E hl w hM
                  rw [mf_rotate_121] at E
                  refine lv_iload_n hx hb dX4_rotate_121 rfl (lv_at hl 2 rfl) ?_
                  exact J122 i2_42 M H locs ls (by first | exact hb1 | exact isP_nI (by omega)) E (lv_sub hl [0, 1, 3] rfl) w hM
                refine mx_beq (tgt := 121) hx hb dX4_rotate_94 (by decide) (fun c_94 => ?_) (fun c_94 => ?_)
                · rw [if_neg c_94] at E
                  exact J121  M H locs ls E (lv_sub hl [1, 2, 3, 4] rfl) w hM
                · rw [if_pos c_94] at E
                  refine lv_iload_n hx hb dX4_rotate_97 rfl (lv_at hl 3 rfl) ?_
                  refine lv_iconst (v := (-1 : Int32)) hx hb dX4_rotate_98 (by decide) ?_
                  have J117 : ∀  (M : mh) (H : Heap) (locs : List Loc) (ls : Array Slot), mf_rotate_117 v (mf_rotate_42 v n_42) i2_42 n3_42 bs0_90  = z → lv_has ls 5 [(1, .int (v 1 4)), (0, .ref (pp 0)), (3, .int (nI n3_42))] → mW G A s M H locs → Mdl G pp M0 M v → W p l e R s m av below meth c H locs 0 0 Q (F0 m 117 ls []) := by
                    intro  M H locs ls  E hl w hM
                    rw [mf_rotate_117] at E
                    refine lv_iload_n hx hb dX4_rotate_117 rfl (lv_at hl 2 rfl) ?_
                    refine lv_goto (tgt := 122) hx hb dX4_rotate_118 (by decide) ?_
                    exact J122 (nI n3_42) M H locs ls (by first | exact hb1 | exact isP_nI (by omega)) E (lv_sub hl [0, 1, 2] rfl) w hM
                  refine lv_icmp_eq (tgt := 117) hx hb dX4_rotate_99 (by decide) (fun c_99 => ?_) (fun c_99 => ?_)
                  · rw [if_pos c_99] at E
                    exact J117  M H locs ls E (lv_sub hl [1, 2, 4] rfl) w hM
                  · rw [if_neg c_99] at E
                    obtain ⟨hg1, hg2⟩ := isP_n hb1 c_99 hI.n6
                    refine lv_aload_n hx hb dX4_rotate_102 rfl (lv_at hl 2 rfl) ?_
                    refine lv_iload_n hx hb dX4_rotate_103 rfl (lv_at hl 4 rfl) ?_
                    refine lv_iconst (v := (5 : Int32)) hx hb dX4_rotate_104 (by decide) ?_
                    refine mx_bi w (va_runV (As := [.int (nI n3_42), .int (nI 5)]) (rest := []) X (mt_of l G A pp M0 v n3_42 5  (by first | omega | assumption) (by first | omega | assumption)) (cwV 2 X.2.2.2.2 (lw_V q2101 q2103 qs50 q113 q2104) rfl rfl rfl (by decide +kernel) ⟨by rw [hRf]; decide, by rw [hRl]; decide⟩) (mx_preV w hM hM.2.1 rfl) rfl rfl hl.1 rfl (lv_room (Nat.le_of_ble_eq_true rfl)) dX4_rotate_105 ⟨Nat.zero_le _, Nat.zero_le _⟩) (fun r M H locs hp w => ?_)
                    obtain ⟨rfl, hM⟩ := hp
                    refine lv_aload_n hx hb dX4_rotate_108 rfl (lv_at hl 2 rfl) ?_
                    refine lv_iload_n hx hb dX4_rotate_109 rfl (lv_at hl 3 rfl) ?_
                    refine mx_cast (z := nI (tN i2_42)) (hg1) ?_
                    refine lv_iconst (v := (5 : Int32)) hx hb dX4_rotate_110 (by decide) ?_
                    refine mx_bi w (va_runV (As := [.int (nI (tN i2_42)), .int (nI 5)]) (rest := [.int (mf_of v n3_42 5)]) X (mt_of l G A pp M0 v (tN i2_42) 5  (by first | omega | assumption) (by first | omega | assumption)) (cwV 2 X.2.2.2.2 (lw_V q2101 q2103 qs50 q113 q2104) rfl rfl rfl (by decide +kernel) ⟨by rw [hRf]; decide, by rw [hRl]; decide⟩) (mx_preV w hM hM.2.1 rfl) rfl rfl hl.1 rfl (lv_room (Nat.le_of_ble_eq_true rfl)) dX4_rotate_111 ⟨Nat.zero_le _, Nat.zero_le _⟩) (fun r M H locs hp w => ?_)
                    obtain ⟨rfl, hM⟩ := hp
                    refine lv_icmp_ge (tgt := 121) hx hb dX4_rotate_114 (by decide) (fun c_114 => ?_) (fun c_114 => ?_)
                    · rw [if_pos c_114] at E
                      exact J121  M H locs ls E (lv_sub hl [1, 2, 3, 4] rfl) w hM
                    · rw [if_neg c_114] at E
                      exact J117  M H locs ls E (lv_sub hl [1, 2, 4] rfl) w hM
              have J89 : ∀  (M : mh) (H : Heap) (locs : List Loc) (ls : Array Slot), mf_rotate_89 v (mf_rotate_42 v n_42) i2_42 n3_42  = z → lv_has ls 5 [(1, .int (v 1 4)), (0, .ref (pp 0)), (2, .int i2_42), (3, .int (nI n3_42))] → mW G A s M H locs → Mdl G pp M0 M v → W p l e R s m av below meth c H locs 0 0 Q (F0 m 89 ls []) := by
                intro  M H locs ls  E hl w hM
                rw [mf_rotate_89] at E
                refine lv_iconst (v := (0 : Int32)) hx hb dX4_rotate_89 (by decide) ?_
                exact J90 false M H locs ls E (lv_sub hl [0, 1, 2, 3] rfl) w hM
              refine mx_beq (tgt := 89) hx hb dX4_rotate_58 (by decide) (fun c_58 => ?_) (fun c_58 => ?_)
              · rw [if_neg c_58] at E
                exact J89  M H locs ls E (lv_sub hl [0, 1, 2, 3] rfl) w hM
              · rw [if_pos c_58] at E
                refine lv_aload_n hx hb dX4_rotate_61 rfl (lv_at hl 1 rfl) ?_
                refine lv_iload_n hx hb dX4_rotate_62 rfl (lv_at hl 3 rfl) ?_
                refine lv_iconst (v := (0 : Int32)) hx hb dX4_rotate_63 (by decide) ?_
                refine mx_bi w (va_runV (As := [.int (nI n3_42), .int (nI 0)]) (rest := []) X (mt_of l G A pp M0 v n3_42 0  (by first | omega | assumption) (by first | omega | assumption)) (cwV 2 X.2.2.2.2 (lw_V q2101 q2103 qs50 q113 q2104) rfl rfl rfl (by decide +kernel) ⟨by rw [hRf]; decide, by rw [hRl]; decide⟩) (mx_preV w hM hM.2.1 rfl) rfl rfl hl.1 rfl (lv_room (Nat.le_of_ble_eq_true rfl)) dX4_rotate_64 ⟨Nat.zero_le _, Nat.zero_le _⟩) (fun r M H locs hp w => ?_)
                obtain ⟨rfl, hM⟩ := hp
                refine lv_if_eq (tgt := 89) hx hb dX4_rotate_67 (by decide) (fun c_67 => ?_) (fun c_67 => ?_)
                · rw [if_pos c_67] at E
                  exact J89  M H locs ls E (lv_sub hl [0, 1, 2, 3] rfl) w hM
                · rw [if_neg c_67] at E
                  refine lv_aload_n hx hb dX4_rotate_70 rfl (lv_at hl 1 rfl) ?_
                  refine lv_iload_n hx hb dX4_rotate_71 rfl (lv_at hl 3 rfl) ?_
                  refine lv_iconst (v := (5 : Int32)) hx hb dX4_rotate_72 (by decide) ?_
                  refine mx_bi w (va_runV (As := [.int (nI n3_42), .int (nI 5)]) (rest := []) X (mt_of l G A pp M0 v n3_42 5  (by first | omega | assumption) (by first | omega | assumption)) (cwV 2 X.2.2.2.2 (lw_V q2101 q2103 qs50 q113 q2104) rfl rfl rfl (by decide +kernel) ⟨by rw [hRf]; decide, by rw [hRl]; decide⟩) (mx_preV w hM hM.2.1 rfl) rfl rfl hl.1 rfl (lv_room (Nat.le_of_ble_eq_true rfl)) dX4_rotate_73 ⟨Nat.zero_le _, Nat.zero_le _⟩) (fun r M H locs hp w => ?_)
                  obtain ⟨rfl, hM⟩ := hp
                  refine lv_aload_n hx hb dX4_rotate_76 rfl (lv_at hl 1 rfl) ?_
                  refine lv_iload_n hx hb dX4_rotate_77 rfl (lv_at hl 0 rfl) ?_
                  refine mx_cast (z := nI (tN (v 1 4))) (hj1) ?_
                  refine lv_iconst (v := (5 : Int32)) hx hb dX4_rotate_78 (by decide) ?_
                  refine mx_bi w (va_runV (As := [.int (nI (tN (v 1 4))), .int (nI 5)]) (rest := [.int (mf_of v n3_42 5)]) X (mt_of l G A pp M0 v (tN (v 1 4)) 5  (by first | omega | assumption) (by first | omega | assumption)) (cwV 2 X.2.2.2.2 (lw_V q2101 q2103 qs50 q113 q2104) rfl rfl rfl (by decide +kernel) ⟨by rw [hRf]; decide, by rw [hRl]; decide⟩) (mx_preV w hM hM.2.1 rfl) rfl rfl hl.1 rfl (lv_room (Nat.le_of_ble_eq_true rfl)) dX4_rotate_79 ⟨Nat.zero_le _, Nat.zero_le _⟩) (fun r M H locs hp w => ?_)
                  obtain ⟨rfl, hM⟩ := hp
                  refine lv_icmp_ge (tgt := 89) hx hb dX4_rotate_82 (by decide) (fun c_82 => ?_) (fun c_82 => ?_)
                  · rw [if_pos c_82] at E
                    exact J89  M H locs ls E (lv_sub hl [0, 1, 2, 3] rfl) w hM
                  · rw [if_neg c_82] at E
                    refine lv_iconst (v := (1 : Int32)) hx hb dX4_rotate_85 (by decide) ?_
                    refine lv_goto (tgt := 90) hx hb dX4_rotate_86 (by decide) ?_
                    exact J90 true M H locs ls E (lv_sub hl [0, 1, 2, 3] rfl) w hM
        exact L42 7 (-1 : Int32) 0 M H locs ls (by first | omega | assumption | exact isP_m1) (by first | omega | assumption) (by first | omega | assumption) E (lv_sub hl [2, 3, 1, 0] rfl) w hM
      · rw [if_neg c_34] at E
        exact J37  M H locs ls E (lv_sub hl [] rfl) w hM
