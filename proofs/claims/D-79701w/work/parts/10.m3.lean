set_option maxRecDepth 100000
def mf_minute_c106 (v : (Nat → Nat → Int32)) (v_11 : (Nat → Nat → Int32)) (v_15 : (Nat → Nat → Int32)) (v_19 : (Nat → Nat → Int32)) (v_23 : (Nat → Nat → Int32)) (v_42 : (Nat → Nat → Int32)) (v_97 : (Nat → Nat → Int32)) (v_98 : (Nat → Nat → Int32)) (v_102 : (Nat → Nat → Int32)) (v_106 : (Nat → Nat → Int32)) : (Nat → Nat → Int32) := v_106
def mf_minute_c102 (v : (Nat → Nat → Int32)) (v_11 : (Nat → Nat → Int32)) (v_15 : (Nat → Nat → Int32)) (v_19 : (Nat → Nat → Int32)) (v_23 : (Nat → Nat → Int32)) (v_42 : (Nat → Nat → Int32)) (v_97 : (Nat → Nat → Int32)) (v_98 : (Nat → Nat → Int32)) (v_102 : (Nat → Nat → Int32)) : (Nat → Nat → Int32) := (mf_minute_c106 v v_11 v_15 v_19 v_23 v_42 v_97 v_98 v_102 (mf_rotate v_102 ))
def mf_minute_c98 (v : (Nat → Nat → Int32)) (v_11 : (Nat → Nat → Int32)) (v_15 : (Nat → Nat → Int32)) (v_19 : (Nat → Nat → Int32)) (v_23 : (Nat → Nat → Int32)) (v_42 : (Nat → Nat → Int32)) (v_97 : (Nat → Nat → Int32)) (v_98 : (Nat → Nat → Int32)) : (Nat → Nat → Int32) := (mf_minute_c102 v v_11 v_15 v_19 v_23 v_42 v_97 v_98 (mf_cascade v_98 ))
def mf_minute_97 (v : (Nat → Nat → Int32)) (v_11 : (Nat → Nat → Int32)) (v_15 : (Nat → Nat → Int32)) (v_19 : (Nat → Nat → Int32)) (v_23 : (Nat → Nat → Int32)) (v_42 : (Nat → Nat → Int32)) (v_97 : (Nat → Nat → Int32)) : (Nat → Nat → Int32) := (mf_minute_c98 v v_11 v_15 v_19 v_23 v_42 v_97 (mf_countAll v_97 ))
def mf_minute_c94 (v : (Nat → Nat → Int32)) (v_11 : (Nat → Nat → Int32)) (v_15 : (Nat → Nat → Int32)) (v_19 : (Nat → Nat → Int32)) (v_23 : (Nat → Nat → Int32)) (v_42 : (Nat → Nat → Int32)) (v_88 : (Nat → Nat → Int32)) (v_94 : (Nat → Nat → Int32)) : (Nat → Nat → Int32) := (mf_minute_97 v v_11 v_15 v_19 v_23 v_42 v_94)
def mf_minute_c88 (v : (Nat → Nat → Int32)) (v_11 : (Nat → Nat → Int32)) (v_15 : (Nat → Nat → Int32)) (v_19 : (Nat → Nat → Int32)) (v_23 : (Nat → Nat → Int32)) (v_42 : (Nat → Nat → Int32)) (v_88 : (Nat → Nat → Int32)) : (Nat → Nat → Int32) := (mf_minute_c94 v v_11 v_15 v_19 v_23 v_42 v_88 (mf_event v_88 (3 : Int32) (-1 : Int32)))
def mf_minute_c42 (v : (Nat → Nat → Int32)) (v_11 : (Nat → Nat → Int32)) (v_15 : (Nat → Nat → Int32)) (v_19 : (Nat → Nat → Int32)) (v_23 : (Nat → Nat → Int32)) (v_42 : (Nat → Nat → Int32)) : (Nat → Nat → Int32) := (if (mf_running v_42 ) = 0 then (if ((mf_setting v_42 0) - (mf_setting v_42 9)) ≤ (v_42 1 1) then (mf_minute_97 v v_11 v_15 v_19 v_23 v_42 v_42) else (if (mf_ready v_42 (0 : Int32)) = (-1 : Int32) then (mf_minute_97 v v_11 v_15 v_19 v_23 v_42 v_42) else (mf_minute_c88 v v_11 v_15 v_19 v_23 v_42 (mf_start v_42 (tN (mf_ready v_42 0)))))) else (mf_minute_97 v v_11 v_15 v_19 v_23 v_42 v_42))
def mf_minute_c37 (v : (Nat → Nat → Int32)) (v_11 : (Nat → Nat → Int32)) (v_15 : (Nat → Nat → Int32)) (v_19 : (Nat → Nat → Int32)) (v_23 : (Nat → Nat → Int32)) (v_37 : (Nat → Nat → Int32)) : (Nat → Nat → Int32) := v_37
def mf_minute_c23 (v : (Nat → Nat → Int32)) (v_11 : (Nat → Nat → Int32)) (v_15 : (Nat → Nat → Int32)) (v_19 : (Nat → Nat → Int32)) (v_23 : (Nat → Nat → Int32)) : (Nat → Nat → Int32) := (if (v_23 1 5) = (1 : Int32) then (mf_minute_c37 v v_11 v_15 v_19 v_23 (mf_beginAnew v_23 )) else (mf_minute_c42 v v_11 v_15 v_19 v_23 (mf_regulate v_23 )))
def mf_minute_c19 (v : (Nat → Nat → Int32)) (v_11 : (Nat → Nat → Int32)) (v_15 : (Nat → Nat → Int32)) (v_19 : (Nat → Nat → Int32)) : (Nat → Nat → Int32) := (mf_minute_c23 v v_11 v_15 v_19 (mf_dryness v_19 ))
def mf_minute_c15 (v : (Nat → Nat → Int32)) (v_11 : (Nat → Nat → Int32)) (v_15 : (Nat → Nat → Int32)) : (Nat → Nat → Int32) := (mf_minute_c19 v v_11 v_15 (mf_night v_15 ))
def mf_minute_c11 (v : (Nat → Nat → Int32)) (v_11 : (Nat → Nat → Int32)) : (Nat → Nat → Int32) := (mf_minute_c15 v v_11 (mf_water v_11 ))
def mf_minute (v : (Nat → Nat → Int32)) : (Nat → Nat → Int32) := (mf_minute_c11 v (mf_programmes (u2 v 1 0 ((v 1 0) + (1 : Int32))) ))
set_option maxHeartbeats 4000000 in
set_option maxRecDepth 100000 in
theorem mt_minute (l : Launch) (G : mg) (A : Nat → Prop) (pp : Nat → Nat) (M0 : mh) (v : Nat → Nat → Int32)  (T np nz ng : Nat) (hI : IP T np nz ng (v 1)) (hT : T < 1000000) : Met l yX4_minute (ws_ yX4_minute cX4_minute 1 (none)) ({ frames := 6, cells := 0, slots := 0, locals := 133 }) (va_Pc [.ref (pp 0)] (mU G A (fun M => Mdl G pp M0 M v))) (mQv G A (fun M => Mdl G pp M0 M (mf_minute v))) 0 0 A := by
  refine mx_ofv (by decide) (Nat.le_of_ble_eq_true rfl) ?_
  intro p e R s m av below meth c M H Q ls X hRf hRl hRc hRs hin hM w fin hl
  have X : CallFix p m c cX4_minute 1 s av lw_all "FieldPumpsModel" := X
  have hx := X.1
  have hb := X.2.1
  have hl : lv_has ls 1 [(0, .ref (pp 0))] := hl
  have hRf : R.frames = 6 := hRf
  have hRl : R.locals = 133 := hRl
  generalize ([] : List Loc) = locs at w ⊢
  generalize E : mf_minute v = z at fin
  rw [mf_minute] at E
  have hb6 := hI.b
  have hcp := hI.cp
  have hcz := hI.cz
  have hcg := hI.cg
  refine lv_aload_n hx hb dX4_minute_0 rfl (lv_at hl 0 rfl) ?_
  refine mx_get (v := .ref (pp 1)) X w in_X4 (ci := 3) rfl 0 (by decide) q2011 (fun _ h => h) hM.2.1 rfl dX4_minute_1 ?_
  refine lv_iconst (v := (0 : Int32)) hx hb dX4_minute_4 (by decide) ?_
  refine lv_dup2_11 hx hb dX4_minute_5 rfl rfl ?_
  refine md_ald X w hM 1 (by decide) (by decide) 0 rfl (show 0 < 170 by decide) dX4_minute_6 ?_
  refine lv_iconst (v := (1 : Int32)) hx hb dX4_minute_7 (by decide) ?_
  refine lv_iadd hx hb dX4_minute_8 ?_
  refine md_ast (x := ((v 1 0) + (1 : Int32))) X w hM 1 (by decide) (by decide) 0 rfl (show 0 < 170 by decide) dX4_minute_9 (fun M H locs w hM => ?_)
  refine lv_aload_n hx hb dX4_minute_10 rfl (lv_at hl 0 rfl) ?_
  refine mx_bv w (va_runV (As := []) (rest := []) X (mt_programmes l G A pp M0 (u2 v 1 0 ((v 1 0) + (1 : Int32)))  (T + 1) np nz ng (IP_time hI hT)) (cwV 0 X.2.2.2.2 (lw_V q2235 q2237 qs69 q113 q2238) rfl rfl rfl (by decide +kernel) ⟨by rw [hRf]; decide, by rw [hRl]; decide⟩) (mx_preV w hM hM.2.1 rfl) rfl rfl hl.1 rfl (lv_room (Nat.le_of_ble_eq_true rfl)) dX4_minute_11 ⟨Nat.zero_le _, Nat.zero_le _⟩) (fun M H locs hM w => ?_)
  rw [mf_minute_c11] at E
  obtain ⟨v_11, ev_11⟩ : ∃ y, y = (mf_programmes (u2 v 1 0 ((v 1 0) + (1 : Int32))) ) := ⟨_, rfl⟩
  rw [← ev_11] at E hM
  have hq1 : IP (T + 1) np nz ng (v_11 1) := by rw [ev_11]; exact IP_programmes (IP_time hI hT)
  refine lv_aload_n hx hb dX4_minute_14 rfl (lv_at hl 0 rfl) ?_
  refine mx_bv w (va_runV (As := []) (rest := []) X (mt_water l G A pp M0 v_11  (T + 1) np nz ng (hq1)) (cwV 0 X.2.2.2.2 (lw_V q2243 q2245 qs71 q113 q2246) rfl rfl rfl (by decide +kernel) ⟨by rw [hRf]; decide, by rw [hRl]; decide⟩) (mx_preV w hM hM.2.1 rfl) rfl rfl hl.1 rfl (lv_room (Nat.le_of_ble_eq_true rfl)) dX4_minute_15 ⟨Nat.zero_le _, Nat.zero_le _⟩) (fun M H locs hM w => ?_)
  rw [mf_minute_c15] at E
  obtain ⟨v_15, ev_15⟩ : ∃ y, y = (mf_water v_11 ) := ⟨_, rfl⟩
  rw [← ev_15] at E hM
  have hq2 : IP (T + 1) np nz ng (v_15 1) := by rw [ev_15]; exact IP_water hq1
  refine lv_aload_n hx hb dX4_minute_18 rfl (lv_at hl 0 rfl) ?_
  refine mx_bv w (va_runV (As := []) (rest := []) X (mt_night l G A pp M0 v_15  (nC (v_15 1) 18) (hq2.cn.1) (hq2.cn.2)) (cwV 0 X.2.2.2.2 (lw_V q2254 q2256 qs73 q113 q2257) rfl rfl rfl (by decide +kernel) ⟨by rw [hRf]; decide, by rw [hRl]; decide⟩) (mx_preV w hM hM.2.1 rfl) rfl rfl hl.1 rfl (lv_room (Nat.le_of_ble_eq_true rfl)) dX4_minute_19 ⟨Nat.zero_le _, Nat.zero_le _⟩) (fun M H locs hM w => ?_)
  rw [mf_minute_c19] at E
  obtain ⟨v_19, ev_19⟩ : ∃ y, y = (mf_night v_15 ) := ⟨_, rfl⟩
  rw [← ev_19] at E hM
  have hq3 : IP (T + 1) np nz ng (v_19 1) := by rw [ev_19]; exact IP_night hq2
  refine lv_aload_n hx hb dX4_minute_22 rfl (lv_at hl 0 rfl) ?_
  refine mx_bv w (va_runV (As := []) (rest := []) X (mt_dryness l G A pp M0 v_19  (T + 1) np nz ng (hq3)) (cwV 0 X.2.2.2.2 (lw_V q2262 q2264 qs75 q113 q2265) rfl rfl rfl (by decide +kernel) ⟨by rw [hRf]; decide, by rw [hRl]; decide⟩) (mx_preV w hM hM.2.1 rfl) rfl rfl hl.1 rfl (lv_room (Nat.le_of_ble_eq_true rfl)) dX4_minute_23 ⟨Nat.zero_le _, Nat.zero_le _⟩) (fun M H locs hM w => ?_)
  rw [mf_minute_c23] at E
  obtain ⟨v_23, ev_23⟩ : ∃ y, y = (mf_dryness v_19 ) := ⟨_, rfl⟩
  rw [← ev_23] at E hM
  have hq4 : IP (T + 1) np nz ng (v_23 1) := by rw [ev_23]; exact IP_dryness (by omega) hq3 (by rw [ev_19, night_fr (by decide) (by decide) (by decide) (by decide) (by decide), ev_15, water_fr (by decide) (by decide), ev_11, programmes_fr (by decide), u2_k (by decide)]; exact hI.trips)
  refine lv_aload_n hx hb dX4_minute_26 rfl (lv_at hl 0 rfl) ?_
  refine mx_get (v := .ref (pp 1)) X w in_X4 (ci := 3) rfl 0 (by decide) q2011 (fun _ h => h) hM.2.1 rfl dX4_minute_27 ?_
  refine lv_iconst (v := (5 : Int32)) hx hb dX4_minute_30 (by decide) ?_
  refine md_ald X w hM 1 (by decide) (by decide) 5 rfl (show 5 < 170 by decide) dX4_minute_31 ?_
  refine lv_iconst (v := (1 : Int32)) hx hb dX4_minute_32 (by decide) ?_
  refine lv_icmp_ne (tgt := 41) hx hb dX4_minute_33 (by decide) (fun c_33 => ?_) (fun c_33 => ?_)
  · rw [if_neg c_33] at E
    refine lv_aload_n hx hb dX4_minute_41 rfl (lv_at hl 0 rfl) ?_
    refine mx_bv w (va_runV (As := []) (rest := []) X (mt_regulate l G A pp M0 v_23  (T + 1) np nz ng (hq4)) (cwV 0 X.2.2.2.2 (lw_V q2270 q2272 qs77 q113 q2273) rfl rfl rfl (by decide +kernel) ⟨by rw [hRf]; decide, by rw [hRl]; decide⟩) (mx_preV w hM hM.2.1 rfl) rfl rfl hl.1 rfl (lv_room (Nat.le_of_ble_eq_true rfl)) dX4_minute_42 ⟨Nat.zero_le _, Nat.zero_le _⟩) (fun M H locs hM w => ?_)
    rw [mf_minute_c42] at E
    obtain ⟨v_42, ev_42⟩ : ∃ y, y = (mf_regulate v_23 ) := ⟨_, rfl⟩
    rw [← ev_42] at E hM
    have hq5 : IP (T + 1) np nz ng (v_42 1) := by rw [ev_42]; exact IP_regulate hq4
    refine lv_aload_n hx hb dX4_minute_45 rfl (lv_at hl 0 rfl) ?_
    refine mx_bi w (va_runV (As := []) (rest := []) X (mt_running l G A pp M0 v_42  np (hq5.enp) (hq5.n6)) (cwV 0 X.2.2.2.2 (lw_V q2159 q2161 qs60 q113 q2162) rfl rfl rfl (by decide +kernel) ⟨by rw [hRf]; decide, by rw [hRl]; decide⟩) (mx_preV w hM hM.2.1 rfl) rfl rfl hl.1 rfl (lv_room (Nat.le_of_ble_eq_true rfl)) dX4_minute_46 ⟨Nat.zero_le _, Nat.zero_le _⟩) (fun r M H locs hp w => ?_)
    obtain ⟨rfl, hM⟩ := hp
    have J97 : ∀ (v_97 : (Nat → Nat → Int32)) (M : mh) (H : Heap) (locs : List Loc) (ls : Array Slot), (hq97 : IP (T + 1) np nz ng (v_97 1)) → mf_minute_97 v v_11 v_15 v_19 v_23 v_42 v_97 = z → lv_has ls 1 [(0, .ref (pp 0))] → mW G A s M H locs → Mdl G pp M0 M v_97 → W p l e R s m av below meth c H locs 0 0 Q (F0 m 97 ls []) := by
      intro v_97 M H locs ls hq97 E hl w hM
      rw [mf_minute_97] at E
      refine lv_aload_n hx hb dX4_minute_97 rfl (lv_at hl 0 rfl) ?_
      refine mx_bv w (va_runV (As := []) (rest := []) X (mt_countAll l G A pp M0 v_97  (T + 1) np nz ng (hq97)) (cwV 0 X.2.2.2.2 (lw_V q2282 q2284 qs80 q113 q2285) rfl rfl rfl (by decide +kernel) ⟨by rw [hRf]; decide, by rw [hRl]; decide⟩) (mx_preV w hM hM.2.1 rfl) rfl rfl hl.1 rfl (lv_room (Nat.le_of_ble_eq_true rfl)) dX4_minute_98 ⟨Nat.zero_le _, Nat.zero_le _⟩) (fun M H locs hM w => ?_)
      rw [mf_minute_c98] at E
      obtain ⟨v_98, ev_98⟩ : ∃ y, y = (mf_countAll v_97 ) := ⟨_, rfl⟩
      rw [← ev_98] at E hM
      have hq8 : IP (T + 1) np nz ng (v_98 1) := by rw [ev_98]; exact IP_countAll hq97
      have hsl8 : ¬ v_98 1 12 < mf_setting v_98 8 → ¬ v_98 1 4 = -1 := by rw [ev_98]; exact countAll_sl hq97
      refine lv_aload_n hx hb dX4_minute_101 rfl (lv_at hl 0 rfl) ?_
      refine mx_bv w (va_runV (As := []) (rest := []) X (mt_cascade l G A pp M0 v_98  (T + 1) np nz ng (hq8) (hsl8)) (cwV 0 X.2.2.2.2 (lw_V q2294 q2296 qs83 q113 q2297) rfl rfl rfl (by decide +kernel) ⟨by rw [hRf]; decide, by rw [hRl]; decide⟩) (mx_preV w hM hM.2.1 rfl) rfl rfl hl.1 rfl (lv_room (Nat.le_of_ble_eq_true rfl)) dX4_minute_102 ⟨Nat.zero_le _, Nat.zero_le _⟩) (fun M H locs hM w => ?_)
      rw [mf_minute_c102] at E
      obtain ⟨v_102, ev_102⟩ : ∃ y, y = (mf_cascade v_98 ) := ⟨_, rfl⟩
      rw [← ev_102] at E hM
      have hq9 : IP (T + 1) np nz ng (v_102 1) := by rw [ev_102]; exact IP_cascade hq8 hsl8
      refine lv_aload_n hx hb dX4_minute_105 rfl (lv_at hl 0 rfl) ?_
      refine mx_bv w (va_runV (As := []) (rest := []) X (mt_rotate l G A pp M0 v_102  (T + 1) np nz ng (hq9)) (cwV 0 X.2.2.2.2 (lw_V q2302 q2304 qs85 q113 q2305) rfl rfl rfl (by decide +kernel) ⟨by rw [hRf]; decide, by rw [hRl]; decide⟩) (mx_preV w hM hM.2.1 rfl) rfl rfl hl.1 rfl (lv_room (Nat.le_of_ble_eq_true rfl)) dX4_minute_106 ⟨Nat.zero_le _, Nat.zero_le _⟩) (fun M H locs hM w => ?_)
      rw [mf_minute_c106] at E
      obtain ⟨v_106, ev_106⟩ : ∃ y, y = (mf_rotate v_102 ) := ⟨_, rfl⟩
      rw [← ev_106] at E hM
      exact fin M H locs ls 109 dX4_minute_109 (by rw [← E]; exact hM) w
    refine lv_if_ne (tgt := 97) hx hb dX4_minute_49 (by decide) (fun c_49 => ?_) (fun c_49 => ?_)
    · rw [if_neg c_49] at E
      exact J97 v_42 M H locs ls (by first | exact hq7 | exact hq5) E (lv_sub hl [0] rfl) w hM
    · rw [if_pos c_49] at E
      refine lv_aload_n hx hb dX4_minute_52 rfl (lv_at hl 0 rfl) ?_
      refine mx_get (v := .ref (pp 1)) X w in_X4 (ci := 3) rfl 0 (by decide) q2011 (fun _ h => h) hM.2.1 rfl dX4_minute_53 ?_
      refine lv_iconst (v := (1 : Int32)) hx hb dX4_minute_56 (by decide) ?_
      refine md_ald X w hM 1 (by decide) (by decide) 1 rfl (show 1 < 170 by decide) dX4_minute_57 ?_
      refine lv_aload_n hx hb dX4_minute_58 rfl (lv_at hl 0 rfl) ?_
      refine lv_iconst (v := (0 : Int32)) hx hb dX4_minute_59 (by decide) ?_
      refine mx_bi w (va_runV (As := [.int (nI 0)]) (rest := [.int (v_42 1 1)]) X (mt_setting l G A pp M0 v_42 0  (by first | omega | assumption)) (cwV 1 X.2.2.2.2 (lw_V q2078 q2080 qs47 q113 q2081) rfl rfl rfl (by decide +kernel) ⟨by rw [hRf]; decide, by rw [hRl]; decide⟩) (mx_preV w hM hM.2.1 rfl) rfl rfl hl.1 rfl (lv_room (Nat.le_of_ble_eq_true rfl)) dX4_minute_60 ⟨Nat.zero_le _, Nat.zero_le _⟩) (fun r M H locs hp w => ?_)
      obtain ⟨rfl, hM⟩ := hp
      refine lv_aload_n hx hb dX4_minute_63 rfl (lv_at hl 0 rfl) ?_
      refine lv_bipush (v := (9 : Int32)) hx hb dX4_minute_64 (by decide) ?_
      refine mx_bi w (va_runV (As := [.int (nI 9)]) (rest := [.int (mf_setting v_42 0), .int (v_42 1 1)]) X (mt_setting l G A pp M0 v_42 9  (by first | omega | assumption)) (cwV 1 X.2.2.2.2 (lw_V q2078 q2080 qs47 q113 q2081) rfl rfl rfl (by decide +kernel) ⟨by rw [hRf]; decide, by rw [hRl]; decide⟩) (mx_preV w hM hM.2.1 rfl) rfl rfl hl.1 rfl (lv_room (Nat.le_of_ble_eq_true rfl)) dX4_minute_66 ⟨Nat.zero_le _, Nat.zero_le _⟩) (fun r M H locs hp w => ?_)
      obtain ⟨rfl, hM⟩ := hp
      refine lv_isub hx hb dX4_minute_69 ?_
      refine lv_icmp_ge (tgt := 97) hx hb dX4_minute_70 (by decide) (fun c_70 => ?_) (fun c_70 => ?_)
      · rw [if_pos c_70] at E
        exact J97 v_42 M H locs ls (by first | exact hq7 | exact hq5) E (lv_sub hl [0] rfl) w hM
      · rw [if_neg c_70] at E
        refine lv_aload_n hx hb dX4_minute_73 rfl (lv_at hl 0 rfl) ?_
        refine lv_iconst (v := (0 : Int32)) hx hb dX4_minute_74 (by decide) ?_
        refine mx_bi w (va_runV (As := [.int (0 : Int32)]) (rest := []) X (mt_ready l G A pp M0 v_42 (0 : Int32) np (hq5.enp) (hq5.n6)) (cwV 1 X.2.2.2.2 (lw_V q2147 q2149 qs57 q113 q2150) rfl rfl rfl (by decide +kernel) ⟨by rw [hRf]; decide, by rw [hRl]; decide⟩) (mx_preV w hM hM.2.1 rfl) rfl rfl hl.1 rfl (lv_room (Nat.le_of_ble_eq_true rfl)) dX4_minute_75 ⟨Nat.zero_le _, Nat.zero_le _⟩) (fun r M H locs hp w => ?_)
        obtain ⟨rfl, hM⟩ := hp
        refine lv_iconst (v := (-1 : Int32)) hx hb dX4_minute_78 (by decide) ?_
        refine lv_icmp_eq (tgt := 97) hx hb dX4_minute_79 (by decide) (fun c_79 => ?_) (fun c_79 => ?_)
        · rw [if_pos c_79] at E
          exact J97 v_42 M H locs ls (by first | exact hq7 | exact hq5) E (lv_sub hl [0] rfl) w hM
        · rw [if_neg c_79] at E
          obtain ⟨hj1, hj2⟩ := isP_n (ready_P 0 hq5.cp) c_79 hq5.n6
          refine lv_aload_n hx hb dX4_minute_82 rfl (lv_at hl 0 rfl) ?_
          refine lv_aload_n hx hb dX4_minute_83 rfl (lv_at hl 0 rfl) ?_
          refine lv_iconst (v := (0 : Int32)) hx hb dX4_minute_84 (by decide) ?_
          refine mx_bi w (va_runV (As := [.int (0 : Int32)]) (rest := [.ref (pp 0)]) X (mt_ready l G A pp M0 v_42 (0 : Int32) np (hq5.enp) (hq5.n6)) (cwV 1 X.2.2.2.2 (lw_V q2147 q2149 qs57 q113 q2150) rfl rfl rfl (by decide +kernel) ⟨by rw [hRf]; decide, by rw [hRl]; decide⟩) (mx_preV w hM hM.2.1 rfl) rfl rfl hl.1 rfl (lv_room (Nat.le_of_ble_eq_true rfl)) dX4_minute_85 ⟨Nat.zero_le _, Nat.zero_le _⟩) (fun r M H locs hp w => ?_)
          obtain ⟨rfl, hM⟩ := hp
          refine mx_cast (z := nI (tN (mf_ready v_42 0))) (hj1) ?_
          refine mx_bv w (va_runV (As := [.int (nI (tN (mf_ready v_42 0)))]) (rest := []) X (mt_start l G A pp M0 v_42 (tN (mf_ready v_42 0)) (T + 1) np nz ng (hq5) (by have := hq5.n6; omega)) (cwV 1 X.2.2.2.2 (lw_V q2274 q2276 qs78 q113 q2277) rfl rfl rfl (by decide +kernel) ⟨by rw [hRf]; decide, by rw [hRl]; decide⟩) (mx_preV w hM hM.2.1 rfl) rfl rfl hl.1 rfl (lv_room (Nat.le_of_ble_eq_true rfl)) dX4_minute_88 ⟨Nat.zero_le _, Nat.zero_le _⟩) (fun M H locs hM w => ?_)
          rw [mf_minute_c88] at E
          obtain ⟨v_88, ev_88⟩ : ∃ y, y = (mf_start v_42 (tN (mf_ready v_42 0))) := ⟨_, rfl⟩
          rw [← ev_88] at E hM
          have hq6 : IP (T + 1) np nz ng (v_88 1) := by rw [ev_88]; exact IP_start hj2 hq5
          refine lv_aload_n hx hb dX4_minute_91 rfl (lv_at hl 0 rfl) ?_
          refine lv_iconst (v := (3 : Int32)) hx hb dX4_minute_92 (by decide) ?_
          refine lv_iconst (v := (-1 : Int32)) hx hb dX4_minute_93 (by decide) ?_
          refine mx_bv w (va_runV (As := [.int (3 : Int32), .int (-1 : Int32)]) (rest := []) X (mt_event l G A pp M0 v_88 (3 : Int32) (-1 : Int32)  ) (cwV 2 X.2.2.2.2 (lw_V q2122 q2124 qs55 q113 q2125) rfl rfl rfl (by decide +kernel) ⟨by rw [hRf]; decide, by rw [hRl]; decide⟩) (mx_preV w hM hM.2.1 rfl) rfl rfl hl.1 rfl (lv_room (Nat.le_of_ble_eq_true rfl)) dX4_minute_94 ⟨Nat.zero_le _, Nat.zero_le _⟩) (fun M H locs hM w => ?_)
          rw [mf_minute_c94] at E
          obtain ⟨v_94, ev_94⟩ : ∃ y, y = (mf_event v_88 (3 : Int32) (-1 : Int32)) := ⟨_, rfl⟩
          rw [← ev_94] at E hM
          have hq7 : IP (T + 1) np nz ng (v_94 1) := by rw [ev_94]; exact IP_event hq6
          exact J97 v_94 M H locs ls (by first | exact hq7 | exact hq5) E (lv_sub hl [0] rfl) w hM
  · rw [if_pos c_33] at E
    refine lv_aload_n hx hb dX4_minute_36 rfl (lv_at hl 0 rfl) ?_
    refine mx_bv w (va_runV (As := []) (rest := []) X (mt_beginAnew l G A pp M0 v_23   ) (cwV 0 X.2.2.2.2 (lw_V q2266 q2268 qs76 q113 q2269) rfl rfl rfl (by decide +kernel) ⟨by rw [hRf]; decide, by rw [hRl]; decide⟩) (mx_preV w hM hM.2.1 rfl) rfl rfl hl.1 rfl (lv_room (Nat.le_of_ble_eq_true rfl)) dX4_minute_37 ⟨Nat.zero_le _, Nat.zero_le _⟩) (fun M H locs hM w => ?_)
    rw [mf_minute_c37] at E
    obtain ⟨v_37, ev_37⟩ : ∃ y, y = (mf_beginAnew v_23 ) := ⟨_, rfl⟩
    rw [← ev_37] at E hM
    exact fin M H locs ls 40 dX4_minute_40 (by rw [← E]; exact hM) w
theorem IP_minute {T np nz ng : Nat} {v : Nat → Nat → Int32} (h : IP T np nz ng (v 1)) (hT : T < 1000000) : IP (T + 1) np nz ng (mf_minute v 1) := by
  rw [mf_minute, mf_minute_c11, mf_minute_c15, mf_minute_c19, mf_minute_c23]
  generalize e1 : mf_programmes (u2 v 1 0 (v 1 0 + 1)) = w1
  have h1 : IP (T + 1) np nz ng (w1 1) := by rw [← e1]; exact IP_programmes (IP_time h hT)
  generalize e2 : mf_water w1 = w2
  have h2 : IP (T + 1) np nz ng (w2 1) := by rw [← e2]; exact IP_water h1
  generalize e3 : mf_night w2 = w3
  have h3 : IP (T + 1) np nz ng (w3 1) := by rw [← e3]; exact IP_night h2
  generalize e4 : mf_dryness w3 = w4
  have h4 : IP (T + 1) np nz ng (w4 1) := by
    rw [← e4]
    exact IP_dryness (by omega) h3 (by rw [← e3, night_fr (by decide) (by decide) (by decide) (by decide) (by decide), ← e2, water_fr (by decide) (by decide), ← e1, programmes_fr (by decide), u2_k (by decide)]; exact h.trips)
  split
  · rw [mf_minute_c37]
    exact IP_beginAnew h4
  · generalize e5 : mf_regulate w4 = w5
    have h5 : IP (T + 1) np nz ng (w5 1) := by rw [← e5]; exact IP_regulate h4
    have k97 : ∀ x : Nat → Nat → Int32, IP (T + 1) np nz ng (x 1) → IP (T + 1) np nz ng (mf_minute_97 v w1 w2 w3 w4 w5 x 1) := fun x hx => by
      rw [mf_minute_97, mf_minute_c98, mf_minute_c102, mf_minute_c106]
      exact IP_rotate (IP_cascade (IP_countAll hx) (countAll_sl hx))
    rw [mf_minute_c42]
    split
    · split
      · exact k97 _ h5
      · split
        · exact k97 _ h5
        · rename_i c
          have hj := (isP_n (ready_P 0 h5.cp) c h5.n6).2
          rw [mf_minute_c88, mf_minute_c94]
          exact k97 _ (IP_event (IP_start hj h5))
    · exact k97 _ h5
def mf_minutes_c8 (v : (Nat → Nat → Int32)) (cnt : Nat) (rc_2 : Nat → (Nat → Nat → Int32) → (Nat → Nat → Int32)) (n2_2 : Nat) (v_2 : (Nat → Nat → Int32)) (v_8 : (Nat → Nat → Int32)) : (Nat → Nat → Int32) := ( rc_2 (n2_2 + 1) v_8)
def mf_minutes_2 (v : (Nat → Nat → Int32)) (cnt : Nat) : Nat → Nat → (Nat → Nat → Int32) → (Nat → Nat → Int32)
  | 0, _, v_2 => v_2
  | n_2 + 1, n2_2, v_2 => (if cnt ≤ n2_2 then v_2 else (mf_minutes_c8 v cnt (mf_minutes_2 v cnt n_2) n2_2 v_2 (mf_minute v_2 )))
def mf_minutes (v : (Nat → Nat → Int32)) (cnt : Nat) : (Nat → Nat → Int32) := (mf_minutes_2 v cnt (cnt + 1) 0 v)
set_option maxHeartbeats 4000000 in
set_option maxRecDepth 100000 in
theorem mt_minutes (l : Launch) (G : mg) (A : Nat → Prop) (pp : Nat → Nat) (M0 : mh) (v : Nat → Nat → Int32) (cnt : Nat) (T np nz ng : Nat) (hI : IP T np nz ng (v 1)) (hT : T + cnt ≤ 1000000) : Met l yX4_minutes (ws_ yX4_minutes cX4_minutes 3 (none)) ({ frames := 7, cells := 0, slots := 0, locals := 153 }) (va_Pc [.ref (pp 0), .int (nI cnt)] (mU G A (fun M => Mdl G pp M0 M v))) (mQv G A (fun M => Mdl G pp M0 M (mf_minutes v cnt))) 0 0 A := by
  refine mx_ofv (by decide) (Nat.le_of_ble_eq_true rfl) ?_
  intro p e R s m av below meth c M H Q ls X hRf hRl hRc hRs hin hM w fin hl
  have X : CallFix p m c cX4_minutes 3 s av lw_all "FieldPumpsModel" := X
  have hx := X.1
  have hb := X.2.1
  have hl : lv_has ls 3 [(0, .ref (pp 0)), (1, .int (nI cnt))] := hl
  have hRf : R.frames = 7 := hRf
  have hRl : R.locals = 153 := hRl
  generalize ([] : List Loc) = locs at w ⊢
  generalize E : mf_minutes v cnt = z at fin
  rw [mf_minutes] at E
  have hb6 := hI.b
  have hcp := hI.cp
  have hcz := hI.cz
  have hcg := hI.cg
  refine lv_iconst (v := (0 : Int32)) hx hb dX4_minutes_0 (by decide) ?_
  refine lv_istore_n (lv' := [(2, .int (0 : Int32)), (0, .ref (pp 0)), (1, .int (nI cnt))]) hx hb dX4_minutes_1 rfl hl (by decide) rfl (fun ls hl => ?_)
  have L2 : ∀ (n_2 : Nat) (n2_2 : Nat) (v_2 : (Nat → Nat → Int32)) (M : mh) (H : Heap) (locs : List Loc) (ls : Array Slot), (hq : IP (T + n2_2) np nz ng (v_2 1)) → (hi : n2_2 ≤ cnt) → (hm : cnt < n2_2 + n_2) → mf_minutes_2 v cnt n_2 n2_2 v_2 = z → lv_has ls 3 [(0, .ref (pp 0)), (1, .int (nI cnt)), (2, .int (nI n2_2))] → mW G A s M H locs → Mdl G pp M0 M v_2 → W p l e R s m av below meth c H locs 0 0 Q (F0 m 2 ls []) := by
    intro n_2
    induction n_2 with
    | zero =>
      intro n2_2 v_2 M H locs ls hq hi hm E hl w hM
      exfalso; omega
    | succ n_2 ih_2 =>
      intro n2_2 v_2 M H locs ls hq hi hm E hl w hM
      rw [mf_minutes_2] at E
      refine lv_iload_n hx hb dX4_minutes_2 rfl (lv_at hl 2 rfl) ?_
      refine lv_iload_n hx hb dX4_minutes_3 rfl (lv_at hl 1 rfl) ?_
      refine mx_nge (u := n2_2) (v := cnt) (tgt := 17) hx hb rfl rfl (by omega) (by omega) dX4_minutes_4 (by decide) (fun c_4 => ?_) (fun c_4 => ?_)
      · rw [if_pos c_4] at E
        exact fin M H locs ls 17 dX4_minutes_17 (by rw [← E]; exact hM) w
      · rw [if_neg c_4] at E
        refine lv_aload_n hx hb dX4_minutes_7 rfl (lv_at hl 0 rfl) ?_
        refine mx_bv w (va_runV (As := []) (rest := []) X (mt_minute l G A pp M0 v_2  (T + n2_2) np nz ng (hq) (by omega)) (cwV 0 X.2.2.2.2 (lw_V q2231 q2233 qs68 q113 q2234) rfl rfl rfl (by decide +kernel) ⟨by rw [hRf]; decide, by rw [hRl]; decide⟩) (mx_preV w hM hM.2.1 rfl) rfl rfl hl.1 rfl (lv_room (Nat.le_of_ble_eq_true rfl)) dX4_minutes_8 ⟨Nat.zero_le _, Nat.zero_le _⟩) (fun M H locs hM w => ?_)
        rw [mf_minutes_c8] at E
        obtain ⟨v_8, ev_8⟩ : ∃ y, y = (mf_minute v_2 ) := ⟨_, rfl⟩
        rw [← ev_8] at E hM
        have hq8 : IP (T + (n2_2 + 1)) np nz ng (v_8 1) := by rw [ev_8]; exact IP_minute (T := T + n2_2) hq (by omega)
        refine lv_iinc (v := (nI (n2_2 + 1))) (lv' := [(2, .int (nI (n2_2 + 1))), (0, .ref (pp 0)), (1, .int (nI cnt))]) hx hb dX4_minutes_11 hl (k := 2) rfl (nI_incr _ 1) (by decide) rfl (fun ls hl => ?_)
        refine lv_goto (tgt := 2) hx hb dX4_minutes_14 (by decide) ?_
        exact ih_2 (n2_2 + 1) v_8 M H locs ls (by first | omega | assumption | exact hq8) (by first | omega | assumption) (by first | omega | assumption) E (lv_sub hl [1, 2, 0] rfl) w hM
  exact L2 (cnt + 1) 0 v M H locs ls (by first | omega | assumption | exact hI) (by first | omega | assumption) (by first | omega | assumption) E (lv_sub hl [1, 2, 0] rfl) w hM
theorem IP_minutes_2 {T np nz ng cnt : Nat} {v : Nat → Nat → Int32} (hT : T + cnt ≤ 1000000) : ∀ (n k : Nat) (w : Nat → Nat → Int32), IP (T + k) np nz ng (w 1) → k ≤ cnt → cnt < k + n → IP (T + cnt) np nz ng (mf_minutes_2 v cnt n k w 1) := by
  intro n
  induction n with
  | zero => intro k w _ _ _; exfalso; omega
  | succ n ih =>
    intro k w h hk hn
    rw [mf_minutes_2]
    split
    · have : k = cnt := by omega
      subst this
      exact h
    · rw [mf_minutes_c8]
      exact ih (k + 1) _ (IP_minute (T := T + k) h (by omega)) (by omega) (by omega)
theorem IP_minutes {T np nz ng cnt : Nat} {v : Nat → Nat → Int32} (h : IP T np nz ng (v 1)) (hT : T + cnt ≤ 1000000) : IP (T + cnt) np nz ng (mf_minutes v cnt 1) := by
  rw [mf_minutes]
  exact IP_minutes_2 hT (cnt + 1) 0 v h (Nat.zero_le _) (by omega)
theorem rg_ne4 {x : Int32} (h : rg x 4) (c : ¬ x = 4) : rg x 3 := by
  obtain ⟨j, j1, rfl⟩ := h
  refine ⟨j, ?_, rfl⟩
  have : j ≠ 4 := fun e => c (by subst e; rfl)
  omega
theorem rg_dec {x : Int32} (h : rg x 4) (c : ¬ x = 0) : rg (x - 1) 3 := by
  obtain ⟨j, j1, rfl⟩ := h
  have : j ≠ 0 := fun e => c (by subst e; rfl)
  refine ⟨j - 1, by omega, ?_⟩
  exact nI_sub (b := 1) (by omega)
theorem cnt_lt {x : Int32} {n m : Nat} (e : x = nI n) (hn : n ≤ m) (c : ¬ x = nI m) : n < m := by
  have : n ≠ m := fun q => c (by rw [e, q])
  omega
theorem cnt_pos {x : Int32} {n : Nat} (e : x = nI n) (c : ¬ x = 0) : 0 < n := by
  have : n ≠ 0 := fun q => c (by rw [e, q]; rfl)
  omega
theorem lt_n {x : Int32} {n : Nat} (h0 : ¬ x < 0) (c : x < nI n) (hn : n < 2 ^ 31) : x = nI (tN x) ∧ tN x < n := by
  obtain ⟨j, j1, rfl⟩ := nI_of h0
  rw [tN_nI j1]
  exact ⟨rfl, (nI_ltI j1 hn).mp c⟩
theorem in_iff (x y z : Int64) : mf_in x y z = true ↔ y.toInt ≤ x.toInt ∧ x.toInt ≤ z.toInt := by
  simp only [mf_in, mf_in_17, mf_in_18, lg_cmp_lt, lg_cmp_gt, Int64.lt_iff_toInt_lt]
  split
  · simp; omega
  · split
    · simp; omega
    · simp; omega
theorem in_n {x : Int32} {a b : Nat} (hb : b < 2 ^ 31) (h : mf_in x.toInt64 (lN a) (lN b) = true) (hab : a ≤ b := by decide) : x = nI (tN x) ∧ a ≤ tN x ∧ tN x ≤ b := by
  rw [in_iff, lN_toInt (by omega), lN_toInt hb, Int32.toInt_toInt64] at h
  have h0 : ¬ x < 0 := by rw [Int32.lt_iff_toInt_lt, Int32.toInt_zero]; omega
  obtain ⟨j, j1, rfl⟩ := nI_of h0
  rw [nI_toInt j1] at h
  rw [tN_nI j1]
  exact ⟨rfl, by omega, by omega⟩
theorem inc_n {x y : Int32} {n : Nat} (e : y = nI n) (hn : n ≤ 8) (h : mf_in x.toInt64 0 (y.toInt64 - 1) = true) : x = nI (tN x) ∧ tN x < n := by
  have e2 : (y.toInt64 - 1).toInt = (n : Int) - 1 := by
    rw [e, nI_l (by omega)]
    have : ∀ m, m ≤ 8 → (lN m - 1).toInt = (m : Int) - 1 := by decide +kernel
    exact this n hn
  rw [in_iff, e2, Int32.toInt_toInt64] at h
  have h0 : ¬ x < 0 := by rw [Int32.lt_iff_toInt_lt, Int32.toInt_zero]; exact fun q => absurd h.1 (Int.not_le.mpr q)
  obtain ⟨j, j1, rfl⟩ := nI_of h0
  rw [nI_toInt j1] at h
  rw [tN_nI j1]
  exact ⟨rfl, by omega⟩
theorem isPump_n {v : Nat → Nat → Int32} {x : Int32} {n : Nat} (e : v 1 14 = nI n) (hn : n ≤ 6) (h : mf_isPump v x = true) : x = nI (tN x) ∧ tN x < n := inc_n e (by omega) (by rw [mf_isPump] at h; exact h)
theorem isZone_n {v : Nat → Nat → Int32} {x : Int32} {n : Nat} (e : v 1 15 = nI n) (hn : n ≤ 8) (h : mf_isZone v x = true) : x = nI (tN x) ∧ tN x < n := inc_n e hn (by rw [mf_isZone] at h; exact h)
theorem isSetting_n {what vv : Int32} (h : mf_isSetting what vv = true) : what = nI (tN what) ∧ tN what < 19 := by
  by_cases c0 : what = 0
  · subst c0; exact ⟨rfl, by decide⟩
  by_cases c1 : what = 1
  · subst c1; exact ⟨rfl, by decide⟩
  by_cases c2 : what = 2
  · subst c2; exact ⟨rfl, by decide⟩
  by_cases c3 : what = 3
  · subst c3; exact ⟨rfl, by decide⟩
  by_cases c4 : what = 4
  · subst c4; exact ⟨rfl, by decide⟩
  by_cases c5 : what = 5
  · subst c5; exact ⟨rfl, by decide⟩
  by_cases c6 : what = 6
  · subst c6; exact ⟨rfl, by decide⟩
  by_cases c7 : what = 7
  · subst c7; exact ⟨rfl, by decide⟩
  by_cases c8 : what = 8
  · subst c8; exact ⟨rfl, by decide⟩
  by_cases c9 : what = 9
  · subst c9; exact ⟨rfl, by decide⟩
  by_cases c10 : what = 10
  · subst c10; exact ⟨rfl, by decide⟩
  by_cases c11 : what = 11
  · subst c11; exact ⟨rfl, by decide⟩
  by_cases c12 : what = 12
  · subst c12; exact ⟨rfl, by decide⟩
  by_cases c13 : what = 13
  · subst c13; exact ⟨rfl, by decide⟩
  by_cases c14 : what = 14
  · subst c14; exact ⟨rfl, by decide⟩
  by_cases c15 : what = 15
  · subst c15; exact ⟨rfl, by decide⟩
  by_cases c16 : what = 16
  · subst c16; exact ⟨rfl, by decide⟩
  by_cases c17 : what = 17
  · subst c17; exact ⟨rfl, by decide⟩
  by_cases c18 : what = 18
  · subst c18; exact ⟨rfl, by decide⟩
  · exfalso
    simp [mf_isSetting, mf_isSetting_244, mf_isSetting_245, c0, c1, c2, c3, c4, c5, c6, c7, c8, c9, c10, c11, c12, c13, c14, c15, c16, c17, c18] at h
def mf_save_51 (v : (Nat → Nat → Int32)) (v_49 : (Nat → Nat → Int32)) : Nat → Nat → (Nat → Nat → Int32) → (Nat → Nat → Int32)
  | 0, _, v_51 => v_51
  | n_51 + 1, n1_51, v_51 => (if 170 ≤ n1_51 then (u2 v_51 0 2 ((v_51 0 2) + (1 : Int32))) else ( (mf_save_51 v v_49 n_51) (n1_51 + 1) (u2 v_51 2 (170 * tN (v_49 0 2) + n1_51) (v_51 1 n1_51))))
def mf_save_49 (v : (Nat → Nat → Int32)) (v_49 : (Nat → Nat → Int32)) : (Nat → Nat → Int32) := (mf_save_51 v v_49 180 0 v_49)
def mf_save_10 (v : (Nat → Nat → Int32)) : Nat → Nat → (Nat → Nat → Int32) → (Nat → Nat → Int32)
  | 0, _, v_10 => v_10
  | n_10 + 1, n1_10, v_10 => (if 510 ≤ n1_10 then (mf_save_49 v (u2 v_10 0 2 ((v_10 0 2) - (1 : Int32)))) else ( (mf_save_10 v n_10) (n1_10 + 1) (u2 v_10 2 n1_10 (v_10 2 (n1_10 + 170)))))
def mf_save (v : (Nat → Nat → Int32)) : (Nat → Nat → Int32) := (if (v 0 2) = (4 : Int32) then (mf_save_10 v 520 0 v) else (mf_save_49 v v))
set_option maxHeartbeats 4000000 in
set_option maxRecDepth 100000 in
theorem mt_save (l : Launch) (G : mg) (A : Nat → Prop) (pp : Nat → Nat) (M0 : mh) (v : Nat → Nat → Int32)  (hs : rg (v 0 2) 4) : Met l yX4_save (ws_ yX4_save cX4_save 2 (none)) ({ frames := 0, cells := 0, slots := 0, locals := 0 }) (va_Pc [.ref (pp 0)] (mU G A (fun M => Mdl G pp M0 M v))) (mQv G A (fun M => Mdl G pp M0 M (mf_save v))) 0 0 A := by
  refine mx_ofv (by decide) (Nat.le_of_ble_eq_true rfl) ?_
  intro p e R s m av below meth c M H Q ls X hRf hRl hRc hRs hin hM w fin hl
  have X : CallFix p m c cX4_save 2 s av lw_all "FieldPumpsModel" := X
  have hx := X.1
  have hb := X.2.1
  have hl : lv_has ls 2 [(0, .ref (pp 0))] := hl
  have hRf : R.frames = 0 := hRf
  have hRl : R.locals = 0 := hRl
  generalize ([] : List Loc) = locs at w ⊢
  generalize E : mf_save v = z at fin
  rw [mf_save] at E
  refine lv_aload_n hx hb dX4_save_0 rfl (lv_at hl 0 rfl) ?_
  refine mx_get (v := .int (v 0 2)) X w in_X4 (ci := 3) rfl 2 (by decide) q2013 (fun _ h => h) hM.2.1 rfl dX4_save_1 ?_
  refine lv_iconst (v := (4 : Int32)) hx hb dX4_save_4 (by decide) ?_
  have J49 : ∀ (v_49 : (Nat → Nat → Int32)) (M : mh) (H : Heap) (locs : List Loc) (ls : Array Slot), (h49 : rg (v_49 0 2) 3) → mf_save_49 v v_49 = z → lv_has ls 2 [(0, .ref (pp 0))] → mW G A s M H locs → Mdl G pp M0 M v_49 → W p l e R s m av below meth c H locs 0 0 Q (F0 m 49 ls []) := by
    intro v_49 M H locs ls h49 E hl w hM
    rw [mf_save_49] at E
    refine lv_iconst (v := (0 : Int32)) hx hb dX4_save_49 (by decide) ?_
    refine lv_istore_n (lv' := [(1, .int (0 : Int32)), (0, .ref (pp 0))]) hx hb dX4_save_50 rfl hl (by decide) rfl (fun ls hl => ?_)
    have L51 : ∀ (n_51 : Nat) (n1_51 : Nat) (v_51 : (Nat → Nat → Int32)) (M : mh) (H : Heap) (locs : List Loc) (ls : Array Slot), (hs2 : v_51 0 2 = v_49 0 2) → (hi : n1_51 ≤ 170) → (hm : 170 < n1_51 + n_51) → mf_save_51 v v_49 n_51 n1_51 v_51 = z → lv_has ls 2 [(0, .ref (pp 0)), (1, .int (nI n1_51))] → mW G A s M H locs → Mdl G pp M0 M v_51 → W p l e R s m av below meth c H locs 0 0 Q (F0 m 51 ls []) := by
      intro n_51
      induction n_51 with
      | zero =>
        intro n1_51 v_51 M H locs ls hs2 hi hm E hl w hM
        exfalso; omega
      | succ n_51 ih_51 =>
        intro n1_51 v_51 M H locs ls hs2 hi hm E hl w hM
        rw [mf_save_51] at E
        have h49n := (rg_n h49 (by decide)).2
        refine lv_iload_n hx hb dX4_save_51 rfl (lv_at hl 1 rfl) ?_
        refine lv_sipush (v := (170 : Int32)) hx hb dX4_save_52 (by decide) ?_
        refine mx_nge (u := n1_51) (v := 170) (tgt := 85) hx hb rfl rfl (by omega) (by omega) dX4_save_55 (by decide) (fun c_55 => ?_) (fun c_55 => ?_)
        · rw [if_pos c_55] at E
          refine lv_aload_n hx hb dX4_save_85 rfl (lv_at hl 0 rfl) ?_
          refine lv_dup hx hb dX4_save_86 rfl ?_
          refine mx_get (v := .int (v_51 0 2)) X w in_X4 (ci := 3) rfl 2 (by decide) q2013 (fun _ h => h) hM.2.1 rfl dX4_save_87 ?_
          refine lv_iconst (v := (1 : Int32)) hx hb dX4_save_90 (by decide) ?_
          refine lv_iadd hx hb dX4_save_91 ?_
          refine md_put (x := ((v_51 0 2) + (1 : Int32))) X w hM 2 (by decide) q2013 rfl rfl rfl dX4_save_92 (fun M H locs w hM => ?_)
          exact fin M H locs ls 95 dX4_save_95 (by rw [← E]; exact hM) w
        · rw [if_neg c_55] at E
          refine lv_aload_n hx hb dX4_save_58 rfl (lv_at hl 0 rfl) ?_
          refine mx_get (v := .ref (pp 2)) X w in_X4 (ci := 3) rfl 1 (by decide) q2012 (fun _ h => h) hM.2.1 rfl dX4_save_59 ?_
          refine lv_sipush (v := (170 : Int32)) hx hb dX4_save_62 (by decide) ?_
          refine lv_aload_n hx hb dX4_save_65 rfl (lv_at hl 0 rfl) ?_
          refine mx_get (v := .int (v_51 0 2)) X w in_X4 (ci := 3) rfl 2 (by decide) q2013 (fun _ h => h) hM.2.1 rfl dX4_save_66 ?_
          refine mx_cast (z := nI (tN (v_49 0 2))) (by rw [hs2]; exact (rg_n h49 (by decide)).1) ?_
          refine mx_nmul (u := 170) (v := tN (v_49 0 2)) hx hb rfl rfl dX4_save_69 ?_
          refine lv_iload_n hx hb dX4_save_70 rfl (lv_at hl 1 rfl) ?_
          refine mx_nadd (u := 170 * tN (v_49 0 2)) (v := n1_51) hx hb rfl rfl dX4_save_71 ?_
          refine lv_aload_n hx hb dX4_save_72 rfl (lv_at hl 0 rfl) ?_
          refine mx_get (v := .ref (pp 1)) X w in_X4 (ci := 3) rfl 0 (by decide) q2011 (fun _ h => h) hM.2.1 rfl dX4_save_73 ?_
          refine lv_iload_n hx hb dX4_save_76 rfl (lv_at hl 1 rfl) ?_
          refine md_ald X w hM 1 (by decide) (by decide) n1_51 rfl (show n1_51 < 170 by omega) dX4_save_77 ?_
          refine md_ast (x := (v_51 1 n1_51)) X w hM 2 (by decide) (by decide) (170 * tN (v_49 0 2) + n1_51) rfl (show 170 * tN (v_49 0 2) + n1_51 < 680 by omega) dX4_save_78 (fun M H locs w hM => ?_)
          refine lv_iinc (v := (nI (n1_51 + 1))) (lv' := [(1, .int (nI (n1_51 + 1))), (0, .ref (pp 0))]) hx hb dX4_save_79 hl (k := 1) rfl (nI_incr _ 1) (by decide) rfl (fun ls hl => ?_)
          refine lv_goto (tgt := 51) hx hb dX4_save_82 (by decide) ?_
          exact ih_51 (n1_51 + 1) (u2 v_51 2 (170 * tN (v_49 0 2) + n1_51) (v_51 1 n1_51)) M H locs ls (by first | omega | assumption | exact (by rw [u2_r (by decide)]; exact hs2)) (by first | omega | assumption) (by first | omega | assumption) E (lv_sub hl [1, 0] rfl) w hM
    exact L51 180 0 v_49 M H locs ls (by first | omega | assumption | exact rfl) (by first | omega | assumption) (by first | omega | assumption) E (lv_sub hl [1, 0] rfl) w hM
  refine lv_icmp_ne (tgt := 49) hx hb dX4_save_5 (by decide) (fun c_5 => ?_) (fun c_5 => ?_)
  · rw [if_neg c_5] at E
    exact J49 v M H locs ls (by first | exact rg_ne4 hs c_5 | (rw [u2_s, hs1, c_5]; exact ⟨3, by decide, rfl⟩)) E (lv_sub hl [0] rfl) w hM
  · rw [if_pos c_5] at E
    refine lv_iconst (v := (0 : Int32)) hx hb dX4_save_8 (by decide) ?_
    refine lv_istore_n (lv' := [(1, .int (0 : Int32)), (0, .ref (pp 0))]) hx hb dX4_save_9 rfl hl (by decide) rfl (fun ls hl => ?_)
    have L10 : ∀ (n_10 : Nat) (n1_10 : Nat) (v_10 : (Nat → Nat → Int32)) (M : mh) (H : Heap) (locs : List Loc) (ls : Array Slot), (hs1 : v_10 0 2 = v 0 2) → (hi : n1_10 ≤ 510) → (hm : 510 < n1_10 + n_10) → mf_save_10 v n_10 n1_10 v_10 = z → lv_has ls 2 [(0, .ref (pp 0)), (1, .int (nI n1_10))] → mW G A s M H locs → Mdl G pp M0 M v_10 → W p l e R s m av below meth c H locs 0 0 Q (F0 m 10 ls []) := by
      intro n_10
      induction n_10 with
      | zero =>
        intro n1_10 v_10 M H locs ls hs1 hi hm E hl w hM
        exfalso; omega
      | succ n_10 ih_10 =>
        intro n1_10 v_10 M H locs ls hs1 hi hm E hl w hM
        rw [mf_save_10] at E
        refine lv_iload_n hx hb dX4_save_10 rfl (lv_at hl 1 rfl) ?_
        refine lv_sipush (v := (510 : Int32)) hx hb dX4_save_11 (by decide) ?_
        refine mx_nge (u := n1_10) (v := 510) (tgt := 39) hx hb rfl rfl (by omega) (by omega) dX4_save_14 (by decide) (fun c_14 => ?_) (fun c_14 => ?_)
        · rw [if_pos c_14] at E
          refine lv_aload_n hx hb dX4_save_39 rfl (lv_at hl 0 rfl) ?_
          refine lv_dup hx hb dX4_save_40 rfl ?_
          refine mx_get (v := .int (v_10 0 2)) X w in_X4 (ci := 3) rfl 2 (by decide) q2013 (fun _ h => h) hM.2.1 rfl dX4_save_41 ?_
          refine lv_iconst (v := (1 : Int32)) hx hb dX4_save_44 (by decide) ?_
          refine lv_isub hx hb dX4_save_45 ?_
          refine md_put (x := ((v_10 0 2) - (1 : Int32))) X w hM 2 (by decide) q2013 rfl rfl rfl dX4_save_46 (fun M H locs w hM => ?_)
          exact J49 (u2 v_10 0 2 ((v_10 0 2) - (1 : Int32))) M H locs ls (by first | exact rg_ne4 hs c_5 | (rw [u2_s, hs1, c_5]; exact ⟨3, by decide, rfl⟩)) E (lv_sub hl [0] rfl) w hM
        · rw [if_neg c_14] at E
          refine lv_aload_n hx hb dX4_save_17 rfl (lv_at hl 0 rfl) ?_
          refine mx_get (v := .ref (pp 2)) X w in_X4 (ci := 3) rfl 1 (by decide) q2012 (fun _ h => h) hM.2.1 rfl dX4_save_18 ?_
          refine lv_iload_n hx hb dX4_save_21 rfl (lv_at hl 1 rfl) ?_
          refine lv_aload_n hx hb dX4_save_22 rfl (lv_at hl 0 rfl) ?_
          refine mx_get (v := .ref (pp 2)) X w in_X4 (ci := 3) rfl 1 (by decide) q2012 (fun _ h => h) hM.2.1 rfl dX4_save_23 ?_
          refine lv_iload_n hx hb dX4_save_26 rfl (lv_at hl 1 rfl) ?_
          refine lv_sipush (v := (170 : Int32)) hx hb dX4_save_27 (by decide) ?_
          refine mx_nadd (u := n1_10) (v := 170) hx hb rfl rfl dX4_save_30 ?_
          refine md_ald X w hM 2 (by decide) (by decide) (n1_10 + 170) rfl (show n1_10 + 170 < 680 by omega) dX4_save_31 ?_
          refine md_ast (x := (v_10 2 (n1_10 + 170))) X w hM 2 (by decide) (by decide) n1_10 rfl (show n1_10 < 680 by omega) dX4_save_32 (fun M H locs w hM => ?_)
          refine lv_iinc (v := (nI (n1_10 + 1))) (lv' := [(1, .int (nI (n1_10 + 1))), (0, .ref (pp 0))]) hx hb dX4_save_33 hl (k := 1) rfl (nI_incr _ 1) (by decide) rfl (fun ls hl => ?_)
          refine lv_goto (tgt := 10) hx hb dX4_save_36 (by decide) ?_
          exact ih_10 (n1_10 + 1) (u2 v_10 2 n1_10 (v_10 2 (n1_10 + 170))) M H locs ls (by first | omega | assumption | exact (by rw [u2_r (by decide)]; exact hs1)) (by first | omega | assumption) (by first | omega | assumption) E (lv_sub hl [1, 0] rfl) w hM
    exact L10 520 0 v M H locs ls (by first | omega | assumption | exact rfl) (by first | omega | assumption) (by first | omega | assumption) E (lv_sub hl [1, 0] rfl) w hM
theorem save_51_1 (v w0 : Nat → Nat → Int32) : ∀ (n k : Nat) (w : Nat → Nat → Int32) (r : Nat), r ≠ 0 → r ≠ 2 → mf_save_51 v w0 n k w r = w r := by
  intro n
  induction n with
  | zero => intro k w r _ _; rfl
  | succ n ih =>
    intro k w r h0 h2
    rw [mf_save_51]
    split
    · exact u2_r h0
    · rw [ih _ _ _ h0 h2, u2_r h2]
theorem save_10_1 (v : Nat → Nat → Int32) : ∀ (n k : Nat) (w : Nat → Nat → Int32) (r : Nat), r ≠ 0 → r ≠ 2 → mf_save_10 v n k w r = w r := by
  intro n
  induction n with
  | zero => intro k w r _ _; rfl
  | succ n ih =>
    intro k w r h0 h2
    rw [mf_save_10]
    split
    · rw [mf_save_49, save_51_1 _ _ _ _ _ _ h0 h2, u2_r h0]
    · rw [ih _ _ _ h0 h2, u2_r h2]
theorem save_r {v : Nat → Nat → Int32} {r : Nat} (h0 : r ≠ 0) (h2 : r ≠ 2) : mf_save v r = v r := by
  rw [mf_save]
  split
  · rw [save_10_1 _ _ _ _ _ h0 h2]
  · rw [mf_save_49, save_51_1 _ _ _ _ _ _ h0 h2]
theorem save_1 (v : Nat → Nat → Int32) : mf_save v 1 = v 1 := save_r (by decide) (by decide)
def mf_layAside_2 (v : (Nat → Nat → Int32)) : Nat → Nat → (Nat → Nat → Int32) → (Nat → Nat → Int32)
  | 0, _, v_2 => v_2
  | n_2 + 1, n1_2, v_2 => (if 170 ≤ n1_2 then v_2 else ( (mf_layAside_2 v n_2) (n1_2 + 1) (u2 v_2 3 n1_2 (v_2 1 n1_2))))
def mf_layAside (v : (Nat → Nat → Int32)) : (Nat → Nat → Int32) := (mf_layAside_2 v 180 0 v)
set_option maxHeartbeats 4000000 in
set_option maxRecDepth 100000 in
theorem mt_layAside (l : Launch) (G : mg) (A : Nat → Prop) (pp : Nat → Nat) (M0 : mh) (v : Nat → Nat → Int32)   : Met l yX4_layAside (ws_ yX4_layAside cX4_layAside 2 (none)) ({ frames := 0, cells := 0, slots := 0, locals := 0 }) (va_Pc [.ref (pp 0)] (mU G A (fun M => Mdl G pp M0 M v))) (mQv G A (fun M => Mdl G pp M0 M (mf_layAside v))) 0 0 A := by
  refine mx_ofv (by decide) (Nat.le_of_ble_eq_true rfl) ?_
  intro p e R s m av below meth c M H Q ls X hRf hRl hRc hRs hin hM w fin hl
  have X : CallFix p m c cX4_layAside 2 s av lw_all "FieldPumpsModel" := X
  have hx := X.1
  have hb := X.2.1
  have hl : lv_has ls 2 [(0, .ref (pp 0))] := hl
  have hRf : R.frames = 0 := hRf
  have hRl : R.locals = 0 := hRl
  generalize ([] : List Loc) = locs at w ⊢
  generalize E : mf_layAside v = z at fin
  rw [mf_layAside] at E
  refine lv_iconst (v := (0 : Int32)) hx hb dX4_layAside_0 (by decide) ?_
  refine lv_istore_n (lv' := [(1, .int (0 : Int32)), (0, .ref (pp 0))]) hx hb dX4_layAside_1 rfl hl (by decide) rfl (fun ls hl => ?_)
  have L2 : ∀ (n_2 : Nat) (n1_2 : Nat) (v_2 : (Nat → Nat → Int32)) (M : mh) (H : Heap) (locs : List Loc) (ls : Array Slot), (hi : n1_2 ≤ 170) → (hm : 170 < n1_2 + n_2) → mf_layAside_2 v n_2 n1_2 v_2 = z → lv_has ls 2 [(0, .ref (pp 0)), (1, .int (nI n1_2))] → mW G A s M H locs → Mdl G pp M0 M v_2 → W p l e R s m av below meth c H locs 0 0 Q (F0 m 2 ls []) := by
    intro n_2
    induction n_2 with
    | zero =>
      intro n1_2 v_2 M H locs ls hi hm E hl w hM
      exfalso; omega
    | succ n_2 ih_2 =>
      intro n1_2 v_2 M H locs ls hi hm E hl w hM
      rw [mf_layAside_2] at E
      refine lv_iload_n hx hb dX4_layAside_2 rfl (lv_at hl 1 rfl) ?_
      refine lv_sipush (v := (170 : Int32)) hx hb dX4_layAside_3 (by decide) ?_
      refine mx_nge (u := n1_2) (v := 170) (tgt := 27) hx hb rfl rfl (by omega) (by omega) dX4_layAside_6 (by decide) (fun c_6 => ?_) (fun c_6 => ?_)
      · rw [if_pos c_6] at E
        exact fin M H locs ls 27 dX4_layAside_27 (by rw [← E]; exact hM) w
      · rw [if_neg c_6] at E
        refine lv_aload_n hx hb dX4_layAside_9 rfl (lv_at hl 0 rfl) ?_
        refine mx_get (v := .ref (pp 3)) X w in_X4 (ci := 3) rfl 3 (by decide) q2014 (fun _ h => h) hM.2.1 rfl dX4_layAside_10 ?_
        refine lv_iload_n hx hb dX4_layAside_13 rfl (lv_at hl 1 rfl) ?_
        refine lv_aload_n hx hb dX4_layAside_14 rfl (lv_at hl 0 rfl) ?_
        refine mx_get (v := .ref (pp 1)) X w in_X4 (ci := 3) rfl 0 (by decide) q2011 (fun _ h => h) hM.2.1 rfl dX4_layAside_15 ?_
        refine lv_iload_n hx hb dX4_layAside_18 rfl (lv_at hl 1 rfl) ?_
        refine md_ald X w hM 1 (by decide) (by decide) n1_2 rfl (show n1_2 < 170 by omega) dX4_layAside_19 ?_
        refine md_ast (x := (v_2 1 n1_2)) X w hM 3 (by decide) (by decide) n1_2 rfl (show n1_2 < 170 by omega) dX4_layAside_20 (fun M H locs w hM => ?_)
        refine lv_iinc (v := (nI (n1_2 + 1))) (lv' := [(1, .int (nI (n1_2 + 1))), (0, .ref (pp 0))]) hx hb dX4_layAside_21 hl (k := 1) rfl (nI_incr _ 1) (by decide) rfl (fun ls hl => ?_)
        refine lv_goto (tgt := 2) hx hb dX4_layAside_24 (by decide) ?_
        exact ih_2 (n1_2 + 1) (u2 v_2 3 n1_2 (v_2 1 n1_2)) M H locs ls (by first | omega | assumption) (by first | omega | assumption) E (lv_sub hl [1, 0] rfl) w hM
  exact L2 180 0 v M H locs ls (by first | omega | assumption) (by first | omega | assumption) E (lv_sub hl [1, 0] rfl) w hM
def mf_takeBack_2 (v : (Nat → Nat → Int32)) : Nat → Nat → (Nat → Nat → Int32) → (Nat → Nat → Int32)
  | 0, _, v_2 => v_2
  | n_2 + 1, n1_2, v_2 => (if 170 ≤ n1_2 then v_2 else ( (mf_takeBack_2 v n_2) (n1_2 + 1) (u2 v_2 1 n1_2 (v_2 3 n1_2))))
def mf_takeBack (v : (Nat → Nat → Int32)) : (Nat → Nat → Int32) := (mf_takeBack_2 v 180 0 v)
set_option maxHeartbeats 4000000 in
set_option maxRecDepth 100000 in
theorem mt_takeBack (l : Launch) (G : mg) (A : Nat → Prop) (pp : Nat → Nat) (M0 : mh) (v : Nat → Nat → Int32)   : Met l yX4_takeBack (ws_ yX4_takeBack cX4_takeBack 2 (none)) ({ frames := 0, cells := 0, slots := 0, locals := 0 }) (va_Pc [.ref (pp 0)] (mU G A (fun M => Mdl G pp M0 M v))) (mQv G A (fun M => Mdl G pp M0 M (mf_takeBack v))) 0 0 A := by
  refine mx_ofv (by decide) (Nat.le_of_ble_eq_true rfl) ?_
  intro p e R s m av below meth c M H Q ls X hRf hRl hRc hRs hin hM w fin hl
  have X : CallFix p m c cX4_takeBack 2 s av lw_all "FieldPumpsModel" := X
  have hx := X.1
  have hb := X.2.1
  have hl : lv_has ls 2 [(0, .ref (pp 0))] := hl
  have hRf : R.frames = 0 := hRf
  have hRl : R.locals = 0 := hRl
  generalize ([] : List Loc) = locs at w ⊢
  generalize E : mf_takeBack v = z at fin
  rw [mf_takeBack] at E
  refine lv_iconst (v := (0 : Int32)) hx hb dX4_takeBack_0 (by decide) ?_
  refine lv_istore_n (lv' := [(1, .int (0 : Int32)), (0, .ref (pp 0))]) hx hb dX4_takeBack_1 rfl hl (by decide) rfl (fun ls hl => ?_)
  have L2 : ∀ (n_2 : Nat) (n1_2 : Nat) (v_2 : (Nat → Nat → Int32)) (M : mh) (H : Heap) (locs : List Loc) (ls : Array Slot), (hi : n1_2 ≤ 170) → (hm : 170 < n1_2 + n_2) → mf_takeBack_2 v n_2 n1_2 v_2 = z → lv_has ls 2 [(0, .ref (pp 0)), (1, .int (nI n1_2))] → mW G A s M H locs → Mdl G pp M0 M v_2 → W p l e R s m av below meth c H locs 0 0 Q (F0 m 2 ls []) := by
    intro n_2
    induction n_2 with
    | zero =>
      intro n1_2 v_2 M H locs ls hi hm E hl w hM
      exfalso; omega
    | succ n_2 ih_2 =>
      intro n1_2 v_2 M H locs ls hi hm E hl w hM
      rw [mf_takeBack_2] at E
      refine lv_iload_n hx hb dX4_takeBack_2 rfl (lv_at hl 1 rfl) ?_
      refine lv_sipush (v := (170 : Int32)) hx hb dX4_takeBack_3 (by decide) ?_
      refine mx_nge (u := n1_2) (v := 170) (tgt := 27) hx hb rfl rfl (by omega) (by omega) dX4_takeBack_6 (by decide) (fun c_6 => ?_) (fun c_6 => ?_)
      · rw [if_pos c_6] at E
        exact fin M H locs ls 27 dX4_takeBack_27 (by rw [← E]; exact hM) w
      · rw [if_neg c_6] at E
        refine lv_aload_n hx hb dX4_takeBack_9 rfl (lv_at hl 0 rfl) ?_
        refine mx_get (v := .ref (pp 1)) X w in_X4 (ci := 3) rfl 0 (by decide) q2011 (fun _ h => h) hM.2.1 rfl dX4_takeBack_10 ?_
        refine lv_iload_n hx hb dX4_takeBack_13 rfl (lv_at hl 1 rfl) ?_
        refine lv_aload_n hx hb dX4_takeBack_14 rfl (lv_at hl 0 rfl) ?_
        refine mx_get (v := .ref (pp 3)) X w in_X4 (ci := 3) rfl 3 (by decide) q2014 (fun _ h => h) hM.2.1 rfl dX4_takeBack_15 ?_
        refine lv_iload_n hx hb dX4_takeBack_18 rfl (lv_at hl 1 rfl) ?_
        refine md_ald X w hM 3 (by decide) (by decide) n1_2 rfl (show n1_2 < 170 by omega) dX4_takeBack_19 ?_
        refine md_ast (x := (v_2 3 n1_2)) X w hM 1 (by decide) (by decide) n1_2 rfl (show n1_2 < 170 by omega) dX4_takeBack_20 (fun M H locs w hM => ?_)
        refine lv_iinc (v := (nI (n1_2 + 1))) (lv' := [(1, .int (nI (n1_2 + 1))), (0, .ref (pp 0))]) hx hb dX4_takeBack_21 hl (k := 1) rfl (nI_incr _ 1) (by decide) rfl (fun ls hl => ?_)
        refine lv_goto (tgt := 2) hx hb dX4_takeBack_24 (by decide) ?_
        exact ih_2 (n1_2 + 1) (u2 v_2 1 n1_2 (v_2 3 n1_2)) M H locs ls (by first | omega | assumption) (by first | omega | assumption) E (lv_sub hl [1, 0] rfl) w hM
  exact L2 180 0 v M H locs ls (by first | omega | assumption) (by first | omega | assumption) E (lv_sub hl [1, 0] rfl) w hM
theorem layAside_2_1 (v : Nat → Nat → Int32) : ∀ (n k : Nat) (w : Nat → Nat → Int32) (r : Nat), r ≠ 3 → mf_layAside_2 v n k w r = w r := by
  intro n
  induction n with
  | zero => intro k w r _; rfl
  | succ n ih =>
    intro k w r h
    rw [mf_layAside_2]
    split
    · rfl
    · rw [ih _ _ _ h, u2_r h]
theorem layAside_r {v : Nat → Nat → Int32} {r : Nat} (h : r ≠ 3) : mf_layAside v r = v r := layAside_2_1 v _ _ _ r h
def mf_set_c12 (v : (Nat → Nat → Int32)) (what : Int32) (value : Int32) (v_12 : (Nat → Nat → Int32)) : (Int32 × (Nat → Nat → Int32)) := ((mf_setting v_12 (tN what)), (u2 v_12 1 (20 + (tN what)) value))
def mf_set (v : (Nat → Nat → Int32)) (what : Int32) (value : Int32) : Int32 × (Nat → Nat → Int32) := (if (mf_isSetting what value) = true then (mf_set_c12 v what value (mf_save v )) else ((-1000001 : Int32), v))
set_option maxHeartbeats 4000000 in
set_option maxRecDepth 100000 in
theorem mt_set (l : Launch) (G : mg) (A : Nat → Prop) (pp : Nat → Nat) (M0 : mh) (v : Nat → Nat → Int32) (what : Int32) (value : Int32) (hs : rg (v 0 2) 4) : Met l yX4_set (ws_ yX4_set cX4_set 4 (some .int)) ({ frames := 2, cells := 0, slots := 0, locals := 46 }) (va_Pc [.ref (pp 0), .int what, .int value] (mU G A (fun M => Mdl G pp M0 M v))) (mQi G A (fun r M => r = (mf_set v what value).1 ∧ Mdl G pp M0 M (mf_set v what value).2)) 0 0 A := by
  refine mx_ofi (by decide) (Nat.le_of_ble_eq_true rfl) ?_
  intro p e R s m av below meth c M H Q ls X hRf hRl hRc hRs hin hM w fin hl
  have X : CallFix p m c cX4_set 4 s av lw_all "FieldPumpsModel" := X
  have hx := X.1
  have hb := X.2.1
  have hl : lv_has ls 4 [(0, .ref (pp 0)), (1, .int what), (2, .int value)] := hl
  have hRf : R.frames = 2 := hRf
  have hRl : R.locals = 46 := hRl
  generalize ([] : List Loc) = locs at w ⊢
  generalize E : mf_set v what value = z at fin
  rw [mf_set] at E
  refine lv_iload_n hx hb dX4_set_0 rfl (lv_at hl 1 rfl) ?_
  refine lv_iload_n hx hb dX4_set_1 rfl (lv_at hl 2 rfl) ?_
  refine mx_bi w (va_runS (As := [.int what, .int value]) (rest := []) X (mt_isSetting l G A M what value  ) (va_cwS 2 X.2.2.2.2 (lw_S q2055 q2056 q113 q2057) rfl rfl rfl (by decide +kernel) ⟨by rw [hRf]; decide, by rw [hRl]; decide⟩) (mx_preS w rfl) rfl rfl hl.1 rfl (lv_room (Nat.le_of_ble_eq_true rfl)) dX4_set_2 ⟨Nat.zero_le _, Nat.zero_le _⟩) (fun r M H locs hp w => ?_)
  obtain ⟨rfl, hp2⟩ := hp; rw [← hp2] at hM; clear hp2
  refine mx_bne (tgt := 11) hx hb dX4_set_5 (by decide) (fun c_5 => ?_) (fun c_5 => ?_)
  · rw [if_pos c_5] at E
    obtain ⟨hw1, hw2⟩ := isSetting_n c_5
    refine lv_aload_n hx hb dX4_set_11 rfl (lv_at hl 0 rfl) ?_
    refine mx_bv w (va_runV (As := []) (rest := []) X (mt_save l G A pp M0 v   (by first | omega | assumption)) (cwV 0 X.2.2.2.2 (lw_V q2074 q2076 qs46 q113 q2077) rfl rfl rfl (by decide +kernel) ⟨by rw [hRf]; decide, by rw [hRl]; decide⟩) (mx_preV w hM hM.2.1 rfl) rfl rfl hl.1 rfl (lv_room (Nat.le_of_ble_eq_true rfl)) dX4_set_12 ⟨Nat.zero_le _, Nat.zero_le _⟩) (fun M H locs hM w => ?_)
    rw [mf_set_c12] at E
    obtain ⟨v_12, ev_12⟩ : ∃ y, y = (mf_save v ) := ⟨_, rfl⟩
    rw [← ev_12] at E hM
    refine lv_aload_n hx hb dX4_set_15 rfl (lv_at hl 0 rfl) ?_
    refine lv_iload_n hx hb dX4_set_16 rfl (lv_at hl 1 rfl) ?_
    refine mx_cast (z := nI (tN what)) (hw1) ?_
    refine mx_bi w (va_runV (As := [.int (nI (tN what))]) (rest := []) X (mt_setting l G A pp M0 v_12 (tN what)  (by first | omega | assumption)) (cwV 1 X.2.2.2.2 (lw_V q2078 q2080 qs47 q113 q2081) rfl rfl rfl (by decide +kernel) ⟨by rw [hRf]; decide, by rw [hRl]; decide⟩) (mx_preV w hM hM.2.1 rfl) rfl rfl hl.1 rfl (lv_room (Nat.le_of_ble_eq_true rfl)) dX4_set_17 ⟨Nat.zero_le _, Nat.zero_le _⟩) (fun r M H locs hp w => ?_)
    obtain ⟨rfl, hM⟩ := hp
    refine lv_istore_n (lv' := [(3, .int (mf_setting v_12 (tN what))), (0, .ref (pp 0)), (1, .int what), (2, .int value)]) hx hb dX4_set_20 rfl hl (by decide) rfl (fun ls hl => ?_)
    refine lv_aload_n hx hb dX4_set_21 rfl (lv_at hl 1 rfl) ?_
    refine mx_get (v := .ref (pp 1)) X w in_X4 (ci := 3) rfl 0 (by decide) q2011 (fun _ h => h) hM.2.1 rfl dX4_set_22 ?_
    refine lv_bipush (v := (20 : Int32)) hx hb dX4_set_25 (by decide) ?_
    refine lv_iload_n hx hb dX4_set_27 rfl (lv_at hl 2 rfl) ?_
    refine mx_cast (z := nI (tN what)) (hw1) ?_
    refine mx_nadd (u := 20) (v := tN what) hx hb rfl rfl dX4_set_28 ?_
    refine lv_iload_n hx hb dX4_set_29 rfl (lv_at hl 3 rfl) ?_
    refine md_ast (x := value) X w hM 1 (by decide) (by decide) (20 + (tN what)) rfl (show 20 + (tN what) < 170 by omega) dX4_set_30 (fun M H locs w hM => ?_)
    refine lv_iload_n hx hb dX4_set_31 rfl (lv_at hl 0 rfl) ?_
    exact fin (mf_setting v_12 (tN what)) M H locs ls 32 dX4_set_32 ⟨by rw [← E], by rw [← E]; exact hM⟩ w
  · rw [if_neg c_5] at E
    refine lv_ldc (v := (-1000001 : Int32)) hx hb X.2.2.2.1 (X.2.2.2.2 _ q2073) dX4_set_8 ?_
    exact fin (-1000001 : Int32) M H locs ls 10 dX4_set_10 ⟨by rw [← E], by rw [← E]; exact hM⟩ w
def mf_pump_38 (v : (Nat → Nat → Int32)) (kind : Int32) (shutoff : Int32) (steep : Int32)  : (Int32 × (Nat → Nat → Int32)) := ((-1000001 : Int32), v)
def mf_pump_c123 (v : (Nat → Nat → Int32)) (kind : Int32) (shutoff : Int32) (steep : Int32) (v_57 : (Nat → Nat → Int32)) (rc_72 : Nat → (Nat → Nat → Int32) → (Int32 × (Nat → Nat → Int32))) (n5_72 : Nat) (v_72 : (Nat → Nat → Int32)) (v_99 : (Nat → Nat → Int32)) (v_107 : (Nat → Nat → Int32)) (v_115 : (Nat → Nat → Int32)) (v_123 : (Nat → Nat → Int32)) : (Int32 × (Nat → Nat → Int32)) := ((nI (nC (v 1) 14)), (u2 v_123 1 14 ((v_123 1 14) + (1 : Int32))))
def mf_pump_c115 (v : (Nat → Nat → Int32)) (kind : Int32) (shutoff : Int32) (steep : Int32) (v_57 : (Nat → Nat → Int32)) (rc_72 : Nat → (Nat → Nat → Int32) → (Int32 × (Nat → Nat → Int32))) (n5_72 : Nat) (v_72 : (Nat → Nat → Int32)) (v_99 : (Nat → Nat → Int32)) (v_107 : (Nat → Nat → Int32)) (v_115 : (Nat → Nat → Int32)) : (Int32 × (Nat → Nat → Int32)) := (mf_pump_c123 v kind shutoff steep v_57 rc_72 n5_72 v_72 v_99 v_107 v_115 (mf_put v_115 (nC (v 1) 14) 3 (1 : Int32)))
def mf_pump_c107 (v : (Nat → Nat → Int32)) (kind : Int32) (shutoff : Int32) (steep : Int32) (v_57 : (Nat → Nat → Int32)) (rc_72 : Nat → (Nat → Nat → Int32) → (Int32 × (Nat → Nat → Int32))) (n5_72 : Nat) (v_72 : (Nat → Nat → Int32)) (v_99 : (Nat → Nat → Int32)) (v_107 : (Nat → Nat → Int32)) : (Int32 × (Nat → Nat → Int32)) := (mf_pump_c115 v kind shutoff steep v_57 rc_72 n5_72 v_72 v_99 v_107 (mf_put v_107 (nC (v 1) 14) 2 steep))
def mf_pump_c99 (v : (Nat → Nat → Int32)) (kind : Int32) (shutoff : Int32) (steep : Int32) (v_57 : (Nat → Nat → Int32)) (rc_72 : Nat → (Nat → Nat → Int32) → (Int32 × (Nat → Nat → Int32))) (n5_72 : Nat) (v_72 : (Nat → Nat → Int32)) (v_99 : (Nat → Nat → Int32)) : (Int32 × (Nat → Nat → Int32)) := (mf_pump_c107 v kind shutoff steep v_57 rc_72 n5_72 v_72 v_99 (mf_put v_99 (nC (v 1) 14) 1 shutoff))
def mf_pump_c85 (v : (Nat → Nat → Int32)) (kind : Int32) (shutoff : Int32) (steep : Int32) (v_57 : (Nat → Nat → Int32)) (rc_72 : Nat → (Nat → Nat → Int32) → (Int32 × (Nat → Nat → Int32))) (n5_72 : Nat) (v_72 : (Nat → Nat → Int32)) (v_85 : (Nat → Nat → Int32)) : (Int32 × (Nat → Nat → Int32)) := ( rc_72 (n5_72 + 1) v_85)
def mf_pump_72 (v : (Nat → Nat → Int32)) (kind : Int32) (shutoff : Int32) (steep : Int32) (v_57 : (Nat → Nat → Int32)) : Nat → Nat → (Nat → Nat → Int32) → (Int32 × (Nat → Nat → Int32))
  | 0, _, v_72 => ((-1), v_72)
  | n_72 + 1, n5_72, v_72 => (if 8 ≤ n5_72 then (mf_pump_c99 v kind shutoff steep v_57 (mf_pump_72 v kind shutoff steep v_57 n_72) n5_72 v_72 (mf_put v_72 (nC (v 1) 14) 0 kind)) else (mf_pump_c85 v kind shutoff steep v_57 (mf_pump_72 v kind shutoff steep v_57 n_72) n5_72 v_72 (mf_put v_72 (nC (v 1) 14) n5_72 (0 : Int32))))
def mf_pump_c57 (v : (Nat → Nat → Int32)) (kind : Int32) (shutoff : Int32) (steep : Int32) (v_57 : (Nat → Nat → Int32)) : (Int32 × (Nat → Nat → Int32)) := (mf_pump_72 v kind shutoff steep v_57 10 0 v_57)
def mf_pump (v : (Nat → Nat → Int32)) (kind : Int32) (shutoff : Int32) (steep : Int32) : Int32 × (Nat → Nat → Int32) := (if (mf_in kind.toInt64 (0 : Int64) (2 : Int64)) = true then (if (mf_in shutoff.toInt64 (100 : Int64) (2000 : Int64)) = true then (if (mf_in steep.toInt64 (1 : Int64) (1000 : Int64)) = true then (if (v 1 14) = (6 : Int32) then ((-1000003 : Int32), v) else (mf_pump_c57 v kind shutoff steep (mf_save v ))) else (mf_pump_38 v kind shutoff steep )) else (mf_pump_38 v kind shutoff steep )) else (mf_pump_38 v kind shutoff steep ))
set_option maxHeartbeats 4000000 in
set_option maxRecDepth 100000 in
theorem mt_pump (l : Launch) (G : mg) (A : Nat → Prop) (pp : Nat → Nat) (M0 : mh) (v : Nat → Nat → Int32) (kind : Int32) (shutoff : Int32) (steep : Int32) (T np nz ng : Nat) (hI : IP T np nz ng (v 1)) (hs : rg (v 0 2) 4) : Met l yX4_pump (ws_ yX4_pump cX4_pump 6 (some .int)) ({ frames := 1, cells := 0, slots := 0, locals := 25 }) (va_Pc [.ref (pp 0), .int kind, .int shutoff, .int steep] (mU G A (fun M => Mdl G pp M0 M v))) (mQi G A (fun r M => r = (mf_pump v kind shutoff steep).1 ∧ Mdl G pp M0 M (mf_pump v kind shutoff steep).2)) 0 0 A := by
  refine mx_ofi (by decide) (Nat.le_of_ble_eq_true rfl) ?_
  intro p e R s m av below meth c M H Q ls X hRf hRl hRc hRs hin hM w fin hl
  have X : CallFix p m c cX4_pump 6 s av lw_all "FieldPumpsModel" := X
  have hx := X.1
  have hb := X.2.1
  have hl : lv_has ls 6 [(0, .ref (pp 0)), (1, .int kind), (2, .int shutoff), (3, .int steep)] := hl
  have hRf : R.frames = 1 := hRf
  have hRl : R.locals = 25 := hRl
  generalize ([] : List Loc) = locs at w ⊢
  generalize E : mf_pump v kind shutoff steep = z at fin
  rw [mf_pump] at E
  have hb6 := hI.b
  have hcp := hI.cp
  have hcz := hI.cz
  have hcg := hI.cg
  refine lv_iload_n hx hb dX4_pump_0 rfl (lv_at hl 1 rfl) ?_
  refine lv_i2l hx hb dX4_pump_1 rfl ?_
  refine lv_lconst (v := (0 : Int64)) hx hb dX4_pump_2 (by decide) ?_
  refine lv_ldc2 (v := (2 : Int64)) hx hb X.2.2.2.1 (X.2.2.2.2 _ q2086) dX4_pump_3 ?_
  refine mx_bi w (va_runS (As := [.long kind.toInt64, .long (0 : Int64), .long (2 : Int64)]) (rest := []) X (mt_in l G A M kind.toInt64 (0 : Int64) (2 : Int64)  ) (va_cwS 3 X.2.2.2.2 (lw_S q2060 q2061 q113 q2062) rfl rfl rfl (by decide +kernel) ⟨by rw [hRf]; decide, by rw [hRl]; decide⟩) (mx_preS w rfl) rfl rfl hl.1 rfl (lv_room (Nat.le_of_ble_eq_true rfl)) dX4_pump_6 ⟨Nat.zero_le _, Nat.zero_le _⟩) (fun r M H locs hp w => ?_)
  obtain ⟨rfl, hp2⟩ := hp; rw [← hp2] at hM; clear hp2
  have J38 : ∀  (M : mh) (H : Heap) (locs : List Loc) (ls : Array Slot), mf_pump_38 v kind shutoff steep  = z → lv_has ls 6 [] → mW G A s M H locs → Mdl G pp M0 M v → W p l e R s m av below meth c H locs 0 0 Q (F0 m 38 ls []) := by
    intro  M H locs ls  E hl w hM
    rw [mf_pump_38] at E
    refine lv_ldc (v := (-1000001 : Int32)) hx hb X.2.2.2.1 (X.2.2.2.2 _ q2073) dX4_pump_38 ?_
    exact fin (-1000001 : Int32) M H locs ls 40 dX4_pump_40 ⟨by rw [← E], by rw [← E]; exact hM⟩ w
  refine mx_beq (tgt := 38) hx hb dX4_pump_9 (by decide) (fun c_9 => ?_) (fun c_9 => ?_)
  · rw [if_neg c_9] at E
    exact J38  M H locs ls E (lv_sub hl [] rfl) w hM
  · rw [if_pos c_9] at E
    refine lv_iload_n hx hb dX4_pump_12 rfl (lv_at hl 2 rfl) ?_
    refine lv_i2l hx hb dX4_pump_13 rfl ?_
    refine lv_ldc2 (v := (100 : Int64)) hx hb X.2.2.2.1 (X.2.2.2.2 _ q2058) dX4_pump_14 ?_
    refine lv_ldc2 (v := (2000 : Int64)) hx hb X.2.2.2.1 (X.2.2.2.2 _ q2087) dX4_pump_17 ?_
    refine mx_bi w (va_runS (As := [.long shutoff.toInt64, .long (100 : Int64), .long (2000 : Int64)]) (rest := []) X (mt_in l G A M shutoff.toInt64 (100 : Int64) (2000 : Int64)  ) (va_cwS 3 X.2.2.2.2 (lw_S q2060 q2061 q113 q2062) rfl rfl rfl (by decide +kernel) ⟨by rw [hRf]; decide, by rw [hRl]; decide⟩) (mx_preS w rfl) rfl rfl hl.1 rfl (lv_room (Nat.le_of_ble_eq_true rfl)) dX4_pump_20 ⟨Nat.zero_le _, Nat.zero_le _⟩) (fun r M H locs hp w => ?_)
    obtain ⟨rfl, hp2⟩ := hp; rw [← hp2] at hM; clear hp2
    refine mx_beq (tgt := 38) hx hb dX4_pump_23 (by decide) (fun c_23 => ?_) (fun c_23 => ?_)
    · rw [if_neg c_23] at E
      exact J38  M H locs ls E (lv_sub hl [] rfl) w hM
    · rw [if_pos c_23] at E
      refine lv_iload_n hx hb dX4_pump_26 rfl (lv_at hl 3 rfl) ?_
      refine lv_i2l hx hb dX4_pump_27 rfl ?_
      refine lv_lconst (v := (1 : Int64)) hx hb dX4_pump_28 (by decide) ?_
      refine lv_ldc2 (v := (1000 : Int64)) hx hb X.2.2.2.1 (X.2.2.2.2 _ q2066) dX4_pump_29 ?_
      refine mx_bi w (va_runS (As := [.long steep.toInt64, .long (1 : Int64), .long (1000 : Int64)]) (rest := []) X (mt_in l G A M steep.toInt64 (1 : Int64) (1000 : Int64)  ) (va_cwS 3 X.2.2.2.2 (lw_S q2060 q2061 q113 q2062) rfl rfl rfl (by decide +kernel) ⟨by rw [hRf]; decide, by rw [hRl]; decide⟩) (mx_preS w rfl) rfl rfl hl.1 rfl (lv_room (Nat.le_of_ble_eq_true rfl)) dX4_pump_32 ⟨Nat.zero_le _, Nat.zero_le _⟩) (fun r M H locs hp w => ?_)
      obtain ⟨rfl, hp2⟩ := hp; rw [← hp2] at hM; clear hp2
      refine mx_bne (tgt := 41) hx hb dX4_pump_35 (by decide) (fun c_35 => ?_) (fun c_35 => ?_)
      · rw [if_pos c_35] at E
        refine lv_aload_n hx hb dX4_pump_41 rfl (lv_at hl 0 rfl) ?_
        refine mx_get (v := .ref (pp 1)) X w in_X4 (ci := 3) rfl 0 (by decide) q2011 (fun _ h => h) hM.2.1 rfl dX4_pump_42 ?_
        refine lv_bipush (v := (14 : Int32)) hx hb dX4_pump_45 (by decide) ?_
        refine md_ald X w hM 1 (by decide) (by decide) 14 rfl (show 14 < 170 by decide) dX4_pump_47 ?_
        refine lv_bipush (v := (6 : Int32)) hx hb dX4_pump_48 (by decide) ?_
        refine lv_icmp_ne (tgt := 56) hx hb dX4_pump_50 (by decide) (fun c_50 => ?_) (fun c_50 => ?_)
        · rw [if_neg c_50] at E
          have hlt := cnt_lt (m := 6) hI.enp hI.n6 c_50
          refine lv_aload_n hx hb dX4_pump_56 rfl (lv_at hl 0 rfl) ?_
          refine mx_bv w (va_runV (As := []) (rest := []) X (mt_save l G A pp M0 v   (by first | omega | assumption)) (cwV 0 X.2.2.2.2 (lw_V q2074 q2076 qs46 q113 q2077) rfl rfl rfl (by decide +kernel) ⟨by rw [hRf]; decide, by rw [hRl]; decide⟩) (mx_preV w hM hM.2.1 rfl) rfl rfl hl.1 rfl (lv_room (Nat.le_of_ble_eq_true rfl)) dX4_pump_57 ⟨Nat.zero_le _, Nat.zero_le _⟩) (fun M H locs hM w => ?_)
          rw [mf_pump_c57] at E
          obtain ⟨v_57, ev_57⟩ : ∃ y, y = (mf_save v ) := ⟨_, rfl⟩
          rw [← ev_57] at E hM
          have hs7 : v_57 1 = v 1 := by rw [ev_57]; exact save_1 v
          refine lv_aload_n hx hb dX4_pump_60 rfl (lv_at hl 0 rfl) ?_
          refine mx_get (v := .ref (pp 1)) X w in_X4 (ci := 3) rfl 0 (by decide) q2011 (fun _ h => h) hM.2.1 rfl dX4_pump_61 ?_
          refine lv_bipush (v := (14 : Int32)) hx hb dX4_pump_64 (by decide) ?_
          refine md_ald X w hM 1 (by decide) (by decide) 14 rfl (show 14 < 170 by decide) dX4_pump_66 ?_
          refine mx_cast (z := nI (nC (v 1) 14)) (by rw [hs7, hcp]; exact hI.enp) ?_
          refine lv_istore (lv' := [(4, .int (nI (nC (v 1) 14))), (0, .ref (pp 0)), (1, .int kind), (2, .int shutoff), (3, .int steep)]) hx hb dX4_pump_67 hl (by decide) rfl (fun ls hl => ?_)
          refine lv_iconst (v := (0 : Int32)) hx hb dX4_pump_69 (by decide) ?_
          refine lv_istore (lv' := [(5, .int (0 : Int32)), (4, .int (nI (nC (v 1) 14))), (0, .ref (pp 0)), (1, .int kind), (2, .int shutoff), (3, .int steep)]) hx hb dX4_pump_70 hl (by decide) rfl (fun ls hl => ?_)
          have L72 : ∀ (n_72 : Nat) (n5_72 : Nat) (v_72 : (Nat → Nat → Int32)) (M : mh) (H : Heap) (locs : List Loc) (ls : Array Slot), (hi : n5_72 ≤ 8) → (hm : 8 < n5_72 + n_72) → mf_pump_72 v kind shutoff steep v_57 n_72 n5_72 v_72 = z → lv_has ls 6 [(4, .int (nI (nC (v 1) 14))), (0, .ref (pp 0)), (1, .int kind), (2, .int shutoff), (3, .int steep), (5, .int (nI n5_72))] → mW G A s M H locs → Mdl G pp M0 M v_72 → W p l e R s m av below meth c H locs 0 0 Q (F0 m 72 ls []) := by
            intro n_72
            induction n_72 with
            | zero =>
              intro n5_72 v_72 M H locs ls hi hm E hl w hM
              exfalso; omega
            | succ n_72 ih_72 =>
              intro n5_72 v_72 M H locs ls hi hm E hl w hM
              rw [mf_pump_72] at E
              refine lv_iload hx hb dX4_pump_72 (lv_at hl 5 rfl) ?_
              refine lv_bipush (v := (8 : Int32)) hx hb dX4_pump_74 (by decide) ?_
              refine mx_nge (u := n5_72) (v := 8) (tgt := 94) hx hb rfl rfl (by omega) (by omega) dX4_pump_76 (by decide) (fun c_76 => ?_) (fun c_76 => ?_)
              · rw [if_pos c_76] at E
                refine lv_aload_n hx hb dX4_pump_94 rfl (lv_at hl 1 rfl) ?_
                refine lv_iload hx hb dX4_pump_95 (lv_at hl 0 rfl) ?_
                refine lv_iconst (v := (0 : Int32)) hx hb dX4_pump_97 (by decide) ?_
                refine lv_iload_n hx hb dX4_pump_98 rfl (lv_at hl 2 rfl) ?_
                refine mx_bv w (va_runV (As := [.int (nI (nC (v 1) 14)), .int (nI 0), .int kind]) (rest := []) X (mt_put l G A pp M0 v_72 (nC (v 1) 14) 0 kind  (by first | omega | assumption) (by first | omega | assumption)) (cwV 3 X.2.2.2.2 (lw_V q2089 q2091 qs48 q113 q2092) rfl rfl rfl (by decide +kernel) ⟨by rw [hRf]; decide, by rw [hRl]; decide⟩) (mx_preV w hM hM.2.1 rfl) rfl rfl hl.1 rfl (lv_room (Nat.le_of_ble_eq_true rfl)) dX4_pump_99 ⟨Nat.zero_le _, Nat.zero_le _⟩) (fun M H locs hM w => ?_)
                rw [mf_pump_c99] at E
                obtain ⟨v_99, ev_99⟩ : ∃ y, y = (mf_put v_72 (nC (v 1) 14) 0 kind) := ⟨_, rfl⟩
                rw [← ev_99] at E hM
                refine lv_aload_n hx hb dX4_pump_102 rfl (lv_at hl 1 rfl) ?_
                refine lv_iload hx hb dX4_pump_103 (lv_at hl 0 rfl) ?_
                refine lv_iconst (v := (1 : Int32)) hx hb dX4_pump_105 (by decide) ?_
                refine lv_iload_n hx hb dX4_pump_106 rfl (lv_at hl 3 rfl) ?_
                refine mx_bv w (va_runV (As := [.int (nI (nC (v 1) 14)), .int (nI 1), .int shutoff]) (rest := []) X (mt_put l G A pp M0 v_99 (nC (v 1) 14) 1 shutoff  (by first | omega | assumption) (by first | omega | assumption)) (cwV 3 X.2.2.2.2 (lw_V q2089 q2091 qs48 q113 q2092) rfl rfl rfl (by decide +kernel) ⟨by rw [hRf]; decide, by rw [hRl]; decide⟩) (mx_preV w hM hM.2.1 rfl) rfl rfl hl.1 rfl (lv_room (Nat.le_of_ble_eq_true rfl)) dX4_pump_107 ⟨Nat.zero_le _, Nat.zero_le _⟩) (fun M H locs hM w => ?_)
                rw [mf_pump_c107] at E
                obtain ⟨v_107, ev_107⟩ : ∃ y, y = (mf_put v_99 (nC (v 1) 14) 1 shutoff) := ⟨_, rfl⟩
                rw [← ev_107] at E hM
                refine lv_aload_n hx hb dX4_pump_110 rfl (lv_at hl 1 rfl) ?_
                refine lv_iload hx hb dX4_pump_111 (lv_at hl 0 rfl) ?_
                refine lv_iconst (v := (2 : Int32)) hx hb dX4_pump_113 (by decide) ?_
                refine lv_iload_n hx hb dX4_pump_114 rfl (lv_at hl 4 rfl) ?_
                refine mx_bv w (va_runV (As := [.int (nI (nC (v 1) 14)), .int (nI 2), .int steep]) (rest := []) X (mt_put l G A pp M0 v_107 (nC (v 1) 14) 2 steep  (by first | omega | assumption) (by first | omega | assumption)) (cwV 3 X.2.2.2.2 (lw_V q2089 q2091 qs48 q113 q2092) rfl rfl rfl (by decide +kernel) ⟨by rw [hRf]; decide, by rw [hRl]; decide⟩) (mx_preV w hM hM.2.1 rfl) rfl rfl hl.1 rfl (lv_room (Nat.le_of_ble_eq_true rfl)) dX4_pump_115 ⟨Nat.zero_le _, Nat.zero_le _⟩) (fun M H locs hM w => ?_)
                rw [mf_pump_c115] at E
                obtain ⟨v_115, ev_115⟩ : ∃ y, y = (mf_put v_107 (nC (v 1) 14) 2 steep) := ⟨_, rfl⟩
                rw [← ev_115] at E hM
                refine lv_aload_n hx hb dX4_pump_118 rfl (lv_at hl 1 rfl) ?_
                refine lv_iload hx hb dX4_pump_119 (lv_at hl 0 rfl) ?_
                refine lv_iconst (v := (3 : Int32)) hx hb dX4_pump_121 (by decide) ?_
                refine lv_iconst (v := (1 : Int32)) hx hb dX4_pump_122 (by decide) ?_
                refine mx_bv w (va_runV (As := [.int (nI (nC (v 1) 14)), .int (nI 3), .int (1 : Int32)]) (rest := []) X (mt_put l G A pp M0 v_115 (nC (v 1) 14) 3 (1 : Int32)  (by first | omega | assumption) (by first | omega | assumption)) (cwV 3 X.2.2.2.2 (lw_V q2089 q2091 qs48 q113 q2092) rfl rfl rfl (by decide +kernel) ⟨by rw [hRf]; decide, by rw [hRl]; decide⟩) (mx_preV w hM hM.2.1 rfl) rfl rfl hl.1 rfl (lv_room (Nat.le_of_ble_eq_true rfl)) dX4_pump_123 ⟨Nat.zero_le _, Nat.zero_le _⟩) (fun M H locs hM w => ?_)
                rw [mf_pump_c123] at E
                obtain ⟨v_123, ev_123⟩ : ∃ y, y = (mf_put v_115 (nC (v 1) 14) 3 (1 : Int32)) := ⟨_, rfl⟩
                rw [← ev_123] at E hM
                refine lv_aload_n hx hb dX4_pump_126 rfl (lv_at hl 1 rfl) ?_
                refine mx_get (v := .ref (pp 1)) X w in_X4 (ci := 3) rfl 0 (by decide) q2011 (fun _ h => h) hM.2.1 rfl dX4_pump_127 ?_
                refine lv_bipush (v := (14 : Int32)) hx hb dX4_pump_130 (by decide) ?_
                refine lv_dup2_11 hx hb dX4_pump_132 rfl rfl ?_
                refine md_ald X w hM 1 (by decide) (by decide) 14 rfl (show 14 < 170 by decide) dX4_pump_133 ?_
                refine lv_iconst (v := (1 : Int32)) hx hb dX4_pump_134 (by decide) ?_
                refine lv_iadd hx hb dX4_pump_135 ?_
                refine md_ast (x := ((v_123 1 14) + (1 : Int32))) X w hM 1 (by decide) (by decide) 14 rfl (show 14 < 170 by decide) dX4_pump_136 (fun M H locs w hM => ?_)
                refine lv_iload hx hb dX4_pump_137 (lv_at hl 0 rfl) ?_
                exact fin (nI (nC (v 1) 14)) M H locs ls 139 dX4_pump_139 ⟨by rw [← E], by rw [← E]; exact hM⟩ w
              · rw [if_neg c_76] at E
                refine lv_aload_n hx hb dX4_pump_79 rfl (lv_at hl 1 rfl) ?_
                refine lv_iload hx hb dX4_pump_80 (lv_at hl 0 rfl) ?_
                refine lv_iload hx hb dX4_pump_82 (lv_at hl 5 rfl) ?_
                refine lv_iconst (v := (0 : Int32)) hx hb dX4_pump_84 (by decide) ?_
                refine mx_bv w (va_runV (As := [.int (nI (nC (v 1) 14)), .int (nI n5_72), .int (0 : Int32)]) (rest := []) X (mt_put l G A pp M0 v_72 (nC (v 1) 14) n5_72 (0 : Int32)  (by first | omega | assumption) (by first | omega | assumption)) (cwV 3 X.2.2.2.2 (lw_V q2089 q2091 qs48 q113 q2092) rfl rfl rfl (by decide +kernel) ⟨by rw [hRf]; decide, by rw [hRl]; decide⟩) (mx_preV w hM hM.2.1 rfl) rfl rfl hl.1 rfl (lv_room (Nat.le_of_ble_eq_true rfl)) dX4_pump_85 ⟨Nat.zero_le _, Nat.zero_le _⟩) (fun M H locs hM w => ?_)
                rw [mf_pump_c85] at E
                obtain ⟨v_85, ev_85⟩ : ∃ y, y = (mf_put v_72 (nC (v 1) 14) n5_72 (0 : Int32)) := ⟨_, rfl⟩
                rw [← ev_85] at E hM
                refine lv_iinc (v := (nI (n5_72 + 1))) (lv' := [(5, .int (nI (n5_72 + 1))), (4, .int (nI (nC (v 1) 14))), (0, .ref (pp 0)), (1, .int kind), (2, .int shutoff), (3, .int steep)]) hx hb dX4_pump_88 hl (k := 5) rfl (nI_incr _ 1) (by decide) rfl (fun ls hl => ?_)
                refine lv_goto (tgt := 72) hx hb dX4_pump_91 (by decide) ?_
                exact ih_72 (n5_72 + 1) v_85 M H locs ls (by first | omega | assumption) (by first | omega | assumption) E (lv_sub hl [1, 2, 3, 4, 5, 0] rfl) w hM
          exact L72 10 0 v_57 M H locs ls (by first | omega | assumption) (by first | omega | assumption) E (lv_sub hl [1, 2, 3, 4, 5, 0] rfl) w hM
        · rw [if_pos c_50] at E
          refine lv_ldc (v := (-1000003 : Int32)) hx hb X.2.2.2.1 (X.2.2.2.2 _ q2088) dX4_pump_53 ?_
          exact fin (-1000003 : Int32) M H locs ls 55 dX4_pump_55 ⟨by rw [← E], by rw [← E]; exact hM⟩ w
      · rw [if_neg c_35] at E
        exact J38  M H locs ls E (lv_sub hl [] rfl) w hM
def mf_service_18 (v : (Nat → Nat → Int32)) (k : Int32) (is : Int32)  : (Int32 × (Nat → Nat → Int32)) := ((-1000001 : Int32), v)
def mf_service_c41 (v : (Nat → Nat → Int32)) (k : Int32) (is : Int32) (v_35 : (Nat → Nat → Int32)) (v_41 : (Nat → Nat → Int32)) (r_41 : Int32) : (Int32 × (Nat → Nat → Int32)) := (r_41, v_41)
def mf_service_c35 (v : (Nat → Nat → Int32)) (k : Int32) (is : Int32) (v_35 : (Nat → Nat → Int32)) : (Int32 × (Nat → Nat → Int32)) := (mf_service_c41 v k is v_35 ((mf_serves v_35 (tN k) is).2) ((mf_serves v_35 (tN k) is).1))
def mf_service (v : (Nat → Nat → Int32)) (k : Int32) (is : Int32) : Int32 × (Nat → Nat → Int32) := (if (mf_isPump v k) = true then (if (mf_in is.toInt64 (0 : Int64) (1 : Int64)) = true then (if (mf_of v (tN k) 3) = is then ((-1000002 : Int32), v) else (mf_service_c35 v k is (mf_save v ))) else (mf_service_18 v k is )) else (mf_service_18 v k is ))
set_option maxHeartbeats 4000000 in
set_option maxRecDepth 100000 in
theorem mt_service (l : Launch) (G : mg) (A : Nat → Prop) (pp : Nat → Nat) (M0 : mh) (v : Nat → Nat → Int32) (k : Int32) (is : Int32) (T np nz ng : Nat) (hI : IP T np nz ng (v 1)) (hs : rg (v 0 2) 4) : Met l yX4_service (ws_ yX4_service cX4_service 3 (some .int)) ({ frames := 5, cells := 0, slots := 0, locals := 110 }) (va_Pc [.ref (pp 0), .int k, .int is] (mU G A (fun M => Mdl G pp M0 M v))) (mQi G A (fun r M => r = (mf_service v k is).1 ∧ Mdl G pp M0 M (mf_service v k is).2)) 0 0 A := by
  refine mx_ofi (by decide) (Nat.le_of_ble_eq_true rfl) ?_
  intro p e R s m av below meth c M H Q ls X hRf hRl hRc hRs hin hM w fin hl
  have X : CallFix p m c cX4_service 3 s av lw_all "FieldPumpsModel" := X
  have hx := X.1
  have hb := X.2.1
  have hl : lv_has ls 3 [(0, .ref (pp 0)), (1, .int k), (2, .int is)] := hl
  have hRf : R.frames = 5 := hRf
  have hRl : R.locals = 110 := hRl
  generalize ([] : List Loc) = locs at w ⊢
  generalize E : mf_service v k is = z at fin
  rw [mf_service] at E
  have hb6 := hI.b
  have hcp := hI.cp
  have hcz := hI.cz
  have hcg := hI.cg
  refine lv_aload_n hx hb dX4_service_0 rfl (lv_at hl 0 rfl) ?_
  refine lv_iload_n hx hb dX4_service_1 rfl (lv_at hl 1 rfl) ?_
  refine mx_bi w (va_runV (As := [.int k]) (rest := []) X (mt_isPump l G A pp M0 v k  ) (cwV 1 X.2.2.2.2 (lw_V q2097 q2099 qs49 q113 q2100) rfl rfl rfl (by decide +kernel) ⟨by rw [hRf]; decide, by rw [hRl]; decide⟩) (mx_preV w hM hM.2.1 rfl) rfl rfl hl.1 rfl (lv_room (Nat.le_of_ble_eq_true rfl)) dX4_service_2 ⟨Nat.zero_le _, Nat.zero_le _⟩) (fun r M H locs hp w => ?_)
  obtain ⟨rfl, hM⟩ := hp
  have J18 : ∀  (M : mh) (H : Heap) (locs : List Loc) (ls : Array Slot), mf_service_18 v k is  = z → lv_has ls 3 [] → mW G A s M H locs → Mdl G pp M0 M v → W p l e R s m av below meth c H locs 0 0 Q (F0 m 18 ls []) := by
    intro  M H locs ls  E hl w hM
    rw [mf_service_18] at E
    refine lv_ldc (v := (-1000001 : Int32)) hx hb X.2.2.2.1 (X.2.2.2.2 _ q2073) dX4_service_18 ?_
    exact fin (-1000001 : Int32) M H locs ls 20 dX4_service_20 ⟨by rw [← E], by rw [← E]; exact hM⟩ w
  refine mx_beq (tgt := 18) hx hb dX4_service_5 (by decide) (fun c_5 => ?_) (fun c_5 => ?_)
  · rw [if_neg c_5] at E
    exact J18  M H locs ls E (lv_sub hl [] rfl) w hM
  · rw [if_pos c_5] at E
    obtain ⟨hk1, hk2⟩ := isPump_n hI.enp hI.n6 c_5
    refine lv_iload_n hx hb dX4_service_8 rfl (lv_at hl 2 rfl) ?_
    refine lv_i2l hx hb dX4_service_9 rfl ?_
    refine lv_lconst (v := (0 : Int64)) hx hb dX4_service_10 (by decide) ?_
    refine lv_lconst (v := (1 : Int64)) hx hb dX4_service_11 (by decide) ?_
    refine mx_bi w (va_runS (As := [.long is.toInt64, .long (0 : Int64), .long (1 : Int64)]) (rest := []) X (mt_in l G A M is.toInt64 (0 : Int64) (1 : Int64)  ) (va_cwS 3 X.2.2.2.2 (lw_S q2060 q2061 q113 q2062) rfl rfl rfl (by decide +kernel) ⟨by rw [hRf]; decide, by rw [hRl]; decide⟩) (mx_preS w rfl) rfl rfl hl.1 rfl (lv_room (Nat.le_of_ble_eq_true rfl)) dX4_service_12 ⟨Nat.zero_le _, Nat.zero_le _⟩) (fun r M H locs hp w => ?_)
    obtain ⟨rfl, hp2⟩ := hp; rw [← hp2] at hM; clear hp2
    refine mx_bne (tgt := 21) hx hb dX4_service_15 (by decide) (fun c_15 => ?_) (fun c_15 => ?_)
    · rw [if_pos c_15] at E
      obtain ⟨hi1, _, hi2⟩ := in_n (a := 0) (b := 1) (by decide) c_15
      refine lv_aload_n hx hb dX4_service_21 rfl (lv_at hl 0 rfl) ?_
      refine lv_iload_n hx hb dX4_service_22 rfl (lv_at hl 1 rfl) ?_
      refine mx_cast (z := nI (tN k)) (hk1) ?_
      refine lv_iconst (v := (3 : Int32)) hx hb dX4_service_23 (by decide) ?_
      refine mx_bi w (va_runV (As := [.int (nI (tN k)), .int (nI 3)]) (rest := []) X (mt_of l G A pp M0 v (tN k) 3  (by first | omega | assumption) (by first | omega | assumption)) (cwV 2 X.2.2.2.2 (lw_V q2101 q2103 qs50 q113 q2104) rfl rfl rfl (by decide +kernel) ⟨by rw [hRf]; decide, by rw [hRl]; decide⟩) (mx_preV w hM hM.2.1 rfl) rfl rfl hl.1 rfl (lv_room (Nat.le_of_ble_eq_true rfl)) dX4_service_24 ⟨Nat.zero_le _, Nat.zero_le _⟩) (fun r M H locs hp w => ?_)
      obtain ⟨rfl, hM⟩ := hp
      refine lv_iload_n hx hb dX4_service_27 rfl (lv_at hl 2 rfl) ?_
      refine lv_icmp_ne (tgt := 34) hx hb dX4_service_28 (by decide) (fun c_28 => ?_) (fun c_28 => ?_)
      · rw [if_neg c_28] at E
        refine lv_aload_n hx hb dX4_service_34 rfl (lv_at hl 0 rfl) ?_
        refine mx_bv w (va_runV (As := []) (rest := []) X (mt_save l G A pp M0 v   (by first | omega | assumption)) (cwV 0 X.2.2.2.2 (lw_V q2074 q2076 qs46 q113 q2077) rfl rfl rfl (by decide +kernel) ⟨by rw [hRf]; decide, by rw [hRl]; decide⟩) (mx_preV w hM hM.2.1 rfl) rfl rfl hl.1 rfl (lv_room (Nat.le_of_ble_eq_true rfl)) dX4_service_35 ⟨Nat.zero_le _, Nat.zero_le _⟩) (fun M H locs hM w => ?_)
        rw [mf_service_c35] at E
        obtain ⟨v_35, ev_35⟩ : ∃ y, y = (mf_save v ) := ⟨_, rfl⟩
        rw [← ev_35] at E hM
        have hs5 : v_35 1 = v 1 := by rw [ev_35]; exact save_1 v
        refine lv_aload_n hx hb dX4_service_38 rfl (lv_at hl 0 rfl) ?_
        refine lv_iload_n hx hb dX4_service_39 rfl (lv_at hl 1 rfl) ?_
        refine mx_cast (z := nI (tN k)) (hk1) ?_
        refine lv_iload_n hx hb dX4_service_40 rfl (lv_at hl 2 rfl) ?_
        refine mx_bi w (va_runV (As := [.int (nI (tN k)), .int is]) (rest := []) X (mt_serves l G A pp M0 v_35 (tN k) is T np nz ng (by rw [hs5]; exact hI) (by omega) (⟨tN is, hi2, hi1⟩)) (cwV 2 X.2.2.2.2 (lw_V q2106 q2108 qs51 q113 q2109) rfl rfl rfl (by decide +kernel) ⟨by rw [hRf]; decide, by rw [hRl]; decide⟩) (mx_preV w hM hM.2.1 rfl) rfl rfl hl.1 rfl (lv_room (Nat.le_of_ble_eq_true rfl)) dX4_service_41 ⟨Nat.zero_le _, Nat.zero_le _⟩) (fun r M H locs hp w => ?_)
        obtain ⟨rfl, hM⟩ := hp
        rw [mf_service_c41] at E
        obtain ⟨v_41, ev_41⟩ : ∃ y, y = (mf_serves v_35 (tN k) is).2 := ⟨_, rfl⟩
        obtain ⟨r_41, er_41⟩ : ∃ y, y = (mf_serves v_35 (tN k) is).1 := ⟨_, rfl⟩
        rw [← ev_41] at E hM; (try rw [← er_41] at E); rw [← er_41]
        exact fin r_41 M H locs ls 44 dX4_service_44 ⟨by rw [← E], by rw [← E]; exact hM⟩ w
      · rw [if_pos c_28] at E
        refine lv_ldc (v := (-1000002 : Int32)) hx hb X.2.2.2.1 (X.2.2.2.2 _ q2105) dX4_service_31 ?_
        exact fin (-1000002 : Int32) M H locs ls 33 dX4_service_33 ⟨by rw [← E], by rw [← E]; exact hM⟩ w
    · rw [if_neg c_15] at E
      exact J18  M H locs ls E (lv_sub hl [] rfl) w hM
def mf_pumpOf_20 (v : (Nat → Nat → Int32)) (k : Int32) (what : Int32)  : Int32 := (-1000001 : Int32)
def mf_pumpOf_75 (v : (Nat → Nat → Int32)) (k : Int32) (what : Int32) (bs0_75 : Bool) : Int32 := (bI bs0_75)
def mf_pumpOf_114 (v : (Nat → Nat → Int32)) (k : Int32) (what : Int32) (is0_114 : Int32) : Int32 := is0_114
def mf_pumpOf (v : (Nat → Nat → Int32)) (k : Int32) (what : Int32) : Int32 := (if (mf_isPump v k) = true then (if (mf_in what.toInt64 (0 : Int64) (9 : Int64)) = true then (if what = (5 : Int32) then (if (v 1 4) = k then (mf_pumpOf_75 v k what true) else (mf_pumpOf_75 v k what false)) else (if what = (6 : Int32) then (mf_of v (tN k) (tN ((6 : Int32) - (1 : Int32)))) else (if what = (7 : Int32) then (mf_of v (tN k) (tN ((7 : Int32) - (1 : Int32)))) else (if what = (8 : Int32) then (mf_of v (tN k) (tN ((8 : Int32) - (1 : Int32)))) else (if what = (9 : Int32) then (if (mf_runs v (tN k)) = true then (mf_pumpOf_114 v k what (mf_flow v (tN k) (mf_of v (tN k) 4) (v 1 1))) else (mf_pumpOf_114 v k what (0 : Int32))) else (mf_of v (tN k) (tN what))))))) else (mf_pumpOf_20 v k what )) else (mf_pumpOf_20 v k what ))
set_option maxHeartbeats 4000000 in
set_option maxRecDepth 100000 in
theorem mt_pumpOf (l : Launch) (G : mg) (A : Nat → Prop) (pp : Nat → Nat) (M0 : mh) (v : Nat → Nat → Int32) (k : Int32) (what : Int32) (T np nz ng : Nat) (hI : IP T np nz ng (v 1)) : Met l yX4_pumpOf (ws_ yX4_pumpOf cX4_pumpOf 3 (some .int)) ({ frames := 2, cells := 0, slots := 0, locals := 48 }) (va_Pc [.ref (pp 0), .int k, .int what] (mU G A (fun M => Mdl G pp M0 M v))) (mQi G A (fun r M => r = mf_pumpOf v k what ∧ Mdl G pp M0 M v)) 0 0 A := by
  refine mx_ofi (by decide) (Nat.le_of_ble_eq_true rfl) ?_
  intro p e R s m av below meth c M H Q ls X hRf hRl hRc hRs hin hM w fin hl
  have X : CallFix p m c cX4_pumpOf 3 s av lw_all "FieldPumpsModel" := X
  have hx := X.1
  have hb := X.2.1
  have hl : lv_has ls 3 [(0, .ref (pp 0)), (1, .int k), (2, .int what)] := hl
  have hRf : R.frames = 2 := hRf
  have hRl : R.locals = 48 := hRl
  generalize ([] : List Loc) = locs at w ⊢
  generalize E : mf_pumpOf v k what = z at fin
  rw [mf_pumpOf] at E
  have hb6 := hI.b
  have hcp := hI.cp
  have hcz := hI.cz
  have hcg := hI.cg
  refine lv_aload_n hx hb dX4_pumpOf_0 rfl (lv_at hl 0 rfl) ?_
  refine lv_iload_n hx hb dX4_pumpOf_1 rfl (lv_at hl 1 rfl) ?_
  refine mx_bi w (va_runV (As := [.int k]) (rest := []) X (mt_isPump l G A pp M0 v k  ) (cwV 1 X.2.2.2.2 (lw_V q2097 q2099 qs49 q113 q2100) rfl rfl rfl (by decide +kernel) ⟨by rw [hRf]; decide, by rw [hRl]; decide⟩) (mx_preV w hM hM.2.1 rfl) rfl rfl hl.1 rfl (lv_room (Nat.le_of_ble_eq_true rfl)) dX4_pumpOf_2 ⟨Nat.zero_le _, Nat.zero_le _⟩) (fun r M H locs hp w => ?_)
  obtain ⟨rfl, hM⟩ := hp
  have J20 : ∀  (M : mh) (H : Heap) (locs : List Loc) (ls : Array Slot), mf_pumpOf_20 v k what  = z → lv_has ls 3 [] → mW G A s M H locs → Mdl G pp M0 M v → W p l e R s m av below meth c H locs 0 0 Q (F0 m 20 ls []) := by
    intro  M H locs ls  E hl w hM
    rw [mf_pumpOf_20] at E
    refine lv_ldc (v := (-1000001 : Int32)) hx hb X.2.2.2.1 (X.2.2.2.2 _ q2073) dX4_pumpOf_20 ?_
    exact fin (-1000001 : Int32) M H locs ls 22 dX4_pumpOf_22 ⟨E, hM⟩ w
  refine mx_beq (tgt := 20) hx hb dX4_pumpOf_5 (by decide) (fun c_5 => ?_) (fun c_5 => ?_)
  · rw [if_neg c_5] at E
    exact J20  M H locs ls E (lv_sub hl [] rfl) w hM
  · rw [if_pos c_5] at E
    obtain ⟨hk1, hk2⟩ := isPump_n hI.enp hI.n6 c_5
    refine lv_iload_n hx hb dX4_pumpOf_8 rfl (lv_at hl 2 rfl) ?_
    refine lv_i2l hx hb dX4_pumpOf_9 rfl ?_
    refine lv_lconst (v := (0 : Int64)) hx hb dX4_pumpOf_10 (by decide) ?_
    refine lv_ldc2 (v := (9 : Int64)) hx hb X.2.2.2.1 (X.2.2.2.2 _ q2130) dX4_pumpOf_11 ?_
    refine mx_bi w (va_runS (As := [.long what.toInt64, .long (0 : Int64), .long (9 : Int64)]) (rest := []) X (mt_in l G A M what.toInt64 (0 : Int64) (9 : Int64)  ) (va_cwS 3 X.2.2.2.2 (lw_S q2060 q2061 q113 q2062) rfl rfl rfl (by decide +kernel) ⟨by rw [hRf]; decide, by rw [hRl]; decide⟩) (mx_preS w rfl) rfl rfl hl.1 rfl (lv_room (Nat.le_of_ble_eq_true rfl)) dX4_pumpOf_14 ⟨Nat.zero_le _, Nat.zero_le _⟩) (fun r M H locs hp w => ?_)
    obtain ⟨rfl, hp2⟩ := hp; rw [← hp2] at hM; clear hp2
    refine mx_bne (tgt := 23) hx hb dX4_pumpOf_17 (by decide) (fun c_17 => ?_) (fun c_17 => ?_)
    · rw [if_pos c_17] at E
      obtain ⟨hw1, _, hw2⟩ := in_n (a := 0) (b := 9) (by decide) c_17
      refine lv_iload_n hx hb dX4_pumpOf_23 rfl (lv_at hl 2 rfl) ?_
      by_cases c_24_5 : what = (5 : Int32)
      · rw [if_pos c_24_5] at E
        refine lv_tableIn (tgt := 60) hx hb dX4_pumpOf_24 (by rw [c_24_5]; decide) (by rw [c_24_5]; decide) (by rw [c_24_5]; rfl) (by decide) ?_
        subst c_24_5
        refine lv_aload_n hx hb dX4_pumpOf_60 rfl (lv_at hl 0 rfl) ?_
        refine mx_get (v := .ref (pp 1)) X w in_X4 (ci := 3) rfl 0 (by decide) q2011 (fun _ h => h) hM.2.1 rfl dX4_pumpOf_61 ?_
        refine lv_iconst (v := (4 : Int32)) hx hb dX4_pumpOf_64 (by decide) ?_
        refine md_ald X w hM 1 (by decide) (by decide) 4 rfl (show 4 < 170 by decide) dX4_pumpOf_65 ?_
        refine lv_iload_n hx hb dX4_pumpOf_66 rfl (lv_at hl 1 rfl) ?_
        have J75 : ∀ (bs0_75 : Bool) (M : mh) (H : Heap) (locs : List Loc) (ls : Array Slot), mf_pumpOf_75 v k (5 : Int32) bs0_75 = z → lv_has ls 3 [] → mW G A s M H locs → Mdl G pp M0 M v → W p l e R s m av below meth c H locs 0 0 Q (F0 m 75 ls [.int (bI bs0_75)]) := by
          intro bs0_75 M H locs ls  E hl w hM
          rw [mf_pumpOf_75] at E
          exact fin (bI bs0_75) M H locs ls 75 dX4_pumpOf_75 ⟨E, hM⟩ w
        refine lv_icmp_ne (tgt := 74) hx hb dX4_pumpOf_67 (by decide) (fun c_67 => ?_) (fun c_67 => ?_)
        · rw [if_neg c_67] at E
          refine lv_iconst (v := (0 : Int32)) hx hb dX4_pumpOf_74 (by decide) ?_
          exact J75 false M H locs ls E (lv_sub hl [] rfl) w hM
        · rw [if_pos c_67] at E
          refine lv_iconst (v := (1 : Int32)) hx hb dX4_pumpOf_70 (by decide) ?_
          refine lv_goto (tgt := 75) hx hb dX4_pumpOf_71 (by decide) ?_
          exact J75 true M H locs ls E (lv_sub hl [] rfl) w hM
      · rw [if_neg c_24_5] at E
        by_cases c_24_6 : what = (6 : Int32)
        · rw [if_pos c_24_6] at E
          refine lv_tableIn (tgt := 76) hx hb dX4_pumpOf_24 (by rw [c_24_6]; decide) (by rw [c_24_6]; decide) (by rw [c_24_6]; rfl) (by decide) ?_
          subst c_24_6
          refine lv_aload_n hx hb dX4_pumpOf_76 rfl (lv_at hl 0 rfl) ?_
          refine lv_iload_n hx hb dX4_pumpOf_77 rfl (lv_at hl 1 rfl) ?_
          refine mx_cast (z := nI (tN k)) (hk1) ?_
          refine lv_iload_n hx hb dX4_pumpOf_78 rfl (lv_at hl 2 rfl) ?_
          refine lv_iconst (v := (1 : Int32)) hx hb dX4_pumpOf_79 (by decide) ?_
          refine lv_isub hx hb dX4_pumpOf_80 ?_
          refine mx_cast (z := nI (tN ((6 : Int32) - (1 : Int32)))) (by decide) ?_
          refine mx_bi w (va_runV (As := [.int (nI (tN k)), .int (nI (tN ((6 : Int32) - (1 : Int32))))]) (rest := []) X (mt_of l G A pp M0 v (tN k) (tN ((6 : Int32) - (1 : Int32)))  (by omega) (by decide)) (cwV 2 X.2.2.2.2 (lw_V q2101 q2103 qs50 q113 q2104) rfl rfl rfl (by decide +kernel) ⟨by rw [hRf]; decide, by rw [hRl]; decide⟩) (mx_preV w hM hM.2.1 rfl) rfl rfl hl.1 rfl (lv_room (Nat.le_of_ble_eq_true rfl)) dX4_pumpOf_81 ⟨Nat.zero_le _, Nat.zero_le _⟩) (fun r M H locs hp w => ?_)
          obtain ⟨rfl, hM⟩ := hp
          exact fin (mf_of v (tN k) (tN ((6 : Int32) - (1 : Int32)))) M H locs ls 84 dX4_pumpOf_84 ⟨E, hM⟩ w
        · rw [if_neg c_24_6] at E
          by_cases c_24_7 : what = (7 : Int32)
          · rw [if_pos c_24_7] at E
            refine lv_tableIn (tgt := 76) hx hb dX4_pumpOf_24 (by rw [c_24_7]; decide) (by rw [c_24_7]; decide) (by rw [c_24_7]; rfl) (by decide) ?_
            subst c_24_7
            refine lv_aload_n hx hb dX4_pumpOf_76 rfl (lv_at hl 0 rfl) ?_
            refine lv_iload_n hx hb dX4_pumpOf_77 rfl (lv_at hl 1 rfl) ?_
            refine mx_cast (z := nI (tN k)) (hk1) ?_
            refine lv_iload_n hx hb dX4_pumpOf_78 rfl (lv_at hl 2 rfl) ?_
            refine lv_iconst (v := (1 : Int32)) hx hb dX4_pumpOf_79 (by decide) ?_
            refine lv_isub hx hb dX4_pumpOf_80 ?_
            refine mx_cast (z := nI (tN ((7 : Int32) - (1 : Int32)))) (by decide) ?_
            refine mx_bi w (va_runV (As := [.int (nI (tN k)), .int (nI (tN ((7 : Int32) - (1 : Int32))))]) (rest := []) X (mt_of l G A pp M0 v (tN k) (tN ((7 : Int32) - (1 : Int32)))  (by omega) (by decide)) (cwV 2 X.2.2.2.2 (lw_V q2101 q2103 qs50 q113 q2104) rfl rfl rfl (by decide +kernel) ⟨by rw [hRf]; decide, by rw [hRl]; decide⟩) (mx_preV w hM hM.2.1 rfl) rfl rfl hl.1 rfl (lv_room (Nat.le_of_ble_eq_true rfl)) dX4_pumpOf_81 ⟨Nat.zero_le _, Nat.zero_le _⟩) (fun r M H locs hp w => ?_)
            obtain ⟨rfl, hM⟩ := hp
            exact fin (mf_of v (tN k) (tN ((7 : Int32) - (1 : Int32)))) M H locs ls 84 dX4_pumpOf_84 ⟨E, hM⟩ w
          · rw [if_neg c_24_7] at E
            by_cases c_24_8 : what = (8 : Int32)
            · rw [if_pos c_24_8] at E
              refine lv_tableIn (tgt := 76) hx hb dX4_pumpOf_24 (by rw [c_24_8]; decide) (by rw [c_24_8]; decide) (by rw [c_24_8]; rfl) (by decide) ?_
              subst c_24_8
              refine lv_aload_n hx hb dX4_pumpOf_76 rfl (lv_at hl 0 rfl) ?_
              refine lv_iload_n hx hb dX4_pumpOf_77 rfl (lv_at hl 1 rfl) ?_
              refine mx_cast (z := nI (tN k)) (hk1) ?_
              refine lv_iload_n hx hb dX4_pumpOf_78 rfl (lv_at hl 2 rfl) ?_
              refine lv_iconst (v := (1 : Int32)) hx hb dX4_pumpOf_79 (by decide) ?_
              refine lv_isub hx hb dX4_pumpOf_80 ?_
              refine mx_cast (z := nI (tN ((8 : Int32) - (1 : Int32)))) (by decide) ?_
              refine mx_bi w (va_runV (As := [.int (nI (tN k)), .int (nI (tN ((8 : Int32) - (1 : Int32))))]) (rest := []) X (mt_of l G A pp M0 v (tN k) (tN ((8 : Int32) - (1 : Int32)))  (by omega) (by decide)) (cwV 2 X.2.2.2.2 (lw_V q2101 q2103 qs50 q113 q2104) rfl rfl rfl (by decide +kernel) ⟨by rw [hRf]; decide, by rw [hRl]; decide⟩) (mx_preV w hM hM.2.1 rfl) rfl rfl hl.1 rfl (lv_room (Nat.le_of_ble_eq_true rfl)) dX4_pumpOf_81 ⟨Nat.zero_le _, Nat.zero_le _⟩) (fun r M H locs hp w => ?_)
              obtain ⟨rfl, hM⟩ := hp
              exact fin (mf_of v (tN k) (tN ((8 : Int32) - (1 : Int32)))) M H locs ls 84 dX4_pumpOf_84 ⟨E, hM⟩ w
            · rw [if_neg c_24_8] at E
              by_cases c_24_9 : what = (9 : Int32)
              · rw [if_pos c_24_9] at E
                refine lv_tableIn (tgt := 85) hx hb dX4_pumpOf_24 (by rw [c_24_9]; decide) (by rw [c_24_9]; decide) (by rw [c_24_9]; rfl) (by decide) ?_
                subst c_24_9
                refine lv_aload_n hx hb dX4_pumpOf_85 rfl (lv_at hl 0 rfl) ?_
                refine lv_iload_n hx hb dX4_pumpOf_86 rfl (lv_at hl 1 rfl) ?_
                refine mx_cast (z := nI (tN k)) (hk1) ?_
                refine mx_bi w (va_runV (As := [.int (nI (tN k))]) (rest := []) X (mt_runs l G A pp M0 v (tN k)  (by first | omega | assumption)) (cwV 1 X.2.2.2.2 (lw_V q2110 q2112 qs52 q113 q2113) rfl rfl rfl (by decide +kernel) ⟨by rw [hRf]; decide, by rw [hRl]; decide⟩) (mx_preV w hM hM.2.1 rfl) rfl rfl hl.1 rfl (lv_room (Nat.le_of_ble_eq_true rfl)) dX4_pumpOf_87 ⟨Nat.zero_le _, Nat.zero_le _⟩) (fun r M H locs hp w => ?_)
                obtain ⟨rfl, hM⟩ := hp
                have J114 : ∀ (is0_114 : Int32) (M : mh) (H : Heap) (locs : List Loc) (ls : Array Slot), mf_pumpOf_114 v k (9 : Int32) is0_114 = z → lv_has ls 3 [] → mW G A s M H locs → Mdl G pp M0 M v → W p l e R s m av below meth c H locs 0 0 Q (F0 m 114 ls [.int is0_114]) := by
                  intro is0_114 M H locs ls  E hl w hM
                  rw [mf_pumpOf_114] at E
                  exact fin is0_114 M H locs ls 114 dX4_pumpOf_114 ⟨E, hM⟩ w
                refine mx_beq (tgt := 113) hx hb dX4_pumpOf_90 (by decide) (fun c_90 => ?_) (fun c_90 => ?_)
                · rw [if_neg c_90] at E
                  refine lv_iconst (v := (0 : Int32)) hx hb dX4_pumpOf_113 (by decide) ?_
                  exact J114 (0 : Int32) M H locs ls E (lv_sub hl [] rfl) w hM
                · rw [if_pos c_90] at E
                  refine lv_aload_n hx hb dX4_pumpOf_93 rfl (lv_at hl 0 rfl) ?_
                  refine lv_iload_n hx hb dX4_pumpOf_94 rfl (lv_at hl 1 rfl) ?_
                  refine mx_cast (z := nI (tN k)) (hk1) ?_
                  refine lv_aload_n hx hb dX4_pumpOf_95 rfl (lv_at hl 0 rfl) ?_
                  refine lv_iload_n hx hb dX4_pumpOf_96 rfl (lv_at hl 1 rfl) ?_
                  refine mx_cast (z := nI (tN k)) (hk1) ?_
                  refine lv_iconst (v := (4 : Int32)) hx hb dX4_pumpOf_97 (by decide) ?_
                  refine mx_bi w (va_runV (As := [.int (nI (tN k)), .int (nI 4)]) (rest := [.int (nI (tN k)), .ref (pp 0)]) X (mt_of l G A pp M0 v (tN k) 4  (by first | omega | assumption) (by first | omega | assumption)) (cwV 2 X.2.2.2.2 (lw_V q2101 q2103 qs50 q113 q2104) rfl rfl rfl (by decide +kernel) ⟨by rw [hRf]; decide, by rw [hRl]; decide⟩) (mx_preV w hM hM.2.1 rfl) rfl rfl hl.1 rfl (lv_room (Nat.le_of_ble_eq_true rfl)) dX4_pumpOf_98 ⟨Nat.zero_le _, Nat.zero_le _⟩) (fun r M H locs hp w => ?_)
                  obtain ⟨rfl, hM⟩ := hp
                  refine lv_aload_n hx hb dX4_pumpOf_101 rfl (lv_at hl 0 rfl) ?_
                  refine mx_get (v := .ref (pp 1)) X w in_X4 (ci := 3) rfl 0 (by decide) q2011 (fun _ h => h) hM.2.1 rfl dX4_pumpOf_102 ?_
                  refine lv_iconst (v := (1 : Int32)) hx hb dX4_pumpOf_105 (by decide) ?_
                  refine md_ald X w hM 1 (by decide) (by decide) 1 rfl (show 1 < 170 by decide) dX4_pumpOf_106 ?_
                  refine mx_bi w (va_runV (As := [.int (nI (tN k)), .int (mf_of v (tN k) 4), .int (v 1 1)]) (rest := []) X (mt_flow l G A pp M0 v (tN k) (mf_of v (tN k) 4) (v 1 1)  (by omega) (hI.flow hk2 ((hI.pump hk2 (w := 4) (by decide)).2.2.2.2 rfl) hI.press)) (cwV 3 X.2.2.2.2 (lw_V q2131 q2133 qs56 q113 q2134) rfl rfl rfl (by decide +kernel) ⟨by rw [hRf]; decide, by rw [hRl]; decide⟩) (mx_preV w hM hM.2.1 rfl) rfl rfl hl.1 rfl (lv_room (Nat.le_of_ble_eq_true rfl)) dX4_pumpOf_107 ⟨Nat.zero_le _, Nat.zero_le _⟩) (fun r M H locs hp w => ?_)
                  obtain ⟨rfl, hM⟩ := hp
                  refine lv_goto (tgt := 114) hx hb dX4_pumpOf_110 (by decide) ?_
                  exact J114 (mf_flow v (tN k) (mf_of v (tN k) 4) (v 1 1)) M H locs ls E (lv_sub hl [] rfl) w hM
              · rw [if_neg c_24_9] at E
                refine lv_tableOut (tgt := 115) hx hb dX4_pumpOf_24 (Classical.byContradiction fun hh => by
                  have h2 : what.toInt = 5 ∨ what.toInt = 6 ∨ what.toInt = 7 ∨ what.toInt = 8 ∨ what.toInt = 9 := by omega
                  rcases h2 with h | h | h | h | h
                  · exact lv_neT c_24_5 rfl h
                  · exact lv_neT c_24_6 rfl h
                  · exact lv_neT c_24_7 rfl h
                  · exact lv_neT c_24_8 rfl h
                  · exact lv_neT c_24_9 rfl h) (by decide) ?_
                refine lv_aload_n hx hb dX4_pumpOf_115 rfl (lv_at hl 0 rfl) ?_
                refine lv_iload_n hx hb dX4_pumpOf_116 rfl (lv_at hl 1 rfl) ?_
                refine mx_cast (z := nI (tN k)) (hk1) ?_
                refine lv_iload_n hx hb dX4_pumpOf_117 rfl (lv_at hl 2 rfl) ?_
                refine mx_cast (z := nI (tN what)) (hw1) ?_
                refine mx_bi w (va_runV (As := [.int (nI (tN k)), .int (nI (tN what))]) (rest := []) X (mt_of l G A pp M0 v (tN k) (tN what)  (by omega) (by have := ne_n (n := 8) hw1 c_24_8 rfl; have := ne_n (n := 9) hw1 c_24_9 rfl; omega)) (cwV 2 X.2.2.2.2 (lw_V q2101 q2103 qs50 q113 q2104) rfl rfl rfl (by decide +kernel) ⟨by rw [hRf]; decide, by rw [hRl]; decide⟩) (mx_preV w hM hM.2.1 rfl) rfl rfl hl.1 rfl (lv_room (Nat.le_of_ble_eq_true rfl)) dX4_pumpOf_118 ⟨Nat.zero_le _, Nat.zero_le _⟩) (fun r M H locs hp w => ?_)
                obtain ⟨rfl, hM⟩ := hp
                exact fin (mf_of v (tN k) (tN what)) M H locs ls 121 dX4_pumpOf_121 ⟨E, hM⟩ w
    · rw [if_neg c_17] at E
      exact J20  M H locs ls E (lv_sub hl [] rfl) w hM
def mf_curve_46 (v : (Nat → Nat → Int32)) (k : Int32) (speed : Int32) (pressure : Int32) (is0_46 : Int32) : Int32 := is0_46
def mf_curve_44 (v : (Nat → Nat → Int32)) (k : Int32) (speed : Int32) (pressure : Int32)  : Int32 := (mf_curve_46 v k speed pressure (-1000001 : Int32))
def mf_curve (v : (Nat → Nat → Int32)) (k : Int32) (speed : Int32) (pressure : Int32) : Int32 := (if (mf_isPump v k) = true then (if (mf_in speed.toInt64 (300 : Int64) (1000 : Int64)) = true then (if (mf_in pressure.toInt64 (0 : Int64) (2000 : Int64)) = true then (mf_curve_46 v k speed pressure (mf_flow v (tN k) speed pressure)) else (mf_curve_44 v k speed pressure )) else (mf_curve_44 v k speed pressure )) else (mf_curve_44 v k speed pressure ))
set_option maxHeartbeats 4000000 in
set_option maxRecDepth 100000 in
theorem mt_curve (l : Launch) (G : mg) (A : Nat → Prop) (pp : Nat → Nat) (M0 : mh) (v : Nat → Nat → Int32) (k : Int32) (speed : Int32) (pressure : Int32) (T np nz ng : Nat) (hI : IP T np nz ng (v 1)) : Met l yX4_curve (ws_ yX4_curve cX4_curve 4 (some .int)) ({ frames := 2, cells := 0, slots := 0, locals := 48 }) (va_Pc [.ref (pp 0), .int k, .int speed, .int pressure] (mU G A (fun M => Mdl G pp M0 M v))) (mQi G A (fun r M => r = mf_curve v k speed pressure ∧ Mdl G pp M0 M v)) 0 0 A := by
  refine mx_ofi (by decide) (Nat.le_of_ble_eq_true rfl) ?_
  intro p e R s m av below meth c M H Q ls X hRf hRl hRc hRs hin hM w fin hl
  have X : CallFix p m c cX4_curve 4 s av lw_all "FieldPumpsModel" := X
  have hx := X.1
  have hb := X.2.1
  have hl : lv_has ls 4 [(0, .ref (pp 0)), (1, .int k), (2, .int speed), (3, .int pressure)] := hl
  have hRf : R.frames = 2 := hRf
  have hRl : R.locals = 48 := hRl
  generalize ([] : List Loc) = locs at w ⊢
  generalize E : mf_curve v k speed pressure = z at fin
  rw [mf_curve] at E
  have hb6 := hI.b
  have hcp := hI.cp
  have hcz := hI.cz
  have hcg := hI.cg
  refine lv_aload_n hx hb dX4_curve_0 rfl (lv_at hl 0 rfl) ?_
  refine lv_iload_n hx hb dX4_curve_1 rfl (lv_at hl 1 rfl) ?_
  refine mx_bi w (va_runV (As := [.int k]) (rest := []) X (mt_isPump l G A pp M0 v k  ) (cwV 1 X.2.2.2.2 (lw_V q2097 q2099 qs49 q113 q2100) rfl rfl rfl (by decide +kernel) ⟨by rw [hRf]; decide, by rw [hRl]; decide⟩) (mx_preV w hM hM.2.1 rfl) rfl rfl hl.1 rfl (lv_room (Nat.le_of_ble_eq_true rfl)) dX4_curve_2 ⟨Nat.zero_le _, Nat.zero_le _⟩) (fun r M H locs hp w => ?_)
  obtain ⟨rfl, hM⟩ := hp
  have J46 : ∀ (is0_46 : Int32) (M : mh) (H : Heap) (locs : List Loc) (ls : Array Slot), mf_curve_46 v k speed pressure is0_46 = z → lv_has ls 4 [] → mW G A s M H locs → Mdl G pp M0 M v → W p l e R s m av below meth c H locs 0 0 Q (F0 m 46 ls [.int is0_46]) := by
    intro is0_46 M H locs ls  E hl w hM
    rw [mf_curve_46] at E
    exact fin is0_46 M H locs ls 46 dX4_curve_46 ⟨E, hM⟩ w
  have J44 : ∀  (M : mh) (H : Heap) (locs : List Loc) (ls : Array Slot), mf_curve_44 v k speed pressure  = z → lv_has ls 4 [] → mW G A s M H locs → Mdl G pp M0 M v → W p l e R s m av below meth c H locs 0 0 Q (F0 m 44 ls []) := by
    intro  M H locs ls  E hl w hM
    rw [mf_curve_44] at E
    refine lv_ldc (v := (-1000001 : Int32)) hx hb X.2.2.2.1 (X.2.2.2.2 _ q2073) dX4_curve_44 ?_
    exact J46 (-1000001 : Int32) M H locs ls E (lv_sub hl [] rfl) w hM
  refine mx_beq (tgt := 44) hx hb dX4_curve_5 (by decide) (fun c_5 => ?_) (fun c_5 => ?_)
  · rw [if_neg c_5] at E
    exact J44  M H locs ls E (lv_sub hl [] rfl) w hM
  · rw [if_pos c_5] at E
    obtain ⟨hk1, hk2⟩ := isPump_n hI.enp hI.n6 c_5
    refine lv_iload_n hx hb dX4_curve_8 rfl (lv_at hl 2 rfl) ?_
    refine lv_i2l hx hb dX4_curve_9 rfl ?_
    refine lv_ldc2 (v := (300 : Int64)) hx hb X.2.2.2.1 (X.2.2.2.2 _ q2064) dX4_curve_10 ?_
    refine lv_ldc2 (v := (1000 : Int64)) hx hb X.2.2.2.1 (X.2.2.2.2 _ q2066) dX4_curve_13 ?_
    refine mx_bi w (va_runS (As := [.long speed.toInt64, .long (300 : Int64), .long (1000 : Int64)]) (rest := []) X (mt_in l G A M speed.toInt64 (300 : Int64) (1000 : Int64)  ) (va_cwS 3 X.2.2.2.2 (lw_S q2060 q2061 q113 q2062) rfl rfl rfl (by decide +kernel) ⟨by rw [hRf]; decide, by rw [hRl]; decide⟩) (mx_preS w rfl) rfl rfl hl.1 rfl (lv_room (Nat.le_of_ble_eq_true rfl)) dX4_curve_16 ⟨Nat.zero_le _, Nat.zero_le _⟩) (fun r M H locs hp w => ?_)
    obtain ⟨rfl, hp2⟩ := hp; rw [← hp2] at hM; clear hp2
    refine mx_beq (tgt := 44) hx hb dX4_curve_19 (by decide) (fun c_19 => ?_) (fun c_19 => ?_)
    · rw [if_neg c_19] at E
      exact J44  M H locs ls E (lv_sub hl [] rfl) w hM
    · rw [if_pos c_19] at E
      obtain ⟨hs1, _, hs2⟩ := in_n (a := 300) (b := 1000) (by decide) c_19
      refine lv_iload_n hx hb dX4_curve_22 rfl (lv_at hl 3 rfl) ?_
      refine lv_i2l hx hb dX4_curve_23 rfl ?_
      refine lv_lconst (v := (0 : Int64)) hx hb dX4_curve_24 (by decide) ?_
      refine lv_ldc2 (v := (2000 : Int64)) hx hb X.2.2.2.1 (X.2.2.2.2 _ q2087) dX4_curve_25 ?_
      refine mx_bi w (va_runS (As := [.long pressure.toInt64, .long (0 : Int64), .long (2000 : Int64)]) (rest := []) X (mt_in l G A M pressure.toInt64 (0 : Int64) (2000 : Int64)  ) (va_cwS 3 X.2.2.2.2 (lw_S q2060 q2061 q113 q2062) rfl rfl rfl (by decide +kernel) ⟨by rw [hRf]; decide, by rw [hRl]; decide⟩) (mx_preS w rfl) rfl rfl hl.1 rfl (lv_room (Nat.le_of_ble_eq_true rfl)) dX4_curve_28 ⟨Nat.zero_le _, Nat.zero_le _⟩) (fun r M H locs hp w => ?_)
      obtain ⟨rfl, hp2⟩ := hp; rw [← hp2] at hM; clear hp2
      refine mx_beq (tgt := 44) hx hb dX4_curve_31 (by decide) (fun c_31 => ?_) (fun c_31 => ?_)
      · rw [if_neg c_31] at E
        exact J44  M H locs ls E (lv_sub hl [] rfl) w hM
      · rw [if_pos c_31] at E
        obtain ⟨hp1, _, hp2⟩ := in_n (a := 0) (b := 2000) (by decide) c_31
        refine lv_aload_n hx hb dX4_curve_34 rfl (lv_at hl 0 rfl) ?_
        refine lv_iload_n hx hb dX4_curve_35 rfl (lv_at hl 1 rfl) ?_
        refine mx_cast (z := nI (tN k)) (hk1) ?_
        refine lv_iload_n hx hb dX4_curve_36 rfl (lv_at hl 2 rfl) ?_
        refine lv_iload_n hx hb dX4_curve_37 rfl (lv_at hl 3 rfl) ?_
        refine mx_bi w (va_runV (As := [.int (nI (tN k)), .int speed, .int pressure]) (rest := []) X (mt_flow l G A pp M0 v (tN k) speed pressure  (by omega) (hI.flow hk2 ⟨tN speed, hs2, hs1⟩ ⟨tN pressure, hp2, hp1⟩)) (cwV 3 X.2.2.2.2 (lw_V q2131 q2133 qs56 q113 q2134) rfl rfl rfl (by decide +kernel) ⟨by rw [hRf]; decide, by rw [hRl]; decide⟩) (mx_preV w hM hM.2.1 rfl) rfl rfl hl.1 rfl (lv_room (Nat.le_of_ble_eq_true rfl)) dX4_curve_38 ⟨Nat.zero_le _, Nat.zero_le _⟩) (fun r M H locs hp w => ?_)
        obtain ⟨rfl, hM⟩ := hp
        refine lv_goto (tgt := 46) hx hb dX4_curve_41 (by decide) ?_
        exact J46 (mf_flow v (tN k) speed pressure) M H locs ls E (lv_sub hl [] rfl) w hM
def mf_readyAt_24 (v : (Nat → Nat → Int32)) (index : Int32) (is0_24 : Int32) : Int32 := is0_24
def mf_readyAt (v : (Nat → Nat → Int32)) (index : Int32) : Int32 := (if 0 ≤ index then (if (mf_ready v index) = (-1 : Int32) then (mf_readyAt_24 v index (-1000004 : Int32)) else (mf_readyAt_24 v index (mf_ready v index))) else (-1000001 : Int32))
set_option maxHeartbeats 4000000 in
set_option maxRecDepth 100000 in
theorem mt_readyAt (l : Launch) (G : mg) (A : Nat → Prop) (pp : Nat → Nat) (M0 : mh) (v : Nat → Nat → Int32) (index : Int32) (np : Nat) (enp : v 1 14 = nI np) (hn6 : np ≤ 6) : Met l yX4_readyAt (ws_ yX4_readyAt cX4_readyAt 3 (some .int)) ({ frames := 5, cells := 0, slots := 0, locals := 113 }) (va_Pc [.ref (pp 0), .int index] (mU G A (fun M => Mdl G pp M0 M v))) (mQi G A (fun r M => r = mf_readyAt v index ∧ Mdl G pp M0 M v)) 0 0 A := by
  refine mx_ofi (by decide) (Nat.le_of_ble_eq_true rfl) ?_
  intro p e R s m av below meth c M H Q ls X hRf hRl hRc hRs hin hM w fin hl
  have X : CallFix p m c cX4_readyAt 3 s av lw_all "FieldPumpsModel" := X
  have hx := X.1
  have hb := X.2.1
  have hl : lv_has ls 3 [(0, .ref (pp 0)), (1, .int index)] := hl
  have hRf : R.frames = 5 := hRf
  have hRl : R.locals = 113 := hRl
  generalize ([] : List Loc) = locs at w ⊢
  generalize E : mf_readyAt v index = z at fin
  rw [mf_readyAt] at E
  have hcp := nC_of enp (by omega)
  refine lv_iload_n hx hb dX4_readyAt_0 rfl (lv_at hl 1 rfl) ?_
  refine lv_if_ge (tgt := 7) hx hb dX4_readyAt_1 (by decide) (fun c_1 => ?_) (fun c_1 => ?_)
  · rw [if_pos c_1] at E
    refine lv_aload_n hx hb dX4_readyAt_7 rfl (lv_at hl 0 rfl) ?_
    refine lv_iload_n hx hb dX4_readyAt_8 rfl (lv_at hl 1 rfl) ?_
    refine mx_bi w (va_runV (As := [.int index]) (rest := []) X (mt_ready l G A pp M0 v index np (by first | omega | assumption) (by first | omega | assumption)) (cwV 1 X.2.2.2.2 (lw_V q2147 q2149 qs57 q113 q2150) rfl rfl rfl (by decide +kernel) ⟨by rw [hRf]; decide, by rw [hRl]; decide⟩) (mx_preV w hM hM.2.1 rfl) rfl rfl hl.1 rfl (lv_room (Nat.le_of_ble_eq_true rfl)) dX4_readyAt_9 ⟨Nat.zero_le _, Nat.zero_le _⟩) (fun r M H locs hp w => ?_)
    obtain ⟨rfl, hM⟩ := hp
    refine lv_istore_n (lv' := [(2, .int (mf_ready v index)), (0, .ref (pp 0)), (1, .int index)]) hx hb dX4_readyAt_12 rfl hl (by decide) rfl (fun ls hl => ?_)
    refine lv_iload_n hx hb dX4_readyAt_13 rfl (lv_at hl 0 rfl) ?_
    refine lv_iconst (v := (-1 : Int32)) hx hb dX4_readyAt_14 (by decide) ?_
    have J24 : ∀ (is0_24 : Int32) (M : mh) (H : Heap) (locs : List Loc) (ls : Array Slot), mf_readyAt_24 v index is0_24 = z → lv_has ls 3 [] → mW G A s M H locs → Mdl G pp M0 M v → W p l e R s m av below meth c H locs 0 0 Q (F0 m 24 ls [.int is0_24]) := by
      intro is0_24 M H locs ls  E hl w hM
      rw [mf_readyAt_24] at E
      exact fin is0_24 M H locs ls 24 dX4_readyAt_24 ⟨E, hM⟩ w
    refine lv_icmp_ne (tgt := 23) hx hb dX4_readyAt_15 (by decide) (fun c_15 => ?_) (fun c_15 => ?_)
    · rw [if_neg c_15] at E
      refine lv_iload_n hx hb dX4_readyAt_23 rfl (lv_at hl 0 rfl) ?_
      exact J24 (mf_ready v index) M H locs ls E (lv_sub hl [] rfl) w hM
    · rw [if_pos c_15] at E
      refine lv_ldc (v := (-1000004 : Int32)) hx hb X.2.2.2.1 (X.2.2.2.2 _ q2163) dX4_readyAt_18 ?_
      refine lv_goto (tgt := 24) hx hb dX4_readyAt_20 (by decide) ?_
      exact J24 (-1000004 : Int32) M H locs ls E (lv_sub hl [] rfl) w hM
  · rw [if_neg c_1] at E
    refine lv_ldc (v := (-1000001 : Int32)) hx hb X.2.2.2.1 (X.2.2.2.2 _ q2073) dX4_readyAt_4 ?_
    exact fin (-1000001 : Int32) M H locs ls 6 dX4_readyAt_6 ⟨E, hM⟩ w
def mf_balance_81 (v : (Nat → Nat → Int32)) (rc_29 : Int32 → Int32 → Nat → Int32) (i1_29 : Int32) (i2_29 : Int32) (n3_29 : Nat) (is0_60 : Int32) (is0_81 : Int32) : Int32 := ( rc_29 is0_60 is0_81 (n3_29 + 1))
def mf_balance_60 (v : (Nat → Nat → Int32)) (rc_29 : Int32 → Int32 → Nat → Int32) (i1_29 : Int32) (i2_29 : Int32) (n3_29 : Nat) (is0_60 : Int32) : Int32 := (if i2_29 ≤ (mf_of v n3_29 5) then (mf_balance_81 v rc_29 i1_29 i2_29 n3_29 is0_60 i2_29) else (mf_balance_81 v rc_29 i1_29 i2_29 n3_29 is0_60 (mf_of v n3_29 5)))
def mf_balance_29 (v : (Nat → Nat → Int32)) : Nat → Int32 → Int32 → Nat → Int32
  | 0, _, _, _ => (-1)
  | n_29 + 1, i1_29, i2_29, n3_29 => (if (nC (v 1) 14) ≤ n3_29 then (i1_29 - i2_29) else (if (mf_of v n3_29 5) ≤ i1_29 then (mf_balance_60 v (mf_balance_29 v n_29) i1_29 i2_29 n3_29 i1_29) else (mf_balance_60 v (mf_balance_29 v n_29) i1_29 i2_29 n3_29 (mf_of v n3_29 5))))
def mf_balance (v : (Nat → Nat → Int32)) : Int32 := (if (v 1 14) = 0 then (-1000004 : Int32) else (mf_balance_29 v 7 (mf_of v 0 5) (mf_of v 0 5) 1))
set_option maxHeartbeats 4000000 in
set_option maxRecDepth 100000 in
theorem mt_balance (l : Launch) (G : mg) (A : Nat → Prop) (pp : Nat → Nat) (M0 : mh) (v : Nat → Nat → Int32)  (np : Nat) (enp : v 1 14 = nI np) (hn6 : np ≤ 6) : Met l yX4_balance (ws_ yX4_balance cX4_balance 4 (some .int)) ({ frames := 1, cells := 0, slots := 0, locals := 22 }) (va_Pc [.ref (pp 0)] (mU G A (fun M => Mdl G pp M0 M v))) (mQi G A (fun r M => r = mf_balance v ∧ Mdl G pp M0 M v)) 0 0 A := by
  refine mx_ofi (by decide) (Nat.le_of_ble_eq_true rfl) ?_
  intro p e R s m av below meth c M H Q ls X hRf hRl hRc hRs hin hM w fin hl
  have X : CallFix p m c cX4_balance 4 s av lw_all "FieldPumpsModel" := X
  have hx := X.1
  have hb := X.2.1
  have hl : lv_has ls 4 [(0, .ref (pp 0))] := hl
  have hRf : R.frames = 1 := hRf
  have hRl : R.locals = 22 := hRl
  generalize ([] : List Loc) = locs at w ⊢
  generalize E : mf_balance v = z at fin
  rw [mf_balance] at E
  have hcp := nC_of enp (by omega)
  refine lv_aload_n hx hb dX4_balance_0 rfl (lv_at hl 0 rfl) ?_
  refine mx_get (v := .ref (pp 1)) X w in_X4 (ci := 3) rfl 0 (by decide) q2011 (fun _ h => h) hM.2.1 rfl dX4_balance_1 ?_
  refine lv_bipush (v := (14 : Int32)) hx hb dX4_balance_4 (by decide) ?_
  refine md_ald X w hM 1 (by decide) (by decide) 14 rfl (show 14 < 170 by decide) dX4_balance_6 ?_
  refine lv_if_ne (tgt := 13) hx hb dX4_balance_7 (by decide) (fun c_7 => ?_) (fun c_7 => ?_)
  · rw [if_neg c_7] at E
    have h1 := cnt_pos enp c_7
    refine lv_aload_n hx hb dX4_balance_13 rfl (lv_at hl 0 rfl) ?_
    refine lv_iconst (v := (0 : Int32)) hx hb dX4_balance_14 (by decide) ?_
    refine lv_iconst (v := (5 : Int32)) hx hb dX4_balance_15 (by decide) ?_
    refine mx_bi w (va_runV (As := [.int (nI 0), .int (nI 5)]) (rest := []) X (mt_of l G A pp M0 v 0 5  (by first | omega | assumption) (by first | omega | assumption)) (cwV 2 X.2.2.2.2 (lw_V q2101 q2103 qs50 q113 q2104) rfl rfl rfl (by decide +kernel) ⟨by rw [hRf]; decide, by rw [hRl]; decide⟩) (mx_preV w hM hM.2.1 rfl) rfl rfl hl.1 rfl (lv_room (Nat.le_of_ble_eq_true rfl)) dX4_balance_16 ⟨Nat.zero_le _, Nat.zero_le _⟩) (fun r M H locs hp w => ?_)
    obtain ⟨rfl, hM⟩ := hp
    refine lv_istore_n (lv' := [(1, .int (mf_of v 0 5)), (0, .ref (pp 0))]) hx hb dX4_balance_19 rfl hl (by decide) rfl (fun ls hl => ?_)
    refine lv_aload_n hx hb dX4_balance_20 rfl (lv_at hl 1 rfl) ?_
    refine lv_iconst (v := (0 : Int32)) hx hb dX4_balance_21 (by decide) ?_
    refine lv_iconst (v := (5 : Int32)) hx hb dX4_balance_22 (by decide) ?_
    refine mx_bi w (va_runV (As := [.int (nI 0), .int (nI 5)]) (rest := []) X (mt_of l G A pp M0 v 0 5  (by first | omega | assumption) (by first | omega | assumption)) (cwV 2 X.2.2.2.2 (lw_V q2101 q2103 qs50 q113 q2104) rfl rfl rfl (by decide +kernel) ⟨by rw [hRf]; decide, by rw [hRl]; decide⟩) (mx_preV w hM hM.2.1 rfl) rfl rfl hl.1 rfl (lv_room (Nat.le_of_ble_eq_true rfl)) dX4_balance_23 ⟨Nat.zero_le _, Nat.zero_le _⟩) (fun r M H locs hp w => ?_)
    obtain ⟨rfl, hM⟩ := hp
    refine lv_istore_n (lv' := [(2, .int (mf_of v 0 5)), (1, .int (mf_of v 0 5)), (0, .ref (pp 0))]) hx hb dX4_balance_26 rfl hl (by decide) rfl (fun ls hl => ?_)
    refine lv_iconst (v := (1 : Int32)) hx hb dX4_balance_27 (by decide) ?_
    refine lv_istore_n (lv' := [(3, .int (1 : Int32)), (2, .int (mf_of v 0 5)), (1, .int (mf_of v 0 5)), (0, .ref (pp 0))]) hx hb dX4_balance_28 rfl hl (by decide) rfl (fun ls hl => ?_)
    have L29 : ∀ (n_29 : Nat) (i1_29 : Int32) (i2_29 : Int32) (n3_29 : Nat) (M : mh) (H : Heap) (locs : List Loc) (ls : Array Slot), (hi : n3_29 ≤ np) → (hm : np < n3_29 + n_29) → mf_balance_29 v n_29 i1_29 i2_29 n3_29 = z → lv_has ls 4 [(0, .ref (pp 0)), (1, .int i1_29), (2, .int i2_29), (3, .int (nI n3_29))] → mW G A s M H locs → Mdl G pp M0 M v → W p l e R s m av below meth c H locs 0 0 Q (F0 m 29 ls []) := by
      intro n_29
      induction n_29 with
      | zero =>
        intro i1_29 i2_29 n3_29 M H locs ls hi hm E hl w hM
        exfalso; omega
      | succ n_29 ih_29 =>
        intro i1_29 i2_29 n3_29 M H locs ls hi hm E hl w hM
        rw [mf_balance_29] at E
        refine lv_iload_n hx hb dX4_balance_29 rfl (lv_at hl 3 rfl) ?_
        refine lv_aload_n hx hb dX4_balance_30 rfl (lv_at hl 0 rfl) ?_
        refine mx_get (v := .ref (pp 1)) X w in_X4 (ci := 3) rfl 0 (by decide) q2011 (fun _ h => h) hM.2.1 rfl dX4_balance_31 ?_
        refine lv_bipush (v := (14 : Int32)) hx hb dX4_balance_34 (by decide) ?_
        refine md_ald X w hM 1 (by decide) (by decide) 14 rfl (show 14 < 170 by decide) dX4_balance_36 ?_
        refine mx_cast (z := nI (nC (v 1) 14)) (by rw [hcp]; exact enp) ?_
        refine mx_nge (u := n3_29) (v := (nC (v 1) 14)) (tgt := 88) hx hb rfl rfl (by omega) (by omega) dX4_balance_37 (by decide) (fun c_37 => ?_) (fun c_37 => ?_)
        · rw [if_pos c_37] at E
          refine lv_iload_n hx hb dX4_balance_88 rfl (lv_at hl 1 rfl) ?_
          refine lv_iload_n hx hb dX4_balance_89 rfl (lv_at hl 2 rfl) ?_
          refine lv_isub hx hb dX4_balance_90 ?_
          exact fin (i1_29 - i2_29) M H locs ls 91 dX4_balance_91 ⟨E, hM⟩ w
        · rw [if_neg c_37] at E
          refine lv_aload_n hx hb dX4_balance_40 rfl (lv_at hl 0 rfl) ?_
          refine lv_iload_n hx hb dX4_balance_41 rfl (lv_at hl 3 rfl) ?_
          refine lv_iconst (v := (5 : Int32)) hx hb dX4_balance_42 (by decide) ?_
          refine mx_bi w (va_runV (As := [.int (nI n3_29), .int (nI 5)]) (rest := []) X (mt_of l G A pp M0 v n3_29 5  (by first | omega | assumption) (by first | omega | assumption)) (cwV 2 X.2.2.2.2 (lw_V q2101 q2103 qs50 q113 q2104) rfl rfl rfl (by decide +kernel) ⟨by rw [hRf]; decide, by rw [hRl]; decide⟩) (mx_preV w hM hM.2.1 rfl) rfl rfl hl.1 rfl (lv_room (Nat.le_of_ble_eq_true rfl)) dX4_balance_43 ⟨Nat.zero_le _, Nat.zero_le _⟩) (fun r M H locs hp w => ?_)
          obtain ⟨rfl, hM⟩ := hp
          refine lv_iload_n hx hb dX4_balance_46 rfl (lv_at hl 1 rfl) ?_
          have J60 : ∀ (is0_60 : Int32) (M : mh) (H : Heap) (locs : List Loc) (ls : Array Slot), mf_balance_60 v (mf_balance_29 v n_29) i1_29 i2_29 n3_29 is0_60 = z → lv_has ls 4 [(0, .ref (pp 0)), (2, .int i2_29), (3, .int (nI n3_29))] → mW G A s M H locs → Mdl G pp M0 M v → W p l e R s m av below meth c H locs 0 0 Q (F0 m 60 ls [.int is0_60]) := by
            intro is0_60 M H locs ls  E hl w hM
            rw [mf_balance_60] at E
            refine lv_istore_n (lv' := [(1, .int is0_60), (0, .ref (pp 0)), (2, .int i2_29), (3, .int (nI n3_29))]) hx hb dX4_balance_60 rfl hl (by decide) rfl (fun ls hl => ?_)
            refine lv_aload_n hx hb dX4_balance_61 rfl (lv_at hl 1 rfl) ?_
            refine lv_iload_n hx hb dX4_balance_62 rfl (lv_at hl 3 rfl) ?_
            refine lv_iconst (v := (5 : Int32)) hx hb dX4_balance_63 (by decide) ?_
            refine mx_bi w (va_runV (As := [.int (nI n3_29), .int (nI 5)]) (rest := []) X (mt_of l G A pp M0 v n3_29 5  (by first | omega | assumption) (by first | omega | assumption)) (cwV 2 X.2.2.2.2 (lw_V q2101 q2103 qs50 q113 q2104) rfl rfl rfl (by decide +kernel) ⟨by rw [hRf]; decide, by rw [hRl]; decide⟩) (mx_preV w hM hM.2.1 rfl) rfl rfl hl.1 rfl (lv_room (Nat.le_of_ble_eq_true rfl)) dX4_balance_64 ⟨Nat.zero_le _, Nat.zero_le _⟩) (fun r M H locs hp w => ?_)
            obtain ⟨rfl, hM⟩ := hp
            refine lv_iload_n hx hb dX4_balance_67 rfl (lv_at hl 2 rfl) ?_
            have J81 : ∀ (is0_81 : Int32) (M : mh) (H : Heap) (locs : List Loc) (ls : Array Slot), mf_balance_81 v (mf_balance_29 v n_29) i1_29 i2_29 n3_29 is0_60 is0_81 = z → lv_has ls 4 [(1, .int is0_60), (0, .ref (pp 0)), (3, .int (nI n3_29))] → mW G A s M H locs → Mdl G pp M0 M v → W p l e R s m av below meth c H locs 0 0 Q (F0 m 81 ls [.int is0_81]) := by
              intro is0_81 M H locs ls  E hl w hM
              rw [mf_balance_81] at E
              refine lv_istore_n (lv' := [(2, .int is0_81), (1, .int is0_60), (0, .ref (pp 0)), (3, .int (nI n3_29))]) hx hb dX4_balance_81 rfl hl (by decide) rfl (fun ls hl => ?_)
              refine lv_iinc (v := (nI (n3_29 + 1))) (lv' := [(3, .int (nI (n3_29 + 1))), (2, .int is0_81), (1, .int is0_60), (0, .ref (pp 0))]) hx hb dX4_balance_82 hl (k := 3) rfl (nI_incr _ 1) (by decide) rfl (fun ls hl => ?_)
              refine lv_goto (tgt := 29) hx hb dX4_balance_85 (by decide) ?_
              exact ih_29 is0_60 is0_81 (n3_29 + 1) M H locs ls (by first | omega | assumption) (by first | omega | assumption) E (lv_sub hl [3, 2, 1, 0] rfl) w hM
            refine lv_icmp_ge (tgt := 80) hx hb dX4_balance_68 (by decide) (fun c_68 => ?_) (fun c_68 => ?_)
            · rw [if_pos c_68] at E
              refine lv_iload_n hx hb dX4_balance_80 rfl (lv_at hl 2 rfl) ?_
              exact J81 i2_29 M H locs ls E (lv_sub hl [0, 1, 3] rfl) w hM
            · rw [if_neg c_68] at E
              refine lv_aload_n hx hb dX4_balance_71 rfl (lv_at hl 1 rfl) ?_
              refine lv_iload_n hx hb dX4_balance_72 rfl (lv_at hl 3 rfl) ?_
              refine lv_iconst (v := (5 : Int32)) hx hb dX4_balance_73 (by decide) ?_
              refine mx_bi w (va_runV (As := [.int (nI n3_29), .int (nI 5)]) (rest := []) X (mt_of l G A pp M0 v n3_29 5  (by first | omega | assumption) (by first | omega | assumption)) (cwV 2 X.2.2.2.2 (lw_V q2101 q2103 qs50 q113 q2104) rfl rfl rfl (by decide +kernel) ⟨by rw [hRf]; decide, by rw [hRl]; decide⟩) (mx_preV w hM hM.2.1 rfl) rfl rfl hl.1 rfl (lv_room (Nat.le_of_ble_eq_true rfl)) dX4_balance_74 ⟨Nat.zero_le _, Nat.zero_le _⟩) (fun r M H locs hp w => ?_)
              obtain ⟨rfl, hM⟩ := hp
              refine lv_goto (tgt := 81) hx hb dX4_balance_77 (by decide) ?_
              exact J81 (mf_of v n3_29 5) M H locs ls E (lv_sub hl [0, 1, 3] rfl) w hM
          refine lv_icmp_le (tgt := 59) hx hb dX4_balance_47 (by decide) (fun c_47 => ?_) (fun c_47 => ?_)
          · rw [if_pos c_47] at E
            refine lv_iload_n hx hb dX4_balance_59 rfl (lv_at hl 1 rfl) ?_
            exact J60 i1_29 M H locs ls E (lv_sub hl [0, 2, 3] rfl) w hM
          · rw [if_neg c_47] at E
            refine lv_aload_n hx hb dX4_balance_50 rfl (lv_at hl 0 rfl) ?_
            refine lv_iload_n hx hb dX4_balance_51 rfl (lv_at hl 3 rfl) ?_
            refine lv_iconst (v := (5 : Int32)) hx hb dX4_balance_52 (by decide) ?_
            refine mx_bi w (va_runV (As := [.int (nI n3_29), .int (nI 5)]) (rest := []) X (mt_of l G A pp M0 v n3_29 5  (by first | omega | assumption) (by first | omega | assumption)) (cwV 2 X.2.2.2.2 (lw_V q2101 q2103 qs50 q113 q2104) rfl rfl rfl (by decide +kernel) ⟨by rw [hRf]; decide, by rw [hRl]; decide⟩) (mx_preV w hM hM.2.1 rfl) rfl rfl hl.1 rfl (lv_room (Nat.le_of_ble_eq_true rfl)) dX4_balance_53 ⟨Nat.zero_le _, Nat.zero_le _⟩) (fun r M H locs hp w => ?_)
            obtain ⟨rfl, hM⟩ := hp
            refine lv_goto (tgt := 60) hx hb dX4_balance_56 (by decide) ?_
            exact J60 (mf_of v n3_29 5) M H locs ls E (lv_sub hl [0, 2, 3] rfl) w hM
    exact L29 7 (mf_of v 0 5) (mf_of v 0 5) 1 M H locs ls (by first | omega | assumption) (by first | omega | assumption) E (lv_sub hl [3, 2, 1, 0] rfl) w hM
  · rw [if_pos c_7] at E
    refine lv_ldc (v := (-1000004 : Int32)) hx hb X.2.2.2.1 (X.2.2.2.2 _ q2163) dX4_balance_10 ?_
    exact fin (-1000004 : Int32) M H locs ls 12 dX4_balance_12 ⟨E, hM⟩ w
def mf_zone_c31 (v : (Nat → Nat → Int32)) (demand : Int32) (v_31 : (Nat → Nat → Int32)) : (Int32 × (Nat → Nat → Int32)) := ((nI (nC (v 1) 15)), (u2 (u2 (u2 v_31 1 (87 + 2 * (nC (v 1) 15)) demand) 1 (87 + 2 * (nC (v 1) 15) + 1) (0 : Int32)) 1 15 (((u2 (u2 v_31 1 (87 + 2 * (nC (v 1) 15)) demand) 1 (87 + 2 * (nC (v 1) 15) + 1) (0 : Int32)) 1 15) + (1 : Int32))))
def mf_zone (v : (Nat → Nat → Int32)) (demand : Int32) : Int32 × (Nat → Nat → Int32) := (if (mf_in demand.toInt64 (1 : Int64) (1000 : Int64)) = true then (if (v 1 15) = (8 : Int32) then ((-1000003 : Int32), v) else (mf_zone_c31 v demand (mf_save v ))) else ((-1000001 : Int32), v))
set_option maxHeartbeats 4000000 in
set_option maxRecDepth 100000 in
theorem mt_zone (l : Launch) (G : mg) (A : Nat → Prop) (pp : Nat → Nat) (M0 : mh) (v : Nat → Nat → Int32) (demand : Int32) (T np nz ng : Nat) (hI : IP T np nz ng (v 1)) (hs : rg (v 0 2) 4) : Met l yX4_zone (ws_ yX4_zone cX4_zone 3 (some .int)) ({ frames := 1, cells := 0, slots := 0, locals := 25 }) (va_Pc [.ref (pp 0), .int demand] (mU G A (fun M => Mdl G pp M0 M v))) (mQi G A (fun r M => r = (mf_zone v demand).1 ∧ Mdl G pp M0 M (mf_zone v demand).2)) 0 0 A := by
  refine mx_ofi (by decide) (Nat.le_of_ble_eq_true rfl) ?_
  intro p e R s m av below meth c M H Q ls X hRf hRl hRc hRs hin hM w fin hl
  have X : CallFix p m c cX4_zone 3 s av lw_all "FieldPumpsModel" := X
  have hx := X.1
  have hb := X.2.1
  have hl : lv_has ls 3 [(0, .ref (pp 0)), (1, .int demand)] := hl
  have hRf : R.frames = 1 := hRf
  have hRl : R.locals = 25 := hRl
  generalize ([] : List Loc) = locs at w ⊢
  generalize E : mf_zone v demand = z at fin
  rw [mf_zone] at E
  have hb6 := hI.b
  have hcp := hI.cp
  have hcz := hI.cz
  have hcg := hI.cg
  refine lv_iload_n hx hb dX4_zone_0 rfl (lv_at hl 1 rfl) ?_
  refine lv_i2l hx hb dX4_zone_1 rfl ?_
  refine lv_lconst (v := (1 : Int64)) hx hb dX4_zone_2 (by decide) ?_
  refine lv_ldc2 (v := (1000 : Int64)) hx hb X.2.2.2.1 (X.2.2.2.2 _ q2066) dX4_zone_3 ?_
  refine mx_bi w (va_runS (As := [.long demand.toInt64, .long (1 : Int64), .long (1000 : Int64)]) (rest := []) X (mt_in l G A M demand.toInt64 (1 : Int64) (1000 : Int64)  ) (va_cwS 3 X.2.2.2.2 (lw_S q2060 q2061 q113 q2062) rfl rfl rfl (by decide +kernel) ⟨by rw [hRf]; decide, by rw [hRl]; decide⟩) (mx_preS w rfl) rfl rfl hl.1 rfl (lv_room (Nat.le_of_ble_eq_true rfl)) dX4_zone_6 ⟨Nat.zero_le _, Nat.zero_le _⟩) (fun r M H locs hp w => ?_)
  obtain ⟨rfl, hp2⟩ := hp; rw [← hp2] at hM; clear hp2
  refine mx_bne (tgt := 15) hx hb dX4_zone_9 (by decide) (fun c_9 => ?_) (fun c_9 => ?_)
  · rw [if_pos c_9] at E
    refine lv_aload_n hx hb dX4_zone_15 rfl (lv_at hl 0 rfl) ?_
    refine mx_get (v := .ref (pp 1)) X w in_X4 (ci := 3) rfl 0 (by decide) q2011 (fun _ h => h) hM.2.1 rfl dX4_zone_16 ?_
    refine lv_bipush (v := (15 : Int32)) hx hb dX4_zone_19 (by decide) ?_
    refine md_ald X w hM 1 (by decide) (by decide) 15 rfl (show 15 < 170 by decide) dX4_zone_21 ?_
    refine lv_bipush (v := (8 : Int32)) hx hb dX4_zone_22 (by decide) ?_
    refine lv_icmp_ne (tgt := 30) hx hb dX4_zone_24 (by decide) (fun c_24 => ?_) (fun c_24 => ?_)
    · rw [if_neg c_24] at E
      have hlt := cnt_lt (m := 8) hI.enz hI.z8 c_24
      refine lv_aload_n hx hb dX4_zone_30 rfl (lv_at hl 0 rfl) ?_
      refine mx_bv w (va_runV (As := []) (rest := []) X (mt_save l G A pp M0 v   (by first | omega | assumption)) (cwV 0 X.2.2.2.2 (lw_V q2074 q2076 qs46 q113 q2077) rfl rfl rfl (by decide +kernel) ⟨by rw [hRf]; decide, by rw [hRl]; decide⟩) (mx_preV w hM hM.2.1 rfl) rfl rfl hl.1 rfl (lv_room (Nat.le_of_ble_eq_true rfl)) dX4_zone_31 ⟨Nat.zero_le _, Nat.zero_le _⟩) (fun M H locs hM w => ?_)
      rw [mf_zone_c31] at E
      obtain ⟨v_31, ev_31⟩ : ∃ y, y = (mf_save v ) := ⟨_, rfl⟩
      rw [← ev_31] at E hM
      have hs1 : v_31 1 = v 1 := by rw [ev_31]; exact save_1 v
      refine lv_aload_n hx hb dX4_zone_34 rfl (lv_at hl 0 rfl) ?_
      refine mx_get (v := .ref (pp 1)) X w in_X4 (ci := 3) rfl 0 (by decide) q2011 (fun _ h => h) hM.2.1 rfl dX4_zone_35 ?_
      refine lv_bipush (v := (15 : Int32)) hx hb dX4_zone_38 (by decide) ?_
      refine md_ald X w hM 1 (by decide) (by decide) 15 rfl (show 15 < 170 by decide) dX4_zone_40 ?_
      refine mx_cast (z := nI (nC (v 1) 15)) (by rw [hs1, hcz]; exact hI.enz) ?_
      refine lv_istore_n (lv' := [(2, .int (nI (nC (v 1) 15))), (0, .ref (pp 0)), (1, .int demand)]) hx hb dX4_zone_41 rfl hl (by decide) rfl (fun ls hl => ?_)
      refine lv_aload_n hx hb dX4_zone_42 rfl (lv_at hl 1 rfl) ?_
      refine mx_get (v := .ref (pp 1)) X w in_X4 (ci := 3) rfl 0 (by decide) q2011 (fun _ h => h) hM.2.1 rfl dX4_zone_43 ?_
      refine lv_bipush (v := (87 : Int32)) hx hb dX4_zone_46 (by decide) ?_
      refine lv_iconst (v := (2 : Int32)) hx hb dX4_zone_48 (by decide) ?_
      refine lv_iload_n hx hb dX4_zone_49 rfl (lv_at hl 0 rfl) ?_
      refine mx_nmul (u := 2) (v := nC (v 1) 15) hx hb rfl rfl dX4_zone_50 ?_
      refine mx_nadd (u := 87) (v := 2 * (nC (v 1) 15)) hx hb rfl rfl dX4_zone_51 ?_
      refine lv_iload_n hx hb dX4_zone_52 rfl (lv_at hl 2 rfl) ?_
      refine md_ast (x := demand) X w hM 1 (by decide) (by decide) (87 + 2 * (nC (v 1) 15)) rfl (show 87 + 2 * (nC (v 1) 15) < 170 by omega) dX4_zone_53 (fun M H locs w hM => ?_)
      refine lv_aload_n hx hb dX4_zone_54 rfl (lv_at hl 1 rfl) ?_
      refine mx_get (v := .ref (pp 1)) X w in_X4 (ci := 3) rfl 0 (by decide) q2011 (fun _ h => h) hM.2.1 rfl dX4_zone_55 ?_
      refine lv_bipush (v := (87 : Int32)) hx hb dX4_zone_58 (by decide) ?_
      refine lv_iconst (v := (2 : Int32)) hx hb dX4_zone_60 (by decide) ?_
      refine lv_iload_n hx hb dX4_zone_61 rfl (lv_at hl 0 rfl) ?_
      refine mx_nmul (u := 2) (v := nC (v 1) 15) hx hb rfl rfl dX4_zone_62 ?_
      refine mx_nadd (u := 87) (v := 2 * (nC (v 1) 15)) hx hb rfl rfl dX4_zone_63 ?_
      refine lv_iconst (v := (1 : Int32)) hx hb dX4_zone_64 (by decide) ?_
      refine mx_nadd (u := 87 + 2 * (nC (v 1) 15)) (v := 1) hx hb rfl rfl dX4_zone_65 ?_
      refine lv_iconst (v := (0 : Int32)) hx hb dX4_zone_66 (by decide) ?_
      refine md_ast (x := (0 : Int32)) X w hM 1 (by decide) (by decide) (87 + 2 * (nC (v 1) 15) + 1) rfl (show 87 + 2 * (nC (v 1) 15) + 1 < 170 by omega) dX4_zone_67 (fun M H locs w hM => ?_)
      refine lv_aload_n hx hb dX4_zone_68 rfl (lv_at hl 1 rfl) ?_
      refine mx_get (v := .ref (pp 1)) X w in_X4 (ci := 3) rfl 0 (by decide) q2011 (fun _ h => h) hM.2.1 rfl dX4_zone_69 ?_
      refine lv_bipush (v := (15 : Int32)) hx hb dX4_zone_72 (by decide) ?_
      refine lv_dup2_11 hx hb dX4_zone_74 rfl rfl ?_
      refine md_ald X w hM 1 (by decide) (by decide) 15 rfl (show 15 < 170 by decide) dX4_zone_75 ?_
      refine lv_iconst (v := (1 : Int32)) hx hb dX4_zone_76 (by decide) ?_
      refine lv_iadd hx hb dX4_zone_77 ?_
      refine md_ast (x := (((u2 (u2 v_31 1 (87 + 2 * (nC (v 1) 15)) demand) 1 (87 + 2 * (nC (v 1) 15) + 1) (0 : Int32)) 1 15) + (1 : Int32))) X w hM 1 (by decide) (by decide) 15 rfl (show 15 < 170 by decide) dX4_zone_78 (fun M H locs w hM => ?_)
      refine lv_iload_n hx hb dX4_zone_79 rfl (lv_at hl 0 rfl) ?_
      exact fin (nI (nC (v 1) 15)) M H locs ls 80 dX4_zone_80 ⟨by rw [← E], by rw [← E]; exact hM⟩ w
    · rw [if_pos c_24] at E
      refine lv_ldc (v := (-1000003 : Int32)) hx hb X.2.2.2.1 (X.2.2.2.2 _ q2088) dX4_zone_27 ?_
      exact fin (-1000003 : Int32) M H locs ls 29 dX4_zone_29 ⟨by rw [← E], by rw [← E]; exact hM⟩ w
  · rw [if_neg c_9] at E
    refine lv_ldc (v := (-1000001 : Int32)) hx hb X.2.2.2.1 (X.2.2.2.2 _ q2073) dX4_zone_12 ?_
    exact fin (-1000001 : Int32) M H locs ls 14 dX4_zone_14 ⟨by rw [← E], by rw [← E]; exact hM⟩ w
def mf_open_18 (v : (Nat → Nat → Int32)) (k : Int32) (is : Int32)  : (Int32 × (Nat → Nat → Int32)) := ((-1000001 : Int32), v)
def mf_open_c43 (v : (Nat → Nat → Int32)) (k : Int32) (is : Int32) (bs0_36 : Bool) (v_43 : (Nat → Nat → Int32)) : (Int32 × (Nat → Nat → Int32)) := ((mf_openZones (u2 v_43 1 (87 + 2 * (tN k) + 1) is) ), (u2 v_43 1 (87 + 2 * (tN k) + 1) is))
def mf_open_36 (v : (Nat → Nat → Int32)) (k : Int32) (is : Int32) (bs0_36 : Bool) : (Int32 × (Nat → Nat → Int32)) := (if (mf_isOpen v (tN k)) = bs0_36 then ((-1000002 : Int32), v) else (mf_open_c43 v k is bs0_36 (mf_save v )))
def mf_open (v : (Nat → Nat → Int32)) (k : Int32) (is : Int32) : Int32 × (Nat → Nat → Int32) := (if (mf_isZone v k) = true then (if (mf_in is.toInt64 (0 : Int64) (1 : Int64)) = true then (if is = (1 : Int32) then (mf_open_36 v k is true) else (mf_open_36 v k is false)) else (mf_open_18 v k is )) else (mf_open_18 v k is ))
set_option maxHeartbeats 4000000 in
set_option maxRecDepth 100000 in
theorem mt_open (l : Launch) (G : mg) (A : Nat → Prop) (pp : Nat → Nat) (M0 : mh) (v : Nat → Nat → Int32) (k : Int32) (is : Int32) (T np nz ng : Nat) (hI : IP T np nz ng (v 1)) (hs : rg (v 0 2) 4) : Met l yX4_open (ws_ yX4_open cX4_open 3 (some .int)) ({ frames := 2, cells := 0, slots := 0, locals := 46 }) (va_Pc [.ref (pp 0), .int k, .int is] (mU G A (fun M => Mdl G pp M0 M v))) (mQi G A (fun r M => r = (mf_open v k is).1 ∧ Mdl G pp M0 M (mf_open v k is).2)) 0 0 A := by
  refine mx_ofi (by decide) (Nat.le_of_ble_eq_true rfl) ?_
  intro p e R s m av below meth c M H Q ls X hRf hRl hRc hRs hin hM w fin hl
  have X : CallFix p m c cX4_open 3 s av lw_all "FieldPumpsModel" := X
  have hx := X.1
  have hb := X.2.1
  have hl : lv_has ls 3 [(0, .ref (pp 0)), (1, .int k), (2, .int is)] := hl
  have hRf : R.frames = 2 := hRf
  have hRl : R.locals = 46 := hRl
  generalize ([] : List Loc) = locs at w ⊢
  generalize E : mf_open v k is = z at fin
  rw [mf_open] at E
  have hb6 := hI.b
  have hcp := hI.cp
  have hcz := hI.cz
  have hcg := hI.cg
  refine lv_aload_n hx hb dX4_open_0 rfl (lv_at hl 0 rfl) ?_
  refine lv_iload_n hx hb dX4_open_1 rfl (lv_at hl 1 rfl) ?_
  refine mx_bi w (va_runV (As := [.int k]) (rest := []) X (mt_isZone l G A pp M0 v k  ) (cwV 1 X.2.2.2.2 (lw_V q2176 q2178 qs61 q113 q2179) rfl rfl rfl (by decide +kernel) ⟨by rw [hRf]; decide, by rw [hRl]; decide⟩) (mx_preV w hM hM.2.1 rfl) rfl rfl hl.1 rfl (lv_room (Nat.le_of_ble_eq_true rfl)) dX4_open_2 ⟨Nat.zero_le _, Nat.zero_le _⟩) (fun r M H locs hp w => ?_)
  obtain ⟨rfl, hM⟩ := hp
  have J18 : ∀  (M : mh) (H : Heap) (locs : List Loc) (ls : Array Slot), mf_open_18 v k is  = z → lv_has ls 3 [] → mW G A s M H locs → Mdl G pp M0 M v → W p l e R s m av below meth c H locs 0 0 Q (F0 m 18 ls []) := by
    intro  M H locs ls  E hl w hM
    rw [mf_open_18] at E
    refine lv_ldc (v := (-1000001 : Int32)) hx hb X.2.2.2.1 (X.2.2.2.2 _ q2073) dX4_open_18 ?_
    exact fin (-1000001 : Int32) M H locs ls 20 dX4_open_20 ⟨by rw [← E], by rw [← E]; exact hM⟩ w
  refine mx_beq (tgt := 18) hx hb dX4_open_5 (by decide) (fun c_5 => ?_) (fun c_5 => ?_)
  · rw [if_neg c_5] at E
    exact J18  M H locs ls E (lv_sub hl [] rfl) w hM
  · rw [if_pos c_5] at E
    obtain ⟨hk1, hk2⟩ := isZone_n hI.enz hI.z8 c_5
    refine lv_iload_n hx hb dX4_open_8 rfl (lv_at hl 2 rfl) ?_
    refine lv_i2l hx hb dX4_open_9 rfl ?_
    refine lv_lconst (v := (0 : Int64)) hx hb dX4_open_10 (by decide) ?_
    refine lv_lconst (v := (1 : Int64)) hx hb dX4_open_11 (by decide) ?_
    refine mx_bi w (va_runS (As := [.long is.toInt64, .long (0 : Int64), .long (1 : Int64)]) (rest := []) X (mt_in l G A M is.toInt64 (0 : Int64) (1 : Int64)  ) (va_cwS 3 X.2.2.2.2 (lw_S q2060 q2061 q113 q2062) rfl rfl rfl (by decide +kernel) ⟨by rw [hRf]; decide, by rw [hRl]; decide⟩) (mx_preS w rfl) rfl rfl hl.1 rfl (lv_room (Nat.le_of_ble_eq_true rfl)) dX4_open_12 ⟨Nat.zero_le _, Nat.zero_le _⟩) (fun r M H locs hp w => ?_)
    obtain ⟨rfl, hp2⟩ := hp; rw [← hp2] at hM; clear hp2
    refine mx_bne (tgt := 21) hx hb dX4_open_15 (by decide) (fun c_15 => ?_) (fun c_15 => ?_)
    · rw [if_pos c_15] at E
      refine lv_aload_n hx hb dX4_open_21 rfl (lv_at hl 0 rfl) ?_
      refine lv_iload_n hx hb dX4_open_22 rfl (lv_at hl 1 rfl) ?_
      refine mx_cast (z := nI (tN k)) (hk1) ?_
      refine mx_bi w (va_runV (As := [.int (nI (tN k))]) (rest := []) X (mt_isOpen l G A pp M0 v (tN k)  (by first | omega | assumption)) (cwV 1 X.2.2.2.2 (lw_V q2180 q2182 qs62 q113 q2183) rfl rfl rfl (by decide +kernel) ⟨by rw [hRf]; decide, by rw [hRl]; decide⟩) (mx_preV w hM hM.2.1 rfl) rfl rfl hl.1 rfl (lv_room (Nat.le_of_ble_eq_true rfl)) dX4_open_23 ⟨Nat.zero_le _, Nat.zero_le _⟩) (fun r M H locs hp w => ?_)
      obtain ⟨rfl, hM⟩ := hp
      refine lv_iload_n hx hb dX4_open_26 rfl (lv_at hl 2 rfl) ?_
      refine lv_iconst (v := (1 : Int32)) hx hb dX4_open_27 (by decide) ?_
      have J36 : ∀ (bs0_36 : Bool) (M : mh) (H : Heap) (locs : List Loc) (ls : Array Slot), mf_open_36 v k is bs0_36 = z → lv_has ls 3 [(0, .ref (pp 0)), (1, .int k), (2, .int is)] → mW G A s M H locs → Mdl G pp M0 M v → W p l e R s m av below meth c H locs 0 0 Q (F0 m 36 ls [.int (bI bs0_36), .int (bI (mf_isOpen v (tN k)))]) := by
        intro bs0_36 M H locs ls  E hl w hM
        rw [mf_open_36] at E
        refine mx_bbne (tgt := 42) hx hb dX4_open_36 (by decide) (fun c_36 => ?_) (fun c_36 => ?_)
        · rw [if_neg c_36] at E
          refine lv_aload_n hx hb dX4_open_42 rfl (lv_at hl 0 rfl) ?_
          refine mx_bv w (va_runV (As := []) (rest := []) X (mt_save l G A pp M0 v   (by first | omega | assumption)) (cwV 0 X.2.2.2.2 (lw_V q2074 q2076 qs46 q113 q2077) rfl rfl rfl (by decide +kernel) ⟨by rw [hRf]; decide, by rw [hRl]; decide⟩) (mx_preV w hM hM.2.1 rfl) rfl rfl hl.1 rfl (lv_room (Nat.le_of_ble_eq_true rfl)) dX4_open_43 ⟨Nat.zero_le _, Nat.zero_le _⟩) (fun M H locs hM w => ?_)
          rw [mf_open_c43] at E
          obtain ⟨v_43, ev_43⟩ : ∃ y, y = (mf_save v ) := ⟨_, rfl⟩
          rw [← ev_43] at E hM
          have hs4 : v_43 1 = v 1 := by rw [ev_43]; exact save_1 v
          refine lv_aload_n hx hb dX4_open_46 rfl (lv_at hl 0 rfl) ?_
          refine mx_get (v := .ref (pp 1)) X w in_X4 (ci := 3) rfl 0 (by decide) q2011 (fun _ h => h) hM.2.1 rfl dX4_open_47 ?_
          refine lv_bipush (v := (87 : Int32)) hx hb dX4_open_50 (by decide) ?_
          refine lv_iconst (v := (2 : Int32)) hx hb dX4_open_52 (by decide) ?_
          refine lv_iload_n hx hb dX4_open_53 rfl (lv_at hl 1 rfl) ?_
          refine mx_cast (z := nI (tN k)) (hk1) ?_
          refine mx_nmul (u := 2) (v := tN k) hx hb rfl rfl dX4_open_54 ?_
          refine mx_nadd (u := 87) (v := 2 * (tN k)) hx hb rfl rfl dX4_open_55 ?_
          refine lv_iconst (v := (1 : Int32)) hx hb dX4_open_56 (by decide) ?_
          refine mx_nadd (u := 87 + 2 * (tN k)) (v := 1) hx hb rfl rfl dX4_open_57 ?_
          refine lv_iload_n hx hb dX4_open_58 rfl (lv_at hl 2 rfl) ?_
          refine md_ast (x := is) X w hM 1 (by decide) (by decide) (87 + 2 * (tN k) + 1) rfl (show 87 + 2 * (tN k) + 1 < 170 by omega) dX4_open_59 (fun M H locs w hM => ?_)
          refine lv_aload_n hx hb dX4_open_60 rfl (lv_at hl 0 rfl) ?_
          refine mx_bi w (va_runV (As := []) (rest := []) X (mt_openZones l G A pp M0 (u2 v_43 1 (87 + 2 * (tN k) + 1) is)  nz (by rw [u2_k (by omega), hs4]; exact hI.enz) (hI.z8)) (cwV 0 X.2.2.2.2 (lw_V q2184 q2186 qs63 q113 q2187) rfl rfl rfl (by decide +kernel) ⟨by rw [hRf]; decide, by rw [hRl]; decide⟩) (mx_preV w hM hM.2.1 rfl) rfl rfl hl.1 rfl (lv_room (Nat.le_of_ble_eq_true rfl)) dX4_open_61 ⟨Nat.zero_le _, Nat.zero_le _⟩) (fun r M H locs hp w => ?_)
          obtain ⟨rfl, hM⟩ := hp
          exact fin (mf_openZones (u2 v_43 1 (87 + 2 * (tN k) + 1) is) ) M H locs ls 64 dX4_open_64 ⟨by rw [← E], by rw [← E]; exact hM⟩ w
        · rw [if_pos c_36] at E
          refine lv_ldc (v := (-1000002 : Int32)) hx hb X.2.2.2.1 (X.2.2.2.2 _ q2105) dX4_open_39 ?_
          exact fin (-1000002 : Int32) M H locs ls 41 dX4_open_41 ⟨by rw [← E], by rw [← E]; exact hM⟩ w
      refine lv_icmp_ne (tgt := 35) hx hb dX4_open_28 (by decide) (fun c_28 => ?_) (fun c_28 => ?_)
      · rw [if_neg c_28] at E
        refine lv_iconst (v := (0 : Int32)) hx hb dX4_open_35 (by decide) ?_
        exact J36 false M H locs ls E (lv_sub hl [0, 1, 2] rfl) w hM
      · rw [if_pos c_28] at E
        refine lv_iconst (v := (1 : Int32)) hx hb dX4_open_31 (by decide) ?_
        refine lv_goto (tgt := 36) hx hb dX4_open_32 (by decide) ?_
        exact J36 true M H locs ls E (lv_sub hl [0, 1, 2] rfl) w hM
    · rw [if_neg c_15] at E
      exact J18  M H locs ls E (lv_sub hl [] rfl) w hM
def mf_leak_c16 (v : (Nat → Nat → Int32)) (lk : Int32) (v_16 : (Nat → Nat → Int32)) : (Int32 × (Nat → Nat → Int32)) := ((v_16 1 17), (u2 v_16 1 17 lk))
def mf_leak (v : (Nat → Nat → Int32)) (lk : Int32) : Int32 × (Nat → Nat → Int32) := (if (mf_in lk.toInt64 (0 : Int64) (1000 : Int64)) = true then (mf_leak_c16 v lk (mf_save v )) else ((-1000001 : Int32), v))
set_option maxHeartbeats 4000000 in
set_option maxRecDepth 100000 in
theorem mt_leak (l : Launch) (G : mg) (A : Nat → Prop) (pp : Nat → Nat) (M0 : mh) (v : Nat → Nat → Int32) (lk : Int32) (hs : rg (v 0 2) 4) : Met l yX4_leak (ws_ yX4_leak cX4_leak 3 (some .int)) ({ frames := 1, cells := 0, slots := 0, locals := 25 }) (va_Pc [.ref (pp 0), .int lk] (mU G A (fun M => Mdl G pp M0 M v))) (mQi G A (fun r M => r = (mf_leak v lk).1 ∧ Mdl G pp M0 M (mf_leak v lk).2)) 0 0 A := by
  refine mx_ofi (by decide) (Nat.le_of_ble_eq_true rfl) ?_
  intro p e R s m av below meth c M H Q ls X hRf hRl hRc hRs hin hM w fin hl
  have X : CallFix p m c cX4_leak 3 s av lw_all "FieldPumpsModel" := X
  have hx := X.1
  have hb := X.2.1
  have hl : lv_has ls 3 [(0, .ref (pp 0)), (1, .int lk)] := hl
  have hRf : R.frames = 1 := hRf
  have hRl : R.locals = 25 := hRl
  generalize ([] : List Loc) = locs at w ⊢
  generalize E : mf_leak v lk = z at fin
  rw [mf_leak] at E
  refine lv_iload_n hx hb dX4_leak_0 rfl (lv_at hl 1 rfl) ?_
  refine lv_i2l hx hb dX4_leak_1 rfl ?_
  refine lv_lconst (v := (0 : Int64)) hx hb dX4_leak_2 (by decide) ?_
  refine lv_ldc2 (v := (1000 : Int64)) hx hb X.2.2.2.1 (X.2.2.2.2 _ q2066) dX4_leak_3 ?_
  refine mx_bi w (va_runS (As := [.long lk.toInt64, .long (0 : Int64), .long (1000 : Int64)]) (rest := []) X (mt_in l G A M lk.toInt64 (0 : Int64) (1000 : Int64)  ) (va_cwS 3 X.2.2.2.2 (lw_S q2060 q2061 q113 q2062) rfl rfl rfl (by decide +kernel) ⟨by rw [hRf]; decide, by rw [hRl]; decide⟩) (mx_preS w rfl) rfl rfl hl.1 rfl (lv_room (Nat.le_of_ble_eq_true rfl)) dX4_leak_6 ⟨Nat.zero_le _, Nat.zero_le _⟩) (fun r M H locs hp w => ?_)
  obtain ⟨rfl, hp2⟩ := hp; rw [← hp2] at hM; clear hp2
  refine mx_bne (tgt := 15) hx hb dX4_leak_9 (by decide) (fun c_9 => ?_) (fun c_9 => ?_)
  · rw [if_pos c_9] at E
    refine lv_aload_n hx hb dX4_leak_15 rfl (lv_at hl 0 rfl) ?_
    refine mx_bv w (va_runV (As := []) (rest := []) X (mt_save l G A pp M0 v   (by first | omega | assumption)) (cwV 0 X.2.2.2.2 (lw_V q2074 q2076 qs46 q113 q2077) rfl rfl rfl (by decide +kernel) ⟨by rw [hRf]; decide, by rw [hRl]; decide⟩) (mx_preV w hM hM.2.1 rfl) rfl rfl hl.1 rfl (lv_room (Nat.le_of_ble_eq_true rfl)) dX4_leak_16 ⟨Nat.zero_le _, Nat.zero_le _⟩) (fun M H locs hM w => ?_)
    rw [mf_leak_c16] at E
    obtain ⟨v_16, ev_16⟩ : ∃ y, y = (mf_save v ) := ⟨_, rfl⟩
    rw [← ev_16] at E hM
    refine lv_aload_n hx hb dX4_leak_19 rfl (lv_at hl 0 rfl) ?_
    refine mx_get (v := .ref (pp 1)) X w in_X4 (ci := 3) rfl 0 (by decide) q2011 (fun _ h => h) hM.2.1 rfl dX4_leak_20 ?_
    refine lv_bipush (v := (17 : Int32)) hx hb dX4_leak_23 (by decide) ?_
    refine md_ald X w hM 1 (by decide) (by decide) 17 rfl (show 17 < 170 by decide) dX4_leak_25 ?_
    refine lv_istore_n (lv' := [(2, .int (v_16 1 17)), (0, .ref (pp 0)), (1, .int lk)]) hx hb dX4_leak_26 rfl hl (by decide) rfl (fun ls hl => ?_)
    refine lv_aload_n hx hb dX4_leak_27 rfl (lv_at hl 1 rfl) ?_
    refine mx_get (v := .ref (pp 1)) X w in_X4 (ci := 3) rfl 0 (by decide) q2011 (fun _ h => h) hM.2.1 rfl dX4_leak_28 ?_
    refine lv_bipush (v := (17 : Int32)) hx hb dX4_leak_31 (by decide) ?_
    refine lv_iload_n hx hb dX4_leak_33 rfl (lv_at hl 2 rfl) ?_
    refine md_ast (x := lk) X w hM 1 (by decide) (by decide) 17 rfl (show 17 < 170 by decide) dX4_leak_34 (fun M H locs w hM => ?_)
    refine lv_iload_n hx hb dX4_leak_35 rfl (lv_at hl 0 rfl) ?_
    exact fin (v_16 1 17) M H locs ls 36 dX4_leak_36 ⟨by rw [← E], by rw [← E]; exact hM⟩ w
  · rw [if_neg c_9] at E
    refine lv_ldc (v := (-1000001 : Int32)) hx hb X.2.2.2.1 (X.2.2.2.2 _ q2073) dX4_leak_12 ?_
    exact fin (-1000001 : Int32) M H locs ls 14 dX4_leak_14 ⟨by rw [← E], by rw [← E]; exact hM⟩ w
def mf_fill_c16 (v : (Nat → Nat → Int32)) (level : Int32) (v_16 : (Nat → Nat → Int32)) : (Int32 × (Nat → Nat → Int32)) := ((v_16 1 2), (u2 v_16 1 2 level))
def mf_fill (v : (Nat → Nat → Int32)) (level : Int32) : Int32 × (Nat → Nat → Int32) := (if (mf_in level.toInt64 (0 : Int64) (20000 : Int64)) = true then (mf_fill_c16 v level (mf_save v )) else ((-1000001 : Int32), v))
set_option maxHeartbeats 4000000 in
set_option maxRecDepth 100000 in
theorem mt_fill (l : Launch) (G : mg) (A : Nat → Prop) (pp : Nat → Nat) (M0 : mh) (v : Nat → Nat → Int32) (level : Int32) (hs : rg (v 0 2) 4) : Met l yX4_fill (ws_ yX4_fill cX4_fill 3 (some .int)) ({ frames := 1, cells := 0, slots := 0, locals := 25 }) (va_Pc [.ref (pp 0), .int level] (mU G A (fun M => Mdl G pp M0 M v))) (mQi G A (fun r M => r = (mf_fill v level).1 ∧ Mdl G pp M0 M (mf_fill v level).2)) 0 0 A := by
  refine mx_ofi (by decide) (Nat.le_of_ble_eq_true rfl) ?_
  intro p e R s m av below meth c M H Q ls X hRf hRl hRc hRs hin hM w fin hl
  have X : CallFix p m c cX4_fill 3 s av lw_all "FieldPumpsModel" := X
  have hx := X.1
  have hb := X.2.1
  have hl : lv_has ls 3 [(0, .ref (pp 0)), (1, .int level)] := hl
  have hRf : R.frames = 1 := hRf
  have hRl : R.locals = 25 := hRl
  generalize ([] : List Loc) = locs at w ⊢
  generalize E : mf_fill v level = z at fin
  rw [mf_fill] at E
  refine lv_iload_n hx hb dX4_fill_0 rfl (lv_at hl 1 rfl) ?_
  refine lv_i2l hx hb dX4_fill_1 rfl ?_
  refine lv_lconst (v := (0 : Int64)) hx hb dX4_fill_2 (by decide) ?_
  refine lv_ldc2 (v := (20000 : Int64)) hx hb X.2.2.2.1 (X.2.2.2.2 _ q2209) dX4_fill_3 ?_
  refine mx_bi w (va_runS (As := [.long level.toInt64, .long (0 : Int64), .long (20000 : Int64)]) (rest := []) X (mt_in l G A M level.toInt64 (0 : Int64) (20000 : Int64)  ) (va_cwS 3 X.2.2.2.2 (lw_S q2060 q2061 q113 q2062) rfl rfl rfl (by decide +kernel) ⟨by rw [hRf]; decide, by rw [hRl]; decide⟩) (mx_preS w rfl) rfl rfl hl.1 rfl (lv_room (Nat.le_of_ble_eq_true rfl)) dX4_fill_6 ⟨Nat.zero_le _, Nat.zero_le _⟩) (fun r M H locs hp w => ?_)
  obtain ⟨rfl, hp2⟩ := hp; rw [← hp2] at hM; clear hp2
  refine mx_bne (tgt := 15) hx hb dX4_fill_9 (by decide) (fun c_9 => ?_) (fun c_9 => ?_)
  · rw [if_pos c_9] at E
    refine lv_aload_n hx hb dX4_fill_15 rfl (lv_at hl 0 rfl) ?_
    refine mx_bv w (va_runV (As := []) (rest := []) X (mt_save l G A pp M0 v   (by first | omega | assumption)) (cwV 0 X.2.2.2.2 (lw_V q2074 q2076 qs46 q113 q2077) rfl rfl rfl (by decide +kernel) ⟨by rw [hRf]; decide, by rw [hRl]; decide⟩) (mx_preV w hM hM.2.1 rfl) rfl rfl hl.1 rfl (lv_room (Nat.le_of_ble_eq_true rfl)) dX4_fill_16 ⟨Nat.zero_le _, Nat.zero_le _⟩) (fun M H locs hM w => ?_)
    rw [mf_fill_c16] at E
    obtain ⟨v_16, ev_16⟩ : ∃ y, y = (mf_save v ) := ⟨_, rfl⟩
    rw [← ev_16] at E hM
    refine lv_aload_n hx hb dX4_fill_19 rfl (lv_at hl 0 rfl) ?_
    refine mx_get (v := .ref (pp 1)) X w in_X4 (ci := 3) rfl 0 (by decide) q2011 (fun _ h => h) hM.2.1 rfl dX4_fill_20 ?_
    refine lv_iconst (v := (2 : Int32)) hx hb dX4_fill_23 (by decide) ?_
    refine md_ald X w hM 1 (by decide) (by decide) 2 rfl (show 2 < 170 by decide) dX4_fill_24 ?_
    refine lv_istore_n (lv' := [(2, .int (v_16 1 2)), (0, .ref (pp 0)), (1, .int level)]) hx hb dX4_fill_25 rfl hl (by decide) rfl (fun ls hl => ?_)
    refine lv_aload_n hx hb dX4_fill_26 rfl (lv_at hl 1 rfl) ?_
    refine mx_get (v := .ref (pp 1)) X w in_X4 (ci := 3) rfl 0 (by decide) q2011 (fun _ h => h) hM.2.1 rfl dX4_fill_27 ?_
    refine lv_iconst (v := (2 : Int32)) hx hb dX4_fill_30 (by decide) ?_
    refine lv_iload_n hx hb dX4_fill_31 rfl (lv_at hl 2 rfl) ?_
    refine md_ast (x := level) X w hM 1 (by decide) (by decide) 2 rfl (show 2 < 170 by decide) dX4_fill_32 (fun M H locs w hM => ?_)
    refine lv_iload_n hx hb dX4_fill_33 rfl (lv_at hl 0 rfl) ?_
    exact fin (v_16 1 2) M H locs ls 34 dX4_fill_34 ⟨by rw [← E], by rw [← E]; exact hM⟩ w
  · rw [if_neg c_9] at E
    refine lv_ldc (v := (-1000001 : Int32)) hx hb X.2.2.2.1 (X.2.2.2.2 _ q2073) dX4_fill_12 ?_
    exact fin (-1000001 : Int32) M H locs ls 14 dX4_fill_14 ⟨by rw [← E], by rw [← E]; exact hM⟩ w
def mf_programme_37 (v : (Nat → Nat → Int32)) (zone : Int32) (frm : Int32) (too : Int32)  : (Int32 × (Nat → Nat → Int32)) := ((-1000001 : Int32), v)
def mf_programme_c56 (v : (Nat → Nat → Int32)) (zone : Int32) (frm : Int32) (too : Int32) (v_56 : (Nat → Nat → Int32)) : (Int32 × (Nat → Nat → Int32)) := (((u2 (u2 (u2 (u2 v_56 1 (103 + 3 * (nC (v 1) 16)) zone) 1 (103 + 3 * (nC (v 1) 16) + 1) frm) 1 (103 + 3 * (nC (v 1) 16) + 2) too) 1 16 (((u2 (u2 (u2 v_56 1 (103 + 3 * (nC (v 1) 16)) zone) 1 (103 + 3 * (nC (v 1) 16) + 1) frm) 1 (103 + 3 * (nC (v 1) 16) + 2) too) 1 16) + (1 : Int32))) 1 16), (u2 (u2 (u2 (u2 v_56 1 (103 + 3 * (nC (v 1) 16)) zone) 1 (103 + 3 * (nC (v 1) 16) + 1) frm) 1 (103 + 3 * (nC (v 1) 16) + 2) too) 1 16 (((u2 (u2 (u2 v_56 1 (103 + 3 * (nC (v 1) 16)) zone) 1 (103 + 3 * (nC (v 1) 16) + 1) frm) 1 (103 + 3 * (nC (v 1) 16) + 2) too) 1 16) + (1 : Int32))))
def mf_programme (v : (Nat → Nat → Int32)) (zone : Int32) (frm : Int32) (too : Int32) : Int32 × (Nat → Nat → Int32) := (if (mf_isZone v zone) = true then (if (mf_in frm.toInt64 (0 : Int64) (1439 : Int64)) = true then (if (mf_in too.toInt64 (0 : Int64) (1439 : Int64)) = true then (if frm = too then (mf_programme_37 v zone frm too ) else (if (v 1 16) = (8 : Int32) then ((-1000003 : Int32), v) else (mf_programme_c56 v zone frm too (mf_save v )))) else (mf_programme_37 v zone frm too )) else (mf_programme_37 v zone frm too )) else (mf_programme_37 v zone frm too ))
set_option maxHeartbeats 4000000 in
set_option maxRecDepth 100000 in
theorem mt_programme (l : Launch) (G : mg) (A : Nat → Prop) (pp : Nat → Nat) (M0 : mh) (v : Nat → Nat → Int32) (zone : Int32) (frm : Int32) (too : Int32) (T np nz ng : Nat) (hI : IP T np nz ng (v 1)) (hs : rg (v 0 2) 4) : Met l yX4_programme (ws_ yX4_programme cX4_programme 5 (some .int)) ({ frames := 2, cells := 0, slots := 0, locals := 46 }) (va_Pc [.ref (pp 0), .int zone, .int frm, .int too] (mU G A (fun M => Mdl G pp M0 M v))) (mQi G A (fun r M => r = (mf_programme v zone frm too).1 ∧ Mdl G pp M0 M (mf_programme v zone frm too).2)) 0 0 A := by
  refine mx_ofi (by decide) (Nat.le_of_ble_eq_true rfl) ?_
  intro p e R s m av below meth c M H Q ls X hRf hRl hRc hRs hin hM w fin hl
  have X : CallFix p m c cX4_programme 5 s av lw_all "FieldPumpsModel" := X
  have hx := X.1
  have hb := X.2.1
  have hl : lv_has ls 5 [(0, .ref (pp 0)), (1, .int zone), (2, .int frm), (3, .int too)] := hl
  have hRf : R.frames = 2 := hRf
  have hRl : R.locals = 46 := hRl
  generalize ([] : List Loc) = locs at w ⊢
  generalize E : mf_programme v zone frm too = z at fin
  rw [mf_programme] at E
  have hb6 := hI.b
  have hcp := hI.cp
  have hcz := hI.cz
  have hcg := hI.cg
  refine lv_aload_n hx hb dX4_programme_0 rfl (lv_at hl 0 rfl) ?_
  refine lv_iload_n hx hb dX4_programme_1 rfl (lv_at hl 1 rfl) ?_
  refine mx_bi w (va_runV (As := [.int zone]) (rest := []) X (mt_isZone l G A pp M0 v zone  ) (cwV 1 X.2.2.2.2 (lw_V q2176 q2178 qs61 q113 q2179) rfl rfl rfl (by decide +kernel) ⟨by rw [hRf]; decide, by rw [hRl]; decide⟩) (mx_preV w hM hM.2.1 rfl) rfl rfl hl.1 rfl (lv_room (Nat.le_of_ble_eq_true rfl)) dX4_programme_2 ⟨Nat.zero_le _, Nat.zero_le _⟩) (fun r M H locs hp w => ?_)
  obtain ⟨rfl, hM⟩ := hp
  have J37 : ∀  (M : mh) (H : Heap) (locs : List Loc) (ls : Array Slot), mf_programme_37 v zone frm too  = z → lv_has ls 5 [] → mW G A s M H locs → Mdl G pp M0 M v → W p l e R s m av below meth c H locs 0 0 Q (F0 m 37 ls []) := by
    intro  M H locs ls  E hl w hM
    rw [mf_programme_37] at E
    refine lv_ldc (v := (-1000001 : Int32)) hx hb X.2.2.2.1 (X.2.2.2.2 _ q2073) dX4_programme_37 ?_
    exact fin (-1000001 : Int32) M H locs ls 39 dX4_programme_39 ⟨by rw [← E], by rw [← E]; exact hM⟩ w
  refine mx_beq (tgt := 37) hx hb dX4_programme_5 (by decide) (fun c_5 => ?_) (fun c_5 => ?_)
  · rw [if_neg c_5] at E
    exact J37  M H locs ls E (lv_sub hl [] rfl) w hM
  · rw [if_pos c_5] at E
    refine lv_iload_n hx hb dX4_programme_8 rfl (lv_at hl 2 rfl) ?_
    refine lv_i2l hx hb dX4_programme_9 rfl ?_
    refine lv_lconst (v := (0 : Int64)) hx hb dX4_programme_10 (by decide) ?_
    refine lv_ldc2 (v := (1439 : Int64)) hx hb X.2.2.2.1 (X.2.2.2.2 _ q2069) dX4_programme_11 ?_
    refine mx_bi w (va_runS (As := [.long frm.toInt64, .long (0 : Int64), .long (1439 : Int64)]) (rest := []) X (mt_in l G A M frm.toInt64 (0 : Int64) (1439 : Int64)  ) (va_cwS 3 X.2.2.2.2 (lw_S q2060 q2061 q113 q2062) rfl rfl rfl (by decide +kernel) ⟨by rw [hRf]; decide, by rw [hRl]; decide⟩) (mx_preS w rfl) rfl rfl hl.1 rfl (lv_room (Nat.le_of_ble_eq_true rfl)) dX4_programme_14 ⟨Nat.zero_le _, Nat.zero_le _⟩) (fun r M H locs hp w => ?_)
    obtain ⟨rfl, hp2⟩ := hp; rw [← hp2] at hM; clear hp2
    refine mx_beq (tgt := 37) hx hb dX4_programme_17 (by decide) (fun c_17 => ?_) (fun c_17 => ?_)
    · rw [if_neg c_17] at E
      exact J37  M H locs ls E (lv_sub hl [] rfl) w hM
    · rw [if_pos c_17] at E
      refine lv_iload_n hx hb dX4_programme_20 rfl (lv_at hl 3 rfl) ?_
      refine lv_i2l hx hb dX4_programme_21 rfl ?_
      refine lv_lconst (v := (0 : Int64)) hx hb dX4_programme_22 (by decide) ?_
      refine lv_ldc2 (v := (1439 : Int64)) hx hb X.2.2.2.1 (X.2.2.2.2 _ q2069) dX4_programme_23 ?_
      refine mx_bi w (va_runS (As := [.long too.toInt64, .long (0 : Int64), .long (1439 : Int64)]) (rest := []) X (mt_in l G A M too.toInt64 (0 : Int64) (1439 : Int64)  ) (va_cwS 3 X.2.2.2.2 (lw_S q2060 q2061 q113 q2062) rfl rfl rfl (by decide +kernel) ⟨by rw [hRf]; decide, by rw [hRl]; decide⟩) (mx_preS w rfl) rfl rfl hl.1 rfl (lv_room (Nat.le_of_ble_eq_true rfl)) dX4_programme_26 ⟨Nat.zero_le _, Nat.zero_le _⟩) (fun r M H locs hp w => ?_)
      obtain ⟨rfl, hp2⟩ := hp; rw [← hp2] at hM; clear hp2
      refine mx_beq (tgt := 37) hx hb dX4_programme_29 (by decide) (fun c_29 => ?_) (fun c_29 => ?_)
      · rw [if_neg c_29] at E
        exact J37  M H locs ls E (lv_sub hl [] rfl) w hM
      · rw [if_pos c_29] at E
        refine lv_iload_n hx hb dX4_programme_32 rfl (lv_at hl 2 rfl) ?_
        refine lv_iload_n hx hb dX4_programme_33 rfl (lv_at hl 3 rfl) ?_
        refine lv_icmp_ne (tgt := 40) hx hb dX4_programme_34 (by decide) (fun c_34 => ?_) (fun c_34 => ?_)
        · rw [if_neg c_34] at E
          refine lv_aload_n hx hb dX4_programme_40 rfl (lv_at hl 0 rfl) ?_
          refine mx_get (v := .ref (pp 1)) X w in_X4 (ci := 3) rfl 0 (by decide) q2011 (fun _ h => h) hM.2.1 rfl dX4_programme_41 ?_
          refine lv_bipush (v := (16 : Int32)) hx hb dX4_programme_44 (by decide) ?_
          refine md_ald X w hM 1 (by decide) (by decide) 16 rfl (show 16 < 170 by decide) dX4_programme_46 ?_
          refine lv_bipush (v := (8 : Int32)) hx hb dX4_programme_47 (by decide) ?_
          refine lv_icmp_ne (tgt := 55) hx hb dX4_programme_49 (by decide) (fun c_49 => ?_) (fun c_49 => ?_)
          · rw [if_neg c_49] at E
            have hlt := cnt_lt (m := 8) hI.eng hI.g8 c_49
            refine lv_aload_n hx hb dX4_programme_55 rfl (lv_at hl 0 rfl) ?_
            refine mx_bv w (va_runV (As := []) (rest := []) X (mt_save l G A pp M0 v   (by first | omega | assumption)) (cwV 0 X.2.2.2.2 (lw_V q2074 q2076 qs46 q113 q2077) rfl rfl rfl (by decide +kernel) ⟨by rw [hRf]; decide, by rw [hRl]; decide⟩) (mx_preV w hM hM.2.1 rfl) rfl rfl hl.1 rfl (lv_room (Nat.le_of_ble_eq_true rfl)) dX4_programme_56 ⟨Nat.zero_le _, Nat.zero_le _⟩) (fun M H locs hM w => ?_)
            rw [mf_programme_c56] at E
            obtain ⟨v_56, ev_56⟩ : ∃ y, y = (mf_save v ) := ⟨_, rfl⟩
            rw [← ev_56] at E hM
            have hs5 : v_56 1 = v 1 := by rw [ev_56]; exact save_1 v
            refine lv_bipush (v := (103 : Int32)) hx hb dX4_programme_59 (by decide) ?_
            refine lv_iconst (v := (3 : Int32)) hx hb dX4_programme_61 (by decide) ?_
            refine lv_aload_n hx hb dX4_programme_62 rfl (lv_at hl 0 rfl) ?_
            refine mx_get (v := .ref (pp 1)) X w in_X4 (ci := 3) rfl 0 (by decide) q2011 (fun _ h => h) hM.2.1 rfl dX4_programme_63 ?_
            refine lv_bipush (v := (16 : Int32)) hx hb dX4_programme_66 (by decide) ?_
            refine md_ald X w hM 1 (by decide) (by decide) 16 rfl (show 16 < 170 by decide) dX4_programme_68 ?_
            refine mx_cast (z := nI (nC (v 1) 16)) (by rw [hs5, hcg]; exact hI.eng) ?_
            refine mx_nmul (u := 3) (v := nC (v 1) 16) hx hb rfl rfl dX4_programme_69 ?_
            refine mx_nadd (u := 103) (v := 3 * (nC (v 1) 16)) hx hb rfl rfl dX4_programme_70 ?_
            refine lv_istore (lv' := [(4, .int (nI (103 + 3 * (nC (v 1) 16)))), (0, .ref (pp 0)), (1, .int zone), (2, .int frm), (3, .int too)]) hx hb dX4_programme_71 hl (by decide) rfl (fun ls hl => ?_)
            refine lv_aload_n hx hb dX4_programme_73 rfl (lv_at hl 1 rfl) ?_
            refine mx_get (v := .ref (pp 1)) X w in_X4 (ci := 3) rfl 0 (by decide) q2011 (fun _ h => h) hM.2.1 rfl dX4_programme_74 ?_
            refine lv_iload hx hb dX4_programme_77 (lv_at hl 0 rfl) ?_
            refine lv_iload_n hx hb dX4_programme_79 rfl (lv_at hl 2 rfl) ?_
            refine md_ast (x := zone) X w hM 1 (by decide) (by decide) (103 + 3 * (nC (v 1) 16)) rfl (show 103 + 3 * (nC (v 1) 16) < 170 by omega) dX4_programme_80 (fun M H locs w hM => ?_)
            refine lv_aload_n hx hb dX4_programme_81 rfl (lv_at hl 1 rfl) ?_
            refine mx_get (v := .ref (pp 1)) X w in_X4 (ci := 3) rfl 0 (by decide) q2011 (fun _ h => h) hM.2.1 rfl dX4_programme_82 ?_
            refine lv_iload hx hb dX4_programme_85 (lv_at hl 0 rfl) ?_
            refine lv_iconst (v := (1 : Int32)) hx hb dX4_programme_87 (by decide) ?_
            refine mx_nadd (u := 103 + 3 * (nC (v 1) 16)) (v := 1) hx hb rfl rfl dX4_programme_88 ?_
            refine lv_iload_n hx hb dX4_programme_89 rfl (lv_at hl 3 rfl) ?_
            refine md_ast (x := frm) X w hM 1 (by decide) (by decide) (103 + 3 * (nC (v 1) 16) + 1) rfl (show 103 + 3 * (nC (v 1) 16) + 1 < 170 by omega) dX4_programme_90 (fun M H locs w hM => ?_)
            refine lv_aload_n hx hb dX4_programme_91 rfl (lv_at hl 1 rfl) ?_
            refine mx_get (v := .ref (pp 1)) X w in_X4 (ci := 3) rfl 0 (by decide) q2011 (fun _ h => h) hM.2.1 rfl dX4_programme_92 ?_
            refine lv_iload hx hb dX4_programme_95 (lv_at hl 0 rfl) ?_
            refine lv_iconst (v := (2 : Int32)) hx hb dX4_programme_97 (by decide) ?_
            refine mx_nadd (u := 103 + 3 * (nC (v 1) 16)) (v := 2) hx hb rfl rfl dX4_programme_98 ?_
            refine lv_iload_n hx hb dX4_programme_99 rfl (lv_at hl 4 rfl) ?_
            refine md_ast (x := too) X w hM 1 (by decide) (by decide) (103 + 3 * (nC (v 1) 16) + 2) rfl (show 103 + 3 * (nC (v 1) 16) + 2 < 170 by omega) dX4_programme_100 (fun M H locs w hM => ?_)
            refine lv_aload_n hx hb dX4_programme_101 rfl (lv_at hl 1 rfl) ?_
            refine mx_get (v := .ref (pp 1)) X w in_X4 (ci := 3) rfl 0 (by decide) q2011 (fun _ h => h) hM.2.1 rfl dX4_programme_102 ?_
            refine lv_bipush (v := (16 : Int32)) hx hb dX4_programme_105 (by decide) ?_
            refine lv_dup2_11 hx hb dX4_programme_107 rfl rfl ?_
            refine md_ald X w hM 1 (by decide) (by decide) 16 rfl (show 16 < 170 by decide) dX4_programme_108 ?_
            refine lv_iconst (v := (1 : Int32)) hx hb dX4_programme_109 (by decide) ?_
            refine lv_iadd hx hb dX4_programme_110 ?_
            refine md_ast (x := (((u2 (u2 (u2 v_56 1 (103 + 3 * (nC (v 1) 16)) zone) 1 (103 + 3 * (nC (v 1) 16) + 1) frm) 1 (103 + 3 * (nC (v 1) 16) + 2) too) 1 16) + (1 : Int32))) X w hM 1 (by decide) (by decide) 16 rfl (show 16 < 170 by decide) dX4_programme_111 (fun M H locs w hM => ?_)
            refine lv_aload_n hx hb dX4_programme_112 rfl (lv_at hl 1 rfl) ?_
            refine mx_get (v := .ref (pp 1)) X w in_X4 (ci := 3) rfl 0 (by decide) q2011 (fun _ h => h) hM.2.1 rfl dX4_programme_113 ?_
            refine lv_bipush (v := (16 : Int32)) hx hb dX4_programme_116 (by decide) ?_
            refine md_ald X w hM 1 (by decide) (by decide) 16 rfl (show 16 < 170 by decide) dX4_programme_118 ?_
            exact fin ((u2 (u2 (u2 (u2 v_56 1 (103 + 3 * (nC (v 1) 16)) zone) 1 (103 + 3 * (nC (v 1) 16) + 1) frm) 1 (103 + 3 * (nC (v 1) 16) + 2) too) 1 16 (((u2 (u2 (u2 v_56 1 (103 + 3 * (nC (v 1) 16)) zone) 1 (103 + 3 * (nC (v 1) 16) + 1) frm) 1 (103 + 3 * (nC (v 1) 16) + 2) too) 1 16) + (1 : Int32))) 1 16) M H locs ls 119 dX4_programme_119 ⟨by rw [← E], by rw [← E]; exact hM⟩ w
          · rw [if_pos c_49] at E
            refine lv_ldc (v := (-1000003 : Int32)) hx hb X.2.2.2.1 (X.2.2.2.2 _ q2088) dX4_programme_52 ?_
            exact fin (-1000003 : Int32) M H locs ls 54 dX4_programme_54 ⟨by rw [← E], by rw [← E]; exact hM⟩ w
        · rw [if_pos c_34] at E
          exact J37  M H locs ls E (lv_sub hl [] rfl) w hM
def mf_zoneOf_20 (v : (Nat → Nat → Int32)) (k : Int32) (what : Int32)  : Int32 := (-1000001 : Int32)
def mf_zoneOf_105 (v : (Nat → Nat → Int32)) (k : Int32) (what : Int32) (rc_28 : Int32 → Nat → Int32) (i3_28 : Int32) (n4_28 : Nat) (is0_105 : Int32) : Int32 := is0_105
def mf_zoneOf_62 (v : (Nat → Nat → Int32)) (k : Int32) (what : Int32) (rc_28 : Int32 → Nat → Int32) (i3_28 : Int32) (n4_28 : Nat) (bs0_62 : Bool) : Int32 := ( rc_28 (i3_28 + (bI bs0_62)) (n4_28 + 1))
def mf_zoneOf_28 (v : (Nat → Nat → Int32)) (k : Int32) (what : Int32) : Nat → Int32 → Nat → Int32
  | 0, _, _ => (-1)
  | n_28 + 1, i3_28, n4_28 => (if (nC (v 1) 16) ≤ n4_28 then (if (2 : Int32) ≤ what then (if what = (2 : Int32) then (mf_zoneOf_105 v k what (mf_zoneOf_28 v k what n_28) i3_28 n4_28 (mf_takes v (tN k))) else (mf_zoneOf_105 v k what (mf_zoneOf_28 v k what n_28) i3_28 n4_28 i3_28)) else (mf_zoneOf_105 v k what (mf_zoneOf_28 v k what n_28) i3_28 n4_28 (v 1 (87 + 2 * (tN k) + (tN what))))) else (if (v 1 (103 + (3 * n4_28))) = k then (mf_zoneOf_62 v k what (mf_zoneOf_28 v k what n_28) i3_28 n4_28 true) else (mf_zoneOf_62 v k what (mf_zoneOf_28 v k what n_28) i3_28 n4_28 false)))
def mf_zoneOf (v : (Nat → Nat → Int32)) (k : Int32) (what : Int32) : Int32 := (if (mf_isZone v k) = true then (if (mf_in what.toInt64 (0 : Int64) (3 : Int64)) = true then (mf_zoneOf_28 v k what 9 (0 : Int32) 0) else (mf_zoneOf_20 v k what )) else (mf_zoneOf_20 v k what ))
set_option maxHeartbeats 4000000 in
set_option maxRecDepth 100000 in
theorem mt_zoneOf (l : Launch) (G : mg) (A : Nat → Prop) (pp : Nat → Nat) (M0 : mh) (v : Nat → Nat → Int32) (k : Int32) (what : Int32) (T np nz ng : Nat) (hI : IP T np nz ng (v 1)) : Met l yX4_zoneOf (ws_ yX4_zoneOf cX4_zoneOf 5 (some .int)) ({ frames := 2, cells := 0, slots := 0, locals := 46 }) (va_Pc [.ref (pp 0), .int k, .int what] (mU G A (fun M => Mdl G pp M0 M v))) (mQi G A (fun r M => r = mf_zoneOf v k what ∧ Mdl G pp M0 M v)) 0 0 A := by
  refine mx_ofi (by decide) (Nat.le_of_ble_eq_true rfl) ?_
  intro p e R s m av below meth c M H Q ls X hRf hRl hRc hRs hin hM w fin hl
  have X : CallFix p m c cX4_zoneOf 5 s av lw_all "FieldPumpsModel" := X
  have hx := X.1
  have hb := X.2.1
  have hl : lv_has ls 5 [(0, .ref (pp 0)), (1, .int k), (2, .int what)] := hl
  have hRf : R.frames = 2 := hRf
  have hRl : R.locals = 46 := hRl
  generalize ([] : List Loc) = locs at w ⊢
  generalize E : mf_zoneOf v k what = z at fin
  rw [mf_zoneOf] at E
  have hb6 := hI.b
  have hcp := hI.cp
  have hcz := hI.cz
  have hcg := hI.cg
  refine lv_aload_n hx hb dX4_zoneOf_0 rfl (lv_at hl 0 rfl) ?_
  refine lv_iload_n hx hb dX4_zoneOf_1 rfl (lv_at hl 1 rfl) ?_
  refine mx_bi w (va_runV (As := [.int k]) (rest := []) X (mt_isZone l G A pp M0 v k  ) (cwV 1 X.2.2.2.2 (lw_V q2176 q2178 qs61 q113 q2179) rfl rfl rfl (by decide +kernel) ⟨by rw [hRf]; decide, by rw [hRl]; decide⟩) (mx_preV w hM hM.2.1 rfl) rfl rfl hl.1 rfl (lv_room (Nat.le_of_ble_eq_true rfl)) dX4_zoneOf_2 ⟨Nat.zero_le _, Nat.zero_le _⟩) (fun r M H locs hp w => ?_)
  obtain ⟨rfl, hM⟩ := hp
  have J20 : ∀  (M : mh) (H : Heap) (locs : List Loc) (ls : Array Slot), mf_zoneOf_20 v k what  = z → lv_has ls 5 [] → mW G A s M H locs → Mdl G pp M0 M v → W p l e R s m av below meth c H locs 0 0 Q (F0 m 20 ls []) := by
    intro  M H locs ls  E hl w hM
    rw [mf_zoneOf_20] at E
    refine lv_ldc (v := (-1000001 : Int32)) hx hb X.2.2.2.1 (X.2.2.2.2 _ q2073) dX4_zoneOf_20 ?_
    exact fin (-1000001 : Int32) M H locs ls 22 dX4_zoneOf_22 ⟨E, hM⟩ w
  refine mx_beq (tgt := 20) hx hb dX4_zoneOf_5 (by decide) (fun c_5 => ?_) (fun c_5 => ?_)
  · rw [if_neg c_5] at E
    exact J20  M H locs ls E (lv_sub hl [] rfl) w hM
  · rw [if_pos c_5] at E
    obtain ⟨hk1, hk2⟩ := isZone_n hI.enz hI.z8 c_5
    refine lv_iload_n hx hb dX4_zoneOf_8 rfl (lv_at hl 2 rfl) ?_
    refine lv_i2l hx hb dX4_zoneOf_9 rfl ?_
    refine lv_lconst (v := (0 : Int64)) hx hb dX4_zoneOf_10 (by decide) ?_
    refine lv_ldc2 (v := (3 : Int64)) hx hb X.2.2.2.1 (X.2.2.2.2 _ q2200) dX4_zoneOf_11 ?_
    refine mx_bi w (va_runS (As := [.long what.toInt64, .long (0 : Int64), .long (3 : Int64)]) (rest := []) X (mt_in l G A M what.toInt64 (0 : Int64) (3 : Int64)  ) (va_cwS 3 X.2.2.2.2 (lw_S q2060 q2061 q113 q2062) rfl rfl rfl (by decide +kernel) ⟨by rw [hRf]; decide, by rw [hRl]; decide⟩) (mx_preS w rfl) rfl rfl hl.1 rfl (lv_room (Nat.le_of_ble_eq_true rfl)) dX4_zoneOf_14 ⟨Nat.zero_le _, Nat.zero_le _⟩) (fun r M H locs hp w => ?_)
    obtain ⟨rfl, hp2⟩ := hp; rw [← hp2] at hM; clear hp2
    refine mx_bne (tgt := 23) hx hb dX4_zoneOf_17 (by decide) (fun c_17 => ?_) (fun c_17 => ?_)
    · rw [if_pos c_17] at E
      obtain ⟨hw1, _, hw2⟩ := in_n (a := 0) (b := 3) (by decide) c_17
      refine lv_iconst (v := (0 : Int32)) hx hb dX4_zoneOf_23 (by decide) ?_
      refine lv_istore_n (lv' := [(3, .int (0 : Int32)), (0, .ref (pp 0)), (1, .int k), (2, .int what)]) hx hb dX4_zoneOf_24 rfl hl (by decide) rfl (fun ls hl => ?_)
      refine lv_iconst (v := (0 : Int32)) hx hb dX4_zoneOf_25 (by decide) ?_
      refine lv_istore (lv' := [(4, .int (0 : Int32)), (3, .int (0 : Int32)), (0, .ref (pp 0)), (1, .int k), (2, .int what)]) hx hb dX4_zoneOf_26 hl (by decide) rfl (fun ls hl => ?_)
      have L28 : ∀ (n_28 : Nat) (i3_28 : Int32) (n4_28 : Nat) (M : mh) (H : Heap) (locs : List Loc) (ls : Array Slot), (hi : n4_28 ≤ ng) → (hm : ng < n4_28 + n_28) → mf_zoneOf_28 v k what n_28 i3_28 n4_28 = z → lv_has ls 5 [(0, .ref (pp 0)), (1, .int k), (2, .int what), (3, .int i3_28), (4, .int (nI n4_28))] → mW G A s M H locs → Mdl G pp M0 M v → W p l e R s m av below meth c H locs 0 0 Q (F0 m 28 ls []) := by
        intro n_28
        induction n_28 with
        | zero =>
          intro i3_28 n4_28 M H locs ls hi hm E hl w hM
          exfalso; omega
        | succ n_28 ih_28 =>
          intro i3_28 n4_28 M H locs ls hi hm E hl w hM
          rw [mf_zoneOf_28] at E
          refine lv_iload hx hb dX4_zoneOf_28 (lv_at hl 4 rfl) ?_
          refine lv_aload_n hx hb dX4_zoneOf_30 rfl (lv_at hl 0 rfl) ?_
          refine mx_get (v := .ref (pp 1)) X w in_X4 (ci := 3) rfl 0 (by decide) q2011 (fun _ h => h) hM.2.1 rfl dX4_zoneOf_31 ?_
          refine lv_bipush (v := (16 : Int32)) hx hb dX4_zoneOf_34 (by decide) ?_
          refine md_ald X w hM 1 (by decide) (by decide) 16 rfl (show 16 < 170 by decide) dX4_zoneOf_36 ?_
          refine mx_cast (z := nI (nC (v 1) 16)) (by rw [hcg]; exact hI.eng) ?_
          refine mx_nge (u := n4_28) (v := (nC (v 1) 16)) (tgt := 70) hx hb rfl rfl (by omega) (by omega) dX4_zoneOf_37 (by decide) (fun c_37 => ?_) (fun c_37 => ?_)
          · rw [if_pos c_37] at E
            refine lv_iload_n hx hb dX4_zoneOf_70 rfl (lv_at hl 2 rfl) ?_
            refine lv_iconst (v := (2 : Int32)) hx hb dX4_zoneOf_71 (by decide) ?_
            have J105 : ∀ (is0_105 : Int32) (M : mh) (H : Heap) (locs : List Loc) (ls : Array Slot), mf_zoneOf_105 v k what (mf_zoneOf_28 v k what n_28) i3_28 n4_28 is0_105 = z → lv_has ls 5 [] → mW G A s M H locs → Mdl G pp M0 M v → W p l e R s m av below meth c H locs 0 0 Q (F0 m 105 ls [.int is0_105]) := by
              intro is0_105 M H locs ls  E hl w hM
              rw [mf_zoneOf_105] at E
              exact fin is0_105 M H locs ls 105 dX4_zoneOf_105 ⟨E, hM⟩ w
            refine lv_icmp_ge (tgt := 91) hx hb dX4_zoneOf_72 (by decide) (fun c_72 => ?_) (fun c_72 => ?_)
            · rw [if_pos c_72] at E
              refine lv_iload_n hx hb dX4_zoneOf_91 rfl (lv_at hl 2 rfl) ?_
              refine lv_iconst (v := (2 : Int32)) hx hb dX4_zoneOf_92 (by decide) ?_
              refine lv_icmp_ne (tgt := 104) hx hb dX4_zoneOf_93 (by decide) (fun c_93 => ?_) (fun c_93 => ?_)
              · rw [if_neg c_93] at E
                refine lv_iload_n hx hb dX4_zoneOf_104 rfl (lv_at hl 3 rfl) ?_
                exact J105 i3_28 M H locs ls E (lv_sub hl [] rfl) w hM
              · rw [if_pos c_93] at E
                refine lv_aload_n hx hb dX4_zoneOf_96 rfl (lv_at hl 0 rfl) ?_
                refine lv_iload_n hx hb dX4_zoneOf_97 rfl (lv_at hl 1 rfl) ?_
                refine mx_cast (z := nI (tN k)) (hk1) ?_
                refine mx_bi w (va_runV (As := [.int (nI (tN k))]) (rest := []) X (mt_takes l G A pp M0 v (tN k)  (by first | omega | assumption)) (cwV 1 X.2.2.2.2 (lw_V q2201 q2203 qs64 q113 q2204) rfl rfl rfl (by decide +kernel) ⟨by rw [hRf]; decide, by rw [hRl]; decide⟩) (mx_preV w hM hM.2.1 rfl) rfl rfl hl.1 rfl (lv_room (Nat.le_of_ble_eq_true rfl)) dX4_zoneOf_98 ⟨Nat.zero_le _, Nat.zero_le _⟩) (fun r M H locs hp w => ?_)
                obtain ⟨rfl, hM⟩ := hp
                refine lv_goto (tgt := 105) hx hb dX4_zoneOf_101 (by decide) ?_
                exact J105 (mf_takes v (tN k)) M H locs ls E (lv_sub hl [] rfl) w hM
            · rw [if_neg c_72] at E
              refine lv_aload_n hx hb dX4_zoneOf_75 rfl (lv_at hl 0 rfl) ?_
              refine mx_get (v := .ref (pp 1)) X w in_X4 (ci := 3) rfl 0 (by decide) q2011 (fun _ h => h) hM.2.1 rfl dX4_zoneOf_76 ?_
              refine lv_bipush (v := (87 : Int32)) hx hb dX4_zoneOf_79 (by decide) ?_
              refine lv_iconst (v := (2 : Int32)) hx hb dX4_zoneOf_81 (by decide) ?_
              refine lv_iload_n hx hb dX4_zoneOf_82 rfl (lv_at hl 1 rfl) ?_
              refine mx_cast (z := nI (tN k)) (hk1) ?_
              refine mx_nmul (u := 2) (v := tN k) hx hb rfl rfl dX4_zoneOf_83 ?_
              refine mx_nadd (u := 87) (v := 2 * (tN k)) hx hb rfl rfl dX4_zoneOf_84 ?_
              refine lv_iload_n hx hb dX4_zoneOf_85 rfl (lv_at hl 2 rfl) ?_
              refine mx_cast (z := nI (tN what)) (hw1) ?_
              refine mx_nadd (u := 87 + 2 * (tN k)) (v := tN what) hx hb rfl rfl dX4_zoneOf_86 ?_
              refine md_ald X w hM 1 (by decide) (by decide) (87 + 2 * (tN k) + (tN what)) rfl (show 87 + 2 * (tN k) + (tN what) < 170 by omega) dX4_zoneOf_87 ?_
              refine lv_goto (tgt := 105) hx hb dX4_zoneOf_88 (by decide) ?_
              exact J105 (v 1 (87 + 2 * (tN k) + (tN what))) M H locs ls E (lv_sub hl [] rfl) w hM
          · rw [if_neg c_37] at E
            refine lv_iload_n hx hb dX4_zoneOf_40 rfl (lv_at hl 3 rfl) ?_
            refine lv_aload_n hx hb dX4_zoneOf_41 rfl (lv_at hl 0 rfl) ?_
            refine mx_get (v := .ref (pp 1)) X w in_X4 (ci := 3) rfl 0 (by decide) q2011 (fun _ h => h) hM.2.1 rfl dX4_zoneOf_42 ?_
            refine lv_bipush (v := (103 : Int32)) hx hb dX4_zoneOf_45 (by decide) ?_
            refine lv_iconst (v := (3 : Int32)) hx hb dX4_zoneOf_47 (by decide) ?_
            refine lv_iload hx hb dX4_zoneOf_48 (lv_at hl 4 rfl) ?_
            refine mx_nmul (u := 3) (v := n4_28) hx hb rfl rfl dX4_zoneOf_50 ?_
            refine mx_nadd (u := 103) (v := 3 * n4_28) hx hb rfl rfl dX4_zoneOf_51 ?_
            refine md_ald X w hM 1 (by decide) (by decide) (103 + (3 * n4_28)) rfl (show 103 + (3 * n4_28) < 170 by omega) dX4_zoneOf_52 ?_
            refine lv_iload_n hx hb dX4_zoneOf_53 rfl (lv_at hl 1 rfl) ?_
            have J62 : ∀ (bs0_62 : Bool) (M : mh) (H : Heap) (locs : List Loc) (ls : Array Slot), mf_zoneOf_62 v k what (mf_zoneOf_28 v k what n_28) i3_28 n4_28 bs0_62 = z → lv_has ls 5 [(0, .ref (pp 0)), (1, .int k), (2, .int what), (4, .int (nI n4_28))] → mW G A s M H locs → Mdl G pp M0 M v → W p l e R s m av below meth c H locs 0 0 Q (F0 m 62 ls [.int (bI bs0_62), .int i3_28]) := by
              intro bs0_62 M H locs ls  E hl w hM
              rw [mf_zoneOf_62] at E
              refine lv_iadd hx hb dX4_zoneOf_62 ?_
              refine lv_istore_n (lv' := [(3, .int (i3_28 + (bI bs0_62))), (0, .ref (pp 0)), (1, .int k), (2, .int what), (4, .int (nI n4_28))]) hx hb dX4_zoneOf_63 rfl hl (by decide) rfl (fun ls hl => ?_)
              refine lv_iinc (v := (nI (n4_28 + 1))) (lv' := [(4, .int (nI (n4_28 + 1))), (3, .int (i3_28 + (bI bs0_62))), (0, .ref (pp 0)), (1, .int k), (2, .int what)]) hx hb dX4_zoneOf_64 hl (k := 4) rfl (nI_incr _ 1) (by decide) rfl (fun ls hl => ?_)
              refine lv_goto (tgt := 28) hx hb dX4_zoneOf_67 (by decide) ?_
              exact ih_28 (i3_28 + (bI bs0_62)) (n4_28 + 1) M H locs ls (by first | omega | assumption) (by first | omega | assumption) E (lv_sub hl [2, 3, 4, 1, 0] rfl) w hM
            refine lv_icmp_ne (tgt := 61) hx hb dX4_zoneOf_54 (by decide) (fun c_54 => ?_) (fun c_54 => ?_)
            · rw [if_neg c_54] at E
              refine lv_iconst (v := (0 : Int32)) hx hb dX4_zoneOf_61 (by decide) ?_
              exact J62 false M H locs ls E (lv_sub hl [0, 1, 2, 4] rfl) w hM
            · rw [if_pos c_54] at E
              refine lv_iconst (v := (1 : Int32)) hx hb dX4_zoneOf_57 (by decide) ?_
              refine lv_goto (tgt := 62) hx hb dX4_zoneOf_58 (by decide) ?_
              exact J62 true M H locs ls E (lv_sub hl [0, 1, 2, 4] rfl) w hM
      exact L28 9 (0 : Int32) 0 M H locs ls (by first | omega | assumption) (by first | omega | assumption) E (lv_sub hl [2, 3, 4, 1, 0] rfl) w hM
    · rw [if_neg c_17] at E
      exact J20  M H locs ls E (lv_sub hl [] rfl) w hM
def mf_resets_54 (v : (Nat → Nat → Int32)) (v_54 : (Nat → Nat → Int32)) : (Int32 × (Nat → Nat → Int32)) := ((v 1 6), v_54)
def mf_resets_c51 (v : (Nat → Nat → Int32)) (v_51 : (Nat → Nat → Int32)) : (Int32 × (Nat → Nat → Int32)) := (mf_resets_54 v v_51)
def mf_resets (v : (Nat → Nat → Int32)) : Int32 × (Nat → Nat → Int32) := (if ((u2 v 1 6 (0 : Int32)) 1 5) = (1 : Int32) then (if ((u2 v 1 6 (0 : Int32)) 1 2) < (mf_setting (u2 v 1 6 (0 : Int32)) 12) then (mf_resets_54 v (u2 v 1 6 (0 : Int32))) else (mf_resets_c51 v (mf_event (u2 (u2 v 1 6 (0 : Int32)) 1 5 (0 : Int32)) (5 : Int32) (-1 : Int32)))) else (mf_resets_54 v (u2 v 1 6 (0 : Int32))))
set_option maxHeartbeats 4000000 in
set_option maxRecDepth 100000 in
theorem mt_resets (l : Launch) (G : mg) (A : Nat → Prop) (pp : Nat → Nat) (M0 : mh) (v : Nat → Nat → Int32)   : Met l yX4_resets (ws_ yX4_resets cX4_resets 2 (some .int)) ({ frames := 1, cells := 0, slots := 0, locals := 23 }) (va_Pc [.ref (pp 0)] (mU G A (fun M => Mdl G pp M0 M v))) (mQi G A (fun r M => r = (mf_resets v).1 ∧ Mdl G pp M0 M (mf_resets v).2)) 0 0 A := by
  refine mx_ofi (by decide) (Nat.le_of_ble_eq_true rfl) ?_
  intro p e R s m av below meth c M H Q ls X hRf hRl hRc hRs hin hM w fin hl
  have X : CallFix p m c cX4_resets 2 s av lw_all "FieldPumpsModel" := X
  have hx := X.1
  have hb := X.2.1
  have hl : lv_has ls 2 [(0, .ref (pp 0))] := hl
  have hRf : R.frames = 1 := hRf
  have hRl : R.locals = 23 := hRl
  generalize ([] : List Loc) = locs at w ⊢
  generalize E : mf_resets v = z at fin
  rw [mf_resets] at E
  refine lv_aload_n hx hb dX4_resets_0 rfl (lv_at hl 0 rfl) ?_
  refine mx_get (v := .ref (pp 1)) X w in_X4 (ci := 3) rfl 0 (by decide) q2011 (fun _ h => h) hM.2.1 rfl dX4_resets_1 ?_
  refine lv_bipush (v := (6 : Int32)) hx hb dX4_resets_4 (by decide) ?_
  refine md_ald X w hM 1 (by decide) (by decide) 6 rfl (show 6 < 170 by decide) dX4_resets_6 ?_
  refine lv_istore_n (lv' := [(1, .int (v 1 6)), (0, .ref (pp 0))]) hx hb dX4_resets_7 rfl hl (by decide) rfl (fun ls hl => ?_)
  refine lv_aload_n hx hb dX4_resets_8 rfl (lv_at hl 1 rfl) ?_
  refine mx_get (v := .ref (pp 1)) X w in_X4 (ci := 3) rfl 0 (by decide) q2011 (fun _ h => h) hM.2.1 rfl dX4_resets_9 ?_
  refine lv_bipush (v := (6 : Int32)) hx hb dX4_resets_12 (by decide) ?_
  refine lv_iconst (v := (0 : Int32)) hx hb dX4_resets_14 (by decide) ?_
  refine md_ast (x := (0 : Int32)) X w hM 1 (by decide) (by decide) 6 rfl (show 6 < 170 by decide) dX4_resets_15 (fun M H locs w hM => ?_)
  refine lv_aload_n hx hb dX4_resets_16 rfl (lv_at hl 1 rfl) ?_
  refine mx_get (v := .ref (pp 1)) X w in_X4 (ci := 3) rfl 0 (by decide) q2011 (fun _ h => h) hM.2.1 rfl dX4_resets_17 ?_
  refine lv_iconst (v := (5 : Int32)) hx hb dX4_resets_20 (by decide) ?_
  refine md_ald X w hM 1 (by decide) (by decide) 5 rfl (show 5 < 170 by decide) dX4_resets_21 ?_
  refine lv_iconst (v := (1 : Int32)) hx hb dX4_resets_22 (by decide) ?_
  have J54 : ∀ (v_54 : (Nat → Nat → Int32)) (M : mh) (H : Heap) (locs : List Loc) (ls : Array Slot), mf_resets_54 v v_54 = z → lv_has ls 2 [(1, .int (v 1 6))] → mW G A s M H locs → Mdl G pp M0 M v_54 → W p l e R s m av below meth c H locs 0 0 Q (F0 m 54 ls []) := by
    intro v_54 M H locs ls  E hl w hM
    rw [mf_resets_54] at E
    refine lv_iload_n hx hb dX4_resets_54 rfl (lv_at hl 0 rfl) ?_
    exact fin (v 1 6) M H locs ls 55 dX4_resets_55 ⟨by rw [← E], by rw [← E]; exact hM⟩ w
  refine lv_icmp_ne (tgt := 54) hx hb dX4_resets_23 (by decide) (fun c_23 => ?_) (fun c_23 => ?_)
  · rw [if_neg c_23] at E
    exact J54 (u2 v 1 6 (0 : Int32)) M H locs ls E (lv_sub hl [0] rfl) w hM
  · rw [if_pos c_23] at E
    refine lv_aload_n hx hb dX4_resets_26 rfl (lv_at hl 1 rfl) ?_
    refine mx_get (v := .ref (pp 1)) X w in_X4 (ci := 3) rfl 0 (by decide) q2011 (fun _ h => h) hM.2.1 rfl dX4_resets_27 ?_
    refine lv_iconst (v := (2 : Int32)) hx hb dX4_resets_30 (by decide) ?_
    refine md_ald X w hM 1 (by decide) (by decide) 2 rfl (show 2 < 170 by decide) dX4_resets_31 ?_
    refine lv_aload_n hx hb dX4_resets_32 rfl (lv_at hl 1 rfl) ?_
    refine lv_bipush (v := (12 : Int32)) hx hb dX4_resets_33 (by decide) ?_
    refine mx_bi w (va_runV (As := [.int (nI 12)]) (rest := [.int ((u2 v 1 6 (0 : Int32)) 1 2)]) X (mt_setting l G A pp M0 (u2 v 1 6 (0 : Int32)) 12  (by first | omega | assumption)) (cwV 1 X.2.2.2.2 (lw_V q2078 q2080 qs47 q113 q2081) rfl rfl rfl (by decide +kernel) ⟨by rw [hRf]; decide, by rw [hRl]; decide⟩) (mx_preV w hM hM.2.1 rfl) rfl rfl hl.1 rfl (lv_room (Nat.le_of_ble_eq_true rfl)) dX4_resets_35 ⟨Nat.zero_le _, Nat.zero_le _⟩) (fun r M H locs hp w => ?_)
    obtain ⟨rfl, hM⟩ := hp
    refine lv_icmp_lt (tgt := 54) hx hb dX4_resets_38 (by decide) (fun c_38 => ?_) (fun c_38 => ?_)
    · rw [if_pos c_38] at E
      exact J54 (u2 v 1 6 (0 : Int32)) M H locs ls E (lv_sub hl [0] rfl) w hM
    · rw [if_neg c_38] at E
      refine lv_aload_n hx hb dX4_resets_41 rfl (lv_at hl 1 rfl) ?_
      refine mx_get (v := .ref (pp 1)) X w in_X4 (ci := 3) rfl 0 (by decide) q2011 (fun _ h => h) hM.2.1 rfl dX4_resets_42 ?_
      refine lv_iconst (v := (5 : Int32)) hx hb dX4_resets_45 (by decide) ?_
      refine lv_iconst (v := (0 : Int32)) hx hb dX4_resets_46 (by decide) ?_
      refine md_ast (x := (0 : Int32)) X w hM 1 (by decide) (by decide) 5 rfl (show 5 < 170 by decide) dX4_resets_47 (fun M H locs w hM => ?_)
      refine lv_aload_n hx hb dX4_resets_48 rfl (lv_at hl 1 rfl) ?_
      refine lv_iconst (v := (5 : Int32)) hx hb dX4_resets_49 (by decide) ?_
      refine lv_iconst (v := (-1 : Int32)) hx hb dX4_resets_50 (by decide) ?_
      refine mx_bv w (va_runV (As := [.int (5 : Int32), .int (-1 : Int32)]) (rest := []) X (mt_event l G A pp M0 (u2 (u2 v 1 6 (0 : Int32)) 1 5 (0 : Int32)) (5 : Int32) (-1 : Int32)  ) (cwV 2 X.2.2.2.2 (lw_V q2122 q2124 qs55 q113 q2125) rfl rfl rfl (by decide +kernel) ⟨by rw [hRf]; decide, by rw [hRl]; decide⟩) (mx_preV w hM hM.2.1 rfl) rfl rfl hl.1 rfl (lv_room (Nat.le_of_ble_eq_true rfl)) dX4_resets_51 ⟨Nat.zero_le _, Nat.zero_le _⟩) (fun M H locs hM w => ?_)
      rw [mf_resets_c51] at E
      obtain ⟨v_51, ev_51⟩ : ∃ y, y = (mf_event (u2 (u2 v 1 6 (0 : Int32)) 1 5 (0 : Int32)) (5 : Int32) (-1 : Int32)) := ⟨_, rfl⟩
      rw [← ev_51] at E hM
      exact J54 v_51 M H locs ls E (lv_sub hl [0] rfl) w hM
def mf_reset_c18 (v : (Nat → Nat → Int32)) (v_14 : (Nat → Nat → Int32)) (v_18 : (Nat → Nat → Int32)) (r_18 : Int32) : (Int32 × (Nat → Nat → Int32)) := (r_18, v_18)
def mf_reset_c14 (v : (Nat → Nat → Int32)) (v_14 : (Nat → Nat → Int32)) : (Int32 × (Nat → Nat → Int32)) := (mf_reset_c18 v v_14 ((mf_resets v_14 ).2) ((mf_resets v_14 ).1))
def mf_reset (v : (Nat → Nat → Int32)) : Int32 × (Nat → Nat → Int32) := (if (v 1 6) = 0 then ((-1000002 : Int32), v) else (mf_reset_c14 v (mf_save v )))
set_option maxHeartbeats 4000000 in
set_option maxRecDepth 100000 in
theorem mt_reset (l : Launch) (G : mg) (A : Nat → Prop) (pp : Nat → Nat) (M0 : mh) (v : Nat → Nat → Int32)  (hs : rg (v 0 2) 4) : Met l yX4_reset (ws_ yX4_reset cX4_reset 1 (some .int)) ({ frames := 2, cells := 0, slots := 0, locals := 44 }) (va_Pc [.ref (pp 0)] (mU G A (fun M => Mdl G pp M0 M v))) (mQi G A (fun r M => r = (mf_reset v).1 ∧ Mdl G pp M0 M (mf_reset v).2)) 0 0 A := by
  refine mx_ofi (by decide) (Nat.le_of_ble_eq_true rfl) ?_
  intro p e R s m av below meth c M H Q ls X hRf hRl hRc hRs hin hM w fin hl
  have X : CallFix p m c cX4_reset 1 s av lw_all "FieldPumpsModel" := X
  have hx := X.1
  have hb := X.2.1
  have hl : lv_has ls 1 [(0, .ref (pp 0))] := hl
  have hRf : R.frames = 2 := hRf
  have hRl : R.locals = 44 := hRl
  generalize ([] : List Loc) = locs at w ⊢
  generalize E : mf_reset v = z at fin
  rw [mf_reset] at E
  refine lv_aload_n hx hb dX4_reset_0 rfl (lv_at hl 0 rfl) ?_
  refine mx_get (v := .ref (pp 1)) X w in_X4 (ci := 3) rfl 0 (by decide) q2011 (fun _ h => h) hM.2.1 rfl dX4_reset_1 ?_
  refine lv_bipush (v := (6 : Int32)) hx hb dX4_reset_4 (by decide) ?_
  refine md_ald X w hM 1 (by decide) (by decide) 6 rfl (show 6 < 170 by decide) dX4_reset_6 ?_
  refine lv_if_ne (tgt := 13) hx hb dX4_reset_7 (by decide) (fun c_7 => ?_) (fun c_7 => ?_)
  · rw [if_neg c_7] at E
    refine lv_aload_n hx hb dX4_reset_13 rfl (lv_at hl 0 rfl) ?_
    refine mx_bv w (va_runV (As := []) (rest := []) X (mt_save l G A pp M0 v   (by first | omega | assumption)) (cwV 0 X.2.2.2.2 (lw_V q2074 q2076 qs46 q113 q2077) rfl rfl rfl (by decide +kernel) ⟨by rw [hRf]; decide, by rw [hRl]; decide⟩) (mx_preV w hM hM.2.1 rfl) rfl rfl hl.1 rfl (lv_room (Nat.le_of_ble_eq_true rfl)) dX4_reset_14 ⟨Nat.zero_le _, Nat.zero_le _⟩) (fun M H locs hM w => ?_)
    rw [mf_reset_c14] at E
    obtain ⟨v_14, ev_14⟩ : ∃ y, y = (mf_save v ) := ⟨_, rfl⟩
    rw [← ev_14] at E hM
    refine lv_aload_n hx hb dX4_reset_17 rfl (lv_at hl 0 rfl) ?_
    refine mx_bi w (va_runV (As := []) (rest := []) X (mt_resets l G A pp M0 v_14   ) (cwV 0 X.2.2.2.2 (lw_V q2214 q2216 qs65 q113 q2217) rfl rfl rfl (by decide +kernel) ⟨by rw [hRf]; decide, by rw [hRl]; decide⟩) (mx_preV w hM hM.2.1 rfl) rfl rfl hl.1 rfl (lv_room (Nat.le_of_ble_eq_true rfl)) dX4_reset_18 ⟨Nat.zero_le _, Nat.zero_le _⟩) (fun r M H locs hp w => ?_)
    obtain ⟨rfl, hM⟩ := hp
    rw [mf_reset_c18] at E
    obtain ⟨v_18, ev_18⟩ : ∃ y, y = (mf_resets v_14 ).2 := ⟨_, rfl⟩
    obtain ⟨r_18, er_18⟩ : ∃ y, y = (mf_resets v_14 ).1 := ⟨_, rfl⟩
    rw [← ev_18] at E hM; (try rw [← er_18] at E); rw [← er_18]
    exact fin r_18 M H locs ls 21 dX4_reset_21 ⟨by rw [← E], by rw [← E]; exact hM⟩ w
  · rw [if_pos c_7] at E
    refine lv_ldc (v := (-1000002 : Int32)) hx hb X.2.2.2.1 (X.2.2.2.2 _ q2105) dX4_reset_10 ?_
    exact fin (-1000002 : Int32) M H locs ls 12 dX4_reset_12 ⟨by rw [← E], by rw [← E]; exact hM⟩ w
def mf_passFault_37 (v : (Nat → Nat → Int32)) (mins : Int32) (is0_37 : Int32) : Int32 := is0_37
def mf_passFault (v : (Nat → Nat → Int32)) (mins : Int32) : Int32 := (if (mf_in mins.toInt64 (1 : Int64) (240 : Int64)) = true then (if ((v 1 0) + mins) ≤ (20000 : Int32) then (mf_passFault_37 v mins (0 : Int32)) else (mf_passFault_37 v mins (-1000003 : Int32))) else (mf_passFault_37 v mins (-1000001 : Int32)))
set_option maxHeartbeats 4000000 in
set_option maxRecDepth 100000 in
theorem mt_passFault (l : Launch) (G : mg) (A : Nat → Prop) (pp : Nat → Nat) (M0 : mh) (v : Nat → Nat → Int32) (mins : Int32)  : Met l yX4_passFault (ws_ yX4_passFault cX4_passFault 2 (some .int)) ({ frames := 1, cells := 0, slots := 0, locals := 25 }) (va_Pc [.ref (pp 0), .int mins] (mU G A (fun M => Mdl G pp M0 M v))) (mQi G A (fun r M => r = mf_passFault v mins ∧ Mdl G pp M0 M v)) 0 0 A := by
  refine mx_ofi (by decide) (Nat.le_of_ble_eq_true rfl) ?_
  intro p e R s m av below meth c M H Q ls X hRf hRl hRc hRs hin hM w fin hl
  have X : CallFix p m c cX4_passFault 2 s av lw_all "FieldPumpsModel" := X
  have hx := X.1
  have hb := X.2.1
  have hl : lv_has ls 2 [(0, .ref (pp 0)), (1, .int mins)] := hl
  have hRf : R.frames = 1 := hRf
  have hRl : R.locals = 25 := hRl
  generalize ([] : List Loc) = locs at w ⊢
  generalize E : mf_passFault v mins = z at fin
  rw [mf_passFault] at E
  refine lv_iload_n hx hb dX4_passFault_0 rfl (lv_at hl 1 rfl) ?_
  refine lv_i2l hx hb dX4_passFault_1 rfl ?_
  refine lv_lconst (v := (1 : Int64)) hx hb dX4_passFault_2 (by decide) ?_
  refine lv_ldc2 (v := (240 : Int64)) hx hb X.2.2.2.1 (X.2.2.2.2 _ q2226) dX4_passFault_3 ?_
  refine mx_bi w (va_runS (As := [.long mins.toInt64, .long (1 : Int64), .long (240 : Int64)]) (rest := []) X (mt_in l G A M mins.toInt64 (1 : Int64) (240 : Int64)  ) (va_cwS 3 X.2.2.2.2 (lw_S q2060 q2061 q113 q2062) rfl rfl rfl (by decide +kernel) ⟨by rw [hRf]; decide, by rw [hRl]; decide⟩) (mx_preS w rfl) rfl rfl hl.1 rfl (lv_room (Nat.le_of_ble_eq_true rfl)) dX4_passFault_6 ⟨Nat.zero_le _, Nat.zero_le _⟩) (fun r M H locs hp w => ?_)
  obtain ⟨rfl, hp2⟩ := hp; rw [← hp2] at hM; clear hp2
  have J37 : ∀ (is0_37 : Int32) (M : mh) (H : Heap) (locs : List Loc) (ls : Array Slot), mf_passFault_37 v mins is0_37 = z → lv_has ls 2 [] → mW G A s M H locs → Mdl G pp M0 M v → W p l e R s m av below meth c H locs 0 0 Q (F0 m 37 ls [.int is0_37]) := by
    intro is0_37 M H locs ls  E hl w hM
    rw [mf_passFault_37] at E
    exact fin is0_37 M H locs ls 37 dX4_passFault_37 ⟨E, hM⟩ w
  refine mx_bne (tgt := 17) hx hb dX4_passFault_9 (by decide) (fun c_9 => ?_) (fun c_9 => ?_)
  · rw [if_pos c_9] at E
    refine lv_aload_n hx hb dX4_passFault_17 rfl (lv_at hl 0 rfl) ?_
    refine mx_get (v := .ref (pp 1)) X w in_X4 (ci := 3) rfl 0 (by decide) q2011 (fun _ h => h) hM.2.1 rfl dX4_passFault_18 ?_
    refine lv_iconst (v := (0 : Int32)) hx hb dX4_passFault_21 (by decide) ?_
    refine md_ald X w hM 1 (by decide) (by decide) 0 rfl (show 0 < 170 by decide) dX4_passFault_22 ?_
    refine lv_iload_n hx hb dX4_passFault_23 rfl (lv_at hl 1 rfl) ?_
    refine lv_iadd hx hb dX4_passFault_24 ?_
    refine lv_sipush (v := (20000 : Int32)) hx hb dX4_passFault_25 (by decide) ?_
    refine lv_icmp_le (tgt := 36) hx hb dX4_passFault_28 (by decide) (fun c_28 => ?_) (fun c_28 => ?_)
    · rw [if_pos c_28] at E
      refine lv_iconst (v := (0 : Int32)) hx hb dX4_passFault_36 (by decide) ?_
      exact J37 (0 : Int32) M H locs ls E (lv_sub hl [] rfl) w hM
    · rw [if_neg c_28] at E
      refine lv_ldc (v := (-1000003 : Int32)) hx hb X.2.2.2.1 (X.2.2.2.2 _ q2088) dX4_passFault_31 ?_
      refine lv_goto (tgt := 37) hx hb dX4_passFault_33 (by decide) ?_
      exact J37 (-1000003 : Int32) M H locs ls E (lv_sub hl [] rfl) w hM
  · rw [if_neg c_9] at E
    refine lv_ldc (v := (-1000001 : Int32)) hx hb X.2.2.2.1 (X.2.2.2.2 _ q2073) dX4_passFault_12 ?_
    refine lv_goto (tgt := 37) hx hb dX4_passFault_14 (by decide) ?_
    exact J37 (-1000001 : Int32) M H locs ls E (lv_sub hl [] rfl) w hM
theorem passFault_n {v : Nat → Nat → Int32} {mins : Int32} (h : mf_passFault v mins = 0) : mins = nI (tN mins) ∧ 1 ≤ tN mins ∧ tN mins ≤ 240 := by
  rw [mf_passFault] at h
  by_cases c : mf_in mins.toInt64 1 240 = true
  · exact in_n (a := 1) (b := 240) (by decide) c
  · rw [if_neg c, mf_passFault_37] at h
    exact absurd h (by decide)
def mf_pass_c18 (v : (Nat → Nat → Int32)) (mins : Int32) (v_13 : (Nat → Nat → Int32)) (v_18 : (Nat → Nat → Int32)) : (Int32 × (Nat → Nat → Int32)) := ((v_18 1 0), v_18)
def mf_pass_c13 (v : (Nat → Nat → Int32)) (mins : Int32) (v_13 : (Nat → Nat → Int32)) : (Int32 × (Nat → Nat → Int32)) := (mf_pass_c18 v mins v_13 (mf_minutes v_13 (tN mins)))
def mf_pass (v : (Nat → Nat → Int32)) (mins : Int32) : Int32 × (Nat → Nat → Int32) := (if (mf_passFault v mins) = 0 then (mf_pass_c13 v mins (mf_save v )) else ((mf_passFault v mins), v))
set_option maxHeartbeats 4000000 in
set_option maxRecDepth 100000 in
theorem mt_pass (l : Launch) (G : mg) (A : Nat → Prop) (pp : Nat → Nat) (M0 : mh) (v : Nat → Nat → Int32) (mins : Int32) (T np nz ng : Nat) (hI : IP T np nz ng (v 1)) (hs : rg (v 0 2) 4) (hT : T ≤ 20000) : Met l yX4_pass (ws_ yX4_pass cX4_pass 3 (some .int)) ({ frames := 8, cells := 0, slots := 0, locals := 175 }) (va_Pc [.ref (pp 0), .int mins] (mU G A (fun M => Mdl G pp M0 M v))) (mQi G A (fun r M => r = (mf_pass v mins).1 ∧ Mdl G pp M0 M (mf_pass v mins).2)) 0 0 A := by
  refine mx_ofi (by decide) (Nat.le_of_ble_eq_true rfl) ?_
  intro p e R s m av below meth c M H Q ls X hRf hRl hRc hRs hin hM w fin hl
  have X : CallFix p m c cX4_pass 3 s av lw_all "FieldPumpsModel" := X
  have hx := X.1
  have hb := X.2.1
  have hl : lv_has ls 3 [(0, .ref (pp 0)), (1, .int mins)] := hl
  have hRf : R.frames = 8 := hRf
  have hRl : R.locals = 175 := hRl
  generalize ([] : List Loc) = locs at w ⊢
  generalize E : mf_pass v mins = z at fin
  rw [mf_pass] at E
  have hb6 := hI.b
  have hcp := hI.cp
  have hcz := hI.cz
  have hcg := hI.cg
  refine lv_aload_n hx hb dX4_pass_0 rfl (lv_at hl 0 rfl) ?_
  refine lv_iload_n hx hb dX4_pass_1 rfl (lv_at hl 1 rfl) ?_
  refine mx_bi w (va_runV (As := [.int mins]) (rest := []) X (mt_passFault l G A pp M0 v mins  ) (cwV 1 X.2.2.2.2 (lw_V q2222 q2224 qs66 q113 q2225) rfl rfl rfl (by decide +kernel) ⟨by rw [hRf]; decide, by rw [hRl]; decide⟩) (mx_preV w hM hM.2.1 rfl) rfl rfl hl.1 rfl (lv_room (Nat.le_of_ble_eq_true rfl)) dX4_pass_2 ⟨Nat.zero_le _, Nat.zero_le _⟩) (fun r M H locs hp w => ?_)
  obtain ⟨rfl, hM⟩ := hp
  refine lv_istore_n (lv' := [(2, .int (mf_passFault v mins)), (0, .ref (pp 0)), (1, .int mins)]) hx hb dX4_pass_5 rfl hl (by decide) rfl (fun ls hl => ?_)
  refine lv_iload_n hx hb dX4_pass_6 rfl (lv_at hl 0 rfl) ?_
  refine lv_if_eq (tgt := 12) hx hb dX4_pass_7 (by decide) (fun c_7 => ?_) (fun c_7 => ?_)
  · rw [if_pos c_7] at E
    obtain ⟨hm1, _, hm2⟩ := passFault_n c_7
    refine lv_aload_n hx hb dX4_pass_12 rfl (lv_at hl 1 rfl) ?_
    refine mx_bv w (va_runV (As := []) (rest := []) X (mt_save l G A pp M0 v   (by first | omega | assumption)) (cwV 0 X.2.2.2.2 (lw_V q2074 q2076 qs46 q113 q2077) rfl rfl rfl (by decide +kernel) ⟨by rw [hRf]; decide, by rw [hRl]; decide⟩) (mx_preV w hM hM.2.1 rfl) rfl rfl hl.1 rfl (lv_room (Nat.le_of_ble_eq_true rfl)) dX4_pass_13 ⟨Nat.zero_le _, Nat.zero_le _⟩) (fun M H locs hM w => ?_)
    rw [mf_pass_c13] at E
    obtain ⟨v_13, ev_13⟩ : ∃ y, y = (mf_save v ) := ⟨_, rfl⟩
    rw [← ev_13] at E hM
    have hs1 : v_13 1 = v 1 := by rw [ev_13]; exact save_1 v
    refine lv_aload_n hx hb dX4_pass_16 rfl (lv_at hl 1 rfl) ?_
    refine lv_iload_n hx hb dX4_pass_17 rfl (lv_at hl 2 rfl) ?_
    refine mx_cast (z := nI (tN mins)) (hm1) ?_
    refine mx_bv w (va_runV (As := [.int (nI (tN mins))]) (rest := []) X (mt_minutes l G A pp M0 v_13 (tN mins) T np nz ng (by rw [hs1]; exact hI) (by omega)) (cwV 1 X.2.2.2.2 (lw_V q2227 q2229 qs67 q113 q2230) rfl rfl rfl (by decide +kernel) ⟨by rw [hRf]; decide, by rw [hRl]; decide⟩) (mx_preV w hM hM.2.1 rfl) rfl rfl hl.1 rfl (lv_room (Nat.le_of_ble_eq_true rfl)) dX4_pass_18 ⟨Nat.zero_le _, Nat.zero_le _⟩) (fun M H locs hM w => ?_)
    rw [mf_pass_c18] at E
    obtain ⟨v_18, ev_18⟩ : ∃ y, y = (mf_minutes v_13 (tN mins)) := ⟨_, rfl⟩
    rw [← ev_18] at E hM
    refine lv_aload_n hx hb dX4_pass_21 rfl (lv_at hl 1 rfl) ?_
    refine mx_get (v := .ref (pp 1)) X w in_X4 (ci := 3) rfl 0 (by decide) q2011 (fun _ h => h) hM.2.1 rfl dX4_pass_22 ?_
    refine lv_iconst (v := (0 : Int32)) hx hb dX4_pass_25 (by decide) ?_
    refine md_ald X w hM 1 (by decide) (by decide) 0 rfl (show 0 < 170 by decide) dX4_pass_26 ?_
    exact fin (v_18 1 0) M H locs ls 27 dX4_pass_27 ⟨by rw [← E], by rw [← E]; exact hM⟩ w
  · rw [if_neg c_7] at E
    refine lv_iload_n hx hb dX4_pass_10 rfl (lv_at hl 0 rfl) ?_
    exact fin (mf_passFault v mins) M H locs ls 11 dX4_pass_11 ⟨by rw [← E], by rw [← E]; exact hM⟩ w
def mf_foresee_24 (v : (Nat → Nat → Int32)) (mins : Int32) (what : Int32)  : (Int32 × (Nat → Nat → Int32)) := ((-1000001 : Int32), v)
def mf_foresee_100 (v : (Nat → Nat → Int32)) (mins : Int32) (what : Int32) (v_28 : (Nat → Nat → Int32)) (v_33 : (Nat → Nat → Int32)) (is0_79 : Int32) (v_81 : (Nat → Nat → Int32)) (is0_100 : Int32) : (Int32 × (Nat → Nat → Int32)) := (is0_100, v_81)
def mf_foresee_99 (v : (Nat → Nat → Int32)) (mins : Int32) (what : Int32) (v_28 : (Nat → Nat → Int32)) (v_33 : (Nat → Nat → Int32)) (is0_79 : Int32) (v_81 : (Nat → Nat → Int32))  : (Int32 × (Nat → Nat → Int32)) := (mf_foresee_100 v mins what v_28 v_33 is0_79 v_81 is0_79)
def mf_foresee_c81 (v : (Nat → Nat → Int32)) (mins : Int32) (what : Int32) (v_28 : (Nat → Nat → Int32)) (v_33 : (Nat → Nat → Int32)) (is0_79 : Int32) (v_81 : (Nat → Nat → Int32)) : (Int32 × (Nat → Nat → Int32)) := (if what = (3 : Int32) then (if is0_79 = (-1 : Int32) then (mf_foresee_100 v mins what v_28 v_33 is0_79 v_81 (-1000004 : Int32)) else (mf_foresee_99 v mins what v_28 v_33 is0_79 v_81 )) else (mf_foresee_99 v mins what v_28 v_33 is0_79 v_81 ))
def mf_foresee_79 (v : (Nat → Nat → Int32)) (mins : Int32) (what : Int32) (v_28 : (Nat → Nat → Int32)) (v_33 : (Nat → Nat → Int32)) (is0_79 : Int32) : (Int32 × (Nat → Nat → Int32)) := (mf_foresee_c81 v mins what v_28 v_33 is0_79 (mf_takeBack v_33 ))
def mf_foresee_78 (v : (Nat → Nat → Int32)) (mins : Int32) (what : Int32) (v_28 : (Nat → Nat → Int32)) (v_33 : (Nat → Nat → Int32)) (ns0_78 : Nat) : (Int32 × (Nat → Nat → Int32)) := (mf_foresee_79 v mins what v_28 v_33 (v_33 1 ns0_78))
def mf_foresee_c33 (v : (Nat → Nat → Int32)) (mins : Int32) (what : Int32) (v_28 : (Nat → Nat → Int32)) (v_33 : (Nat → Nat → Int32)) : (Int32 × (Nat → Nat → Int32)) := (if what = (2 : Int32) then (mf_foresee_79 v mins what v_28 v_33 (mf_running v_33 )) else (if what = (3 : Int32) then (mf_foresee_79 v mins what v_28 v_33 (v_33 1 4)) else (if what = (4 : Int32) then (mf_foresee_78 v mins what v_28 v_33 3) else (mf_foresee_78 v mins what v_28 v_33 (1 + (tN what))))))
def mf_foresee_c28 (v : (Nat → Nat → Int32)) (mins : Int32) (what : Int32) (v_28 : (Nat → Nat → Int32)) : (Int32 × (Nat → Nat → Int32)) := (mf_foresee_c33 v mins what v_28 (mf_minutes v_28 (tN mins)))
def mf_foresee (v : (Nat → Nat → Int32)) (mins : Int32) (what : Int32) : Int32 × (Nat → Nat → Int32) := (if (mf_in mins.toInt64 (1 : Int64) (1440 : Int64)) = true then (if (mf_in what.toInt64 (0 : Int64) (4 : Int64)) = true then (mf_foresee_c28 v mins what (mf_layAside v )) else (mf_foresee_24 v mins what )) else (mf_foresee_24 v mins what ))
set_option maxHeartbeats 4000000 in
set_option maxRecDepth 100000 in
theorem mt_foresee (l : Launch) (G : mg) (A : Nat → Prop) (pp : Nat → Nat) (M0 : mh) (v : Nat → Nat → Int32) (mins : Int32) (what : Int32) (T np nz ng : Nat) (hI : IP T np nz ng (v 1)) (hT : T ≤ 20000) : Met l yX4_foresee (ws_ yX4_foresee cX4_foresee 4 (some .int)) ({ frames := 8, cells := 0, slots := 0, locals := 175 }) (va_Pc [.ref (pp 0), .int mins, .int what] (mU G A (fun M => Mdl G pp M0 M v))) (mQi G A (fun r M => r = (mf_foresee v mins what).1 ∧ Mdl G pp M0 M (mf_foresee v mins what).2)) 0 0 A := by
  refine mx_ofi (by decide) (Nat.le_of_ble_eq_true rfl) ?_
  intro p e R s m av below meth c M H Q ls X hRf hRl hRc hRs hin hM w fin hl
  have X : CallFix p m c cX4_foresee 4 s av lw_all "FieldPumpsModel" := X
  have hx := X.1
  have hb := X.2.1
  have hl : lv_has ls 4 [(0, .ref (pp 0)), (1, .int mins), (2, .int what)] := hl
  have hRf : R.frames = 8 := hRf
  have hRl : R.locals = 175 := hRl
  generalize ([] : List Loc) = locs at w ⊢
  generalize E : mf_foresee v mins what = z at fin
  rw [mf_foresee] at E
  have hb6 := hI.b
  have hcp := hI.cp
  have hcz := hI.cz
  have hcg := hI.cg
  refine lv_iload_n hx hb dX4_foresee_0 rfl (lv_at hl 1 rfl) ?_
  refine lv_i2l hx hb dX4_foresee_1 rfl ?_
  refine lv_lconst (v := (1 : Int64)) hx hb dX4_foresee_2 (by decide) ?_
  refine lv_ldc2 (v := (1440 : Int64)) hx hb X.2.2.2.1 (X.2.2.2.2 _ q2072) dX4_foresee_3 ?_
  refine mx_bi w (va_runS (As := [.long mins.toInt64, .long (1 : Int64), .long (1440 : Int64)]) (rest := []) X (mt_in l G A M mins.toInt64 (1 : Int64) (1440 : Int64)  ) (va_cwS 3 X.2.2.2.2 (lw_S q2060 q2061 q113 q2062) rfl rfl rfl (by decide +kernel) ⟨by rw [hRf]; decide, by rw [hRl]; decide⟩) (mx_preS w rfl) rfl rfl hl.1 rfl (lv_room (Nat.le_of_ble_eq_true rfl)) dX4_foresee_6 ⟨Nat.zero_le _, Nat.zero_le _⟩) (fun r M H locs hp w => ?_)
  obtain ⟨rfl, hp2⟩ := hp; rw [← hp2] at hM; clear hp2
  have J24 : ∀  (M : mh) (H : Heap) (locs : List Loc) (ls : Array Slot), mf_foresee_24 v mins what  = z → lv_has ls 4 [] → mW G A s M H locs → Mdl G pp M0 M v → W p l e R s m av below meth c H locs 0 0 Q (F0 m 24 ls []) := by
    intro  M H locs ls  E hl w hM
    rw [mf_foresee_24] at E
    refine lv_ldc (v := (-1000001 : Int32)) hx hb X.2.2.2.1 (X.2.2.2.2 _ q2073) dX4_foresee_24 ?_
    exact fin (-1000001 : Int32) M H locs ls 26 dX4_foresee_26 ⟨by rw [← E], by rw [← E]; exact hM⟩ w
  refine mx_beq (tgt := 24) hx hb dX4_foresee_9 (by decide) (fun c_9 => ?_) (fun c_9 => ?_)
  · rw [if_neg c_9] at E
    exact J24  M H locs ls E (lv_sub hl [] rfl) w hM
  · rw [if_pos c_9] at E
    obtain ⟨hm1, _, hm2⟩ := in_n (a := 1) (b := 1440) (by decide) c_9
    refine lv_iload_n hx hb dX4_foresee_12 rfl (lv_at hl 2 rfl) ?_
    refine lv_i2l hx hb dX4_foresee_13 rfl ?_
    refine lv_lconst (v := (0 : Int64)) hx hb dX4_foresee_14 (by decide) ?_
    refine lv_ldc2 (v := (4 : Int64)) hx hb X.2.2.2.1 (X.2.2.2.2 _ q2310) dX4_foresee_15 ?_
    refine mx_bi w (va_runS (As := [.long what.toInt64, .long (0 : Int64), .long (4 : Int64)]) (rest := []) X (mt_in l G A M what.toInt64 (0 : Int64) (4 : Int64)  ) (va_cwS 3 X.2.2.2.2 (lw_S q2060 q2061 q113 q2062) rfl rfl rfl (by decide +kernel) ⟨by rw [hRf]; decide, by rw [hRl]; decide⟩) (mx_preS w rfl) rfl rfl hl.1 rfl (lv_room (Nat.le_of_ble_eq_true rfl)) dX4_foresee_18 ⟨Nat.zero_le _, Nat.zero_le _⟩) (fun r M H locs hp w => ?_)
    obtain ⟨rfl, hp2⟩ := hp; rw [← hp2] at hM; clear hp2
    refine mx_bne (tgt := 27) hx hb dX4_foresee_21 (by decide) (fun c_21 => ?_) (fun c_21 => ?_)
    · rw [if_pos c_21] at E
      obtain ⟨hw1, _, hw2⟩ := in_n (a := 0) (b := 4) (by decide) c_21
      refine lv_aload_n hx hb dX4_foresee_27 rfl (lv_at hl 0 rfl) ?_
      refine mx_bv w (va_runV (As := []) (rest := []) X (mt_layAside l G A pp M0 v   ) (cwV 0 X.2.2.2.2 (lw_V q2311 q2313 qs86 q113 q2314) rfl rfl rfl (by decide +kernel) ⟨by rw [hRf]; decide, by rw [hRl]; decide⟩) (mx_preV w hM hM.2.1 rfl) rfl rfl hl.1 rfl (lv_room (Nat.le_of_ble_eq_true rfl)) dX4_foresee_28 ⟨Nat.zero_le _, Nat.zero_le _⟩) (fun M H locs hM w => ?_)
      rw [mf_foresee_c28] at E
      obtain ⟨v_28, ev_28⟩ : ∃ y, y = (mf_layAside v ) := ⟨_, rfl⟩
      rw [← ev_28] at E hM
      have hl1 : v_28 1 = v 1 := by rw [ev_28]; exact layAside_r (by decide)
      refine lv_aload_n hx hb dX4_foresee_31 rfl (lv_at hl 0 rfl) ?_
      refine lv_iload_n hx hb dX4_foresee_32 rfl (lv_at hl 1 rfl) ?_
      refine mx_cast (z := nI (tN mins)) (hm1) ?_
      refine mx_bv w (va_runV (As := [.int (nI (tN mins))]) (rest := []) X (mt_minutes l G A pp M0 v_28 (tN mins) T np nz ng (by rw [hl1]; exact hI) (by omega)) (cwV 1 X.2.2.2.2 (lw_V q2227 q2229 qs67 q113 q2230) rfl rfl rfl (by decide +kernel) ⟨by rw [hRf]; decide, by rw [hRl]; decide⟩) (mx_preV w hM hM.2.1 rfl) rfl rfl hl.1 rfl (lv_room (Nat.le_of_ble_eq_true rfl)) dX4_foresee_33 ⟨Nat.zero_le _, Nat.zero_le _⟩) (fun M H locs hM w => ?_)
      rw [mf_foresee_c33] at E
      obtain ⟨v_33, ev_33⟩ : ∃ y, y = (mf_minutes v_28 (tN mins)) := ⟨_, rfl⟩
      rw [← ev_33] at E hM
      have hq3 : IP (T + tN mins) np nz ng (v_33 1) := by rw [ev_33]; exact IP_minutes (by rw [hl1]; exact hI) (by omega)
      refine lv_iload_n hx hb dX4_foresee_36 rfl (lv_at hl 2 rfl) ?_
      refine lv_iconst (v := (2 : Int32)) hx hb dX4_foresee_37 (by decide) ?_
      have J79 : ∀ (is0_79 : Int32) (M : mh) (H : Heap) (locs : List Loc) (ls : Array Slot), mf_foresee_79 v mins what v_28 v_33 is0_79 = z → lv_has ls 4 [(0, .ref (pp 0)), (2, .int what)] → mW G A s M H locs → Mdl G pp M0 M v_33 → W p l e R s m av below meth c H locs 0 0 Q (F0 m 79 ls [.int is0_79]) := by
        intro is0_79 M H locs ls  E hl w hM
        rw [mf_foresee_79] at E
        refine lv_istore_n (lv' := [(3, .int is0_79), (0, .ref (pp 0)), (2, .int what)]) hx hb dX4_foresee_79 rfl hl (by decide) rfl (fun ls hl => ?_)
        refine lv_aload_n hx hb dX4_foresee_80 rfl (lv_at hl 1 rfl) ?_
        refine mx_bv w (va_runV (As := []) (rest := []) X (mt_takeBack l G A pp M0 v_33   ) (cwV 0 X.2.2.2.2 (lw_V q2315 q2317 qs87 q113 q2318) rfl rfl rfl (by decide +kernel) ⟨by rw [hRf]; decide, by rw [hRl]; decide⟩) (mx_preV w hM hM.2.1 rfl) rfl rfl hl.1 rfl (lv_room (Nat.le_of_ble_eq_true rfl)) dX4_foresee_81 ⟨Nat.zero_le _, Nat.zero_le _⟩) (fun M H locs hM w => ?_)
        rw [mf_foresee_c81] at E
        obtain ⟨v_81, ev_81⟩ : ∃ y, y = (mf_takeBack v_33 ) := ⟨_, rfl⟩
        rw [← ev_81] at E hM
        refine lv_iload_n hx hb dX4_foresee_84 rfl (lv_at hl 2 rfl) ?_
        refine lv_iconst (v := (3 : Int32)) hx hb dX4_foresee_85 (by decide) ?_
        have J100 : ∀ (is0_100 : Int32) (M : mh) (H : Heap) (locs : List Loc) (ls : Array Slot), mf_foresee_100 v mins what v_28 v_33 is0_79 v_81 is0_100 = z → lv_has ls 4 [] → mW G A s M H locs → Mdl G pp M0 M v_81 → W p l e R s m av below meth c H locs 0 0 Q (F0 m 100 ls [.int is0_100]) := by
          intro is0_100 M H locs ls  E hl w hM
          rw [mf_foresee_100] at E
          exact fin is0_100 M H locs ls 100 dX4_foresee_100 ⟨by rw [← E], by rw [← E]; exact hM⟩ w
        have J99 : ∀  (M : mh) (H : Heap) (locs : List Loc) (ls : Array Slot), mf_foresee_99 v mins what v_28 v_33 is0_79 v_81  = z → lv_has ls 4 [(3, .int is0_79)] → mW G A s M H locs → Mdl G pp M0 M v_81 → W p l e R s m av below meth c H locs 0 0 Q (F0 m 99 ls []) := by
          intro  M H locs ls  E hl w hM
          rw [mf_foresee_99] at E
          refine lv_iload_n hx hb dX4_foresee_99 rfl (lv_at hl 0 rfl) ?_
          exact J100 is0_79 M H locs ls E (lv_sub hl [] rfl) w hM
        refine lv_icmp_ne (tgt := 99) hx hb dX4_foresee_86 (by decide) (fun c_86 => ?_) (fun c_86 => ?_)
        · rw [if_neg c_86] at E
          exact J99  M H locs ls E (lv_sub hl [0] rfl) w hM
        · rw [if_pos c_86] at E
          refine lv_iload_n hx hb dX4_foresee_89 rfl (lv_at hl 0 rfl) ?_
          refine lv_iconst (v := (-1 : Int32)) hx hb dX4_foresee_90 (by decide) ?_
          refine lv_icmp_ne (tgt := 99) hx hb dX4_foresee_91 (by decide) (fun c_91 => ?_) (fun c_91 => ?_)
          · rw [if_neg c_91] at E
            exact J99  M H locs ls E (lv_sub hl [0] rfl) w hM
          · rw [if_pos c_91] at E
            refine lv_ldc (v := (-1000004 : Int32)) hx hb X.2.2.2.1 (X.2.2.2.2 _ q2163) dX4_foresee_94 ?_
            refine lv_goto (tgt := 100) hx hb dX4_foresee_96 (by decide) ?_
            exact J100 (-1000004 : Int32) M H locs ls E (lv_sub hl [] rfl) w hM
      refine lv_icmp_ne (tgt := 48) hx hb dX4_foresee_38 (by decide) (fun c_38 => ?_) (fun c_38 => ?_)
      · rw [if_neg c_38] at E
        refine lv_iload_n hx hb dX4_foresee_48 rfl (lv_at hl 2 rfl) ?_
        refine lv_iconst (v := (3 : Int32)) hx hb dX4_foresee_49 (by decide) ?_
        refine lv_icmp_ne (tgt := 62) hx hb dX4_foresee_50 (by decide) (fun c_50 => ?_) (fun c_50 => ?_)
        · rw [if_neg c_50] at E
          refine lv_aload_n hx hb dX4_foresee_62 rfl (lv_at hl 0 rfl) ?_
          refine mx_get (v := .ref (pp 1)) X w in_X4 (ci := 3) rfl 0 (by decide) q2011 (fun _ h => h) hM.2.1 rfl dX4_foresee_63 ?_
          refine lv_iload_n hx hb dX4_foresee_66 rfl (lv_at hl 2 rfl) ?_
          refine lv_iconst (v := (4 : Int32)) hx hb dX4_foresee_67 (by decide) ?_
          have J78 : ∀ (ns0_78 : Nat) (M : mh) (H : Heap) (locs : List Loc) (ls : Array Slot), (h78 : ns0_78 ≤ 5) → mf_foresee_78 v mins what v_28 v_33 ns0_78 = z → lv_has ls 4 [(0, .ref (pp 0)), (2, .int what)] → mW G A s M H locs → Mdl G pp M0 M v_33 → W p l e R s m av below meth c H locs 0 0 Q (F0 m 78 ls [.int (nI ns0_78), .ref (pp 1)]) := by
            intro ns0_78 M H locs ls h78 E hl w hM
            rw [mf_foresee_78] at E
            refine md_ald X w hM 1 (by decide) (by decide) ns0_78 rfl (show ns0_78 < 170 by omega) dX4_foresee_78 ?_
            exact J79 (v_33 1 ns0_78) M H locs ls E (lv_sub hl [0, 1] rfl) w hM
          refine lv_icmp_ne (tgt := 75) hx hb dX4_foresee_68 (by decide) (fun c_68 => ?_) (fun c_68 => ?_)
          · rw [if_neg c_68] at E
            refine lv_iconst (v := (1 : Int32)) hx hb dX4_foresee_75 (by decide) ?_
            refine lv_iload_n hx hb dX4_foresee_76 rfl (lv_at hl 2 rfl) ?_
            refine mx_cast (z := nI (tN what)) (hw1) ?_
            refine mx_nadd (u := 1) (v := tN what) hx hb rfl rfl dX4_foresee_77 ?_
            exact J78 (1 + (tN what)) M H locs ls (by omega) E (lv_sub hl [0, 2] rfl) w hM
          · rw [if_pos c_68] at E
            refine lv_iconst (v := (3 : Int32)) hx hb dX4_foresee_71 (by decide) ?_
            refine lv_goto (tgt := 78) hx hb dX4_foresee_72 (by decide) ?_
            exact J78 3 M H locs ls (by omega) E (lv_sub hl [0, 2] rfl) w hM
        · rw [if_pos c_50] at E
          refine lv_aload_n hx hb dX4_foresee_53 rfl (lv_at hl 0 rfl) ?_
          refine mx_get (v := .ref (pp 1)) X w in_X4 (ci := 3) rfl 0 (by decide) q2011 (fun _ h => h) hM.2.1 rfl dX4_foresee_54 ?_
          refine lv_iconst (v := (4 : Int32)) hx hb dX4_foresee_57 (by decide) ?_
          refine md_ald X w hM 1 (by decide) (by decide) 4 rfl (show 4 < 170 by decide) dX4_foresee_58 ?_
          refine lv_goto (tgt := 79) hx hb dX4_foresee_59 (by decide) ?_
          exact J79 (v_33 1 4) M H locs ls E (lv_sub hl [0, 2] rfl) w hM
      · rw [if_pos c_38] at E
        refine lv_aload_n hx hb dX4_foresee_41 rfl (lv_at hl 0 rfl) ?_
        refine mx_bi w (va_runV (As := []) (rest := []) X (mt_running l G A pp M0 v_33  np (hq3.enp) (hq3.n6)) (cwV 0 X.2.2.2.2 (lw_V q2159 q2161 qs60 q113 q2162) rfl rfl rfl (by decide +kernel) ⟨by rw [hRf]; decide, by rw [hRl]; decide⟩) (mx_preV w hM hM.2.1 rfl) rfl rfl hl.1 rfl (lv_room (Nat.le_of_ble_eq_true rfl)) dX4_foresee_42 ⟨Nat.zero_le _, Nat.zero_le _⟩) (fun r M H locs hp w => ?_)
        obtain ⟨rfl, hM⟩ := hp
        refine lv_goto (tgt := 79) hx hb dX4_foresee_45 (by decide) ?_
        exact J79 (mf_running v_33 ) M H locs ls E (lv_sub hl [0, 2] rfl) w hM
    · rw [if_neg c_21] at E
      exact J24  M H locs ls E (lv_sub hl [] rfl) w hM
def mf_foreseeEvent_75 (v : (Nat → Nat → Int32)) (kind : Int32) (v_16 : (Nat → Nat → Int32)) (rc_26 : Nat → (Nat → Nat → Int32) → (Int32 × (Nat → Nat → Int32))) (n2_26 : Nat) (v_26 : (Nat → Nat → Int32)) (v_55 : (Nat → Nat → Int32)) (is0_75 : Int32) : (Int32 × (Nat → Nat → Int32)) := (is0_75, v_55)
def mf_foreseeEvent_c55 (v : (Nat → Nat → Int32)) (kind : Int32) (v_16 : (Nat → Nat → Int32)) (rc_26 : Nat → (Nat → Nat → Int32) → (Int32 × (Nat → Nat → Int32))) (n2_26 : Nat) (v_26 : (Nat → Nat → Int32)) (v_55 : (Nat → Nat → Int32)) : (Int32 × (Nat → Nat → Int32)) := (if (((v_55 1 170) >>> (kind &&& 31)) &&& (1 : Int32)) = 0 then (mf_foreseeEvent_75 v kind v_16 rc_26 n2_26 v_26 v_55 (-1000004 : Int32)) else (mf_foreseeEvent_75 v kind v_16 rc_26 n2_26 v_26 v_55 (nI n2_26)))
def mf_foreseeEvent_54 (v : (Nat → Nat → Int32)) (kind : Int32) (v_16 : (Nat → Nat → Int32)) (rc_26 : Nat → (Nat → Nat → Int32) → (Int32 × (Nat → Nat → Int32))) (n2_26 : Nat) (v_26 : (Nat → Nat → Int32))  : (Int32 × (Nat → Nat → Int32)) := (mf_foreseeEvent_c55 v kind v_16 rc_26 n2_26 v_26 (mf_takeBack v_26 ))
def mf_foreseeEvent_c45 (v : (Nat → Nat → Int32)) (kind : Int32) (v_16 : (Nat → Nat → Int32)) (rc_26 : Nat → (Nat → Nat → Int32) → (Int32 × (Nat → Nat → Int32))) (n2_26 : Nat) (v_26 : (Nat → Nat → Int32)) (v_45 : (Nat → Nat → Int32)) : (Int32 × (Nat → Nat → Int32)) := ( rc_26 (n2_26 + 1) v_45)
def mf_foreseeEvent_26 (v : (Nat → Nat → Int32)) (kind : Int32) (v_16 : (Nat → Nat → Int32)) : Nat → Nat → (Nat → Nat → Int32) → (Int32 × (Nat → Nat → Int32))
  | 0, _, v_26 => ((-1), v_26)
  | n_26 + 1, n2_26, v_26 => (if 1440 ≤ n2_26 then (mf_foreseeEvent_54 v kind v_16 (mf_foreseeEvent_26 v kind v_16 n_26) n2_26 v_26 ) else (if (((v_26 1 170) >>> (kind &&& 31)) &&& (1 : Int32)) = 0 then (mf_foreseeEvent_c45 v kind v_16 (mf_foreseeEvent_26 v kind v_16 n_26) n2_26 v_26 (mf_minute v_26 )) else (mf_foreseeEvent_54 v kind v_16 (mf_foreseeEvent_26 v kind v_16 n_26) n2_26 v_26 )))
def mf_foreseeEvent_c16 (v : (Nat → Nat → Int32)) (kind : Int32) (v_16 : (Nat → Nat → Int32)) : (Int32 × (Nat → Nat → Int32)) := (mf_foreseeEvent_26 v kind v_16 1442 0 (u2 v_16 1 170 (0 : Int32)))
def mf_foreseeEvent (v : (Nat → Nat → Int32)) (kind : Int32) : Int32 × (Nat → Nat → Int32) := (if (mf_in kind.toInt64 (0 : Int64) (7 : Int64)) = true then (mf_foreseeEvent_c16 v kind (mf_layAside v )) else ((-1000001 : Int32), v))
set_option maxHeartbeats 4000000 in
set_option maxRecDepth 100000 in
theorem mt_foreseeEvent (l : Launch) (G : mg) (A : Nat → Prop) (pp : Nat → Nat) (M0 : mh) (v : Nat → Nat → Int32) (kind : Int32) (T np nz ng : Nat) (hI : IP T np nz ng (v 1)) (hT : T ≤ 20000) : Met l yX4_foreseeEvent (ws_ yX4_foreseeEvent cX4_foreseeEvent 3 (some .int)) ({ frames := 7, cells := 0, slots := 0, locals := 153 }) (va_Pc [.ref (pp 0), .int kind] (mU G A (fun M => Mdl G pp M0 M v))) (mQi G A (fun r M => r = (mf_foreseeEvent v kind).1 ∧ Mdl G pp M0 M (mf_foreseeEvent v kind).2)) 0 0 A := by
  refine mx_ofi (by decide) (Nat.le_of_ble_eq_true rfl) ?_
  intro p e R s m av below meth c M H Q ls X hRf hRl hRc hRs hin hM w fin hl
  have X : CallFix p m c cX4_foreseeEvent 3 s av lw_all "FieldPumpsModel" := X
  have hx := X.1
  have hb := X.2.1
  have hl : lv_has ls 3 [(0, .ref (pp 0)), (1, .int kind)] := hl
  have hRf : R.frames = 7 := hRf
  have hRl : R.locals = 153 := hRl
  generalize ([] : List Loc) = locs at w ⊢
  generalize E : mf_foreseeEvent v kind = z at fin
  rw [mf_foreseeEvent] at E
  have hb6 := hI.b
  have hcp := hI.cp
  have hcz := hI.cz
  have hcg := hI.cg
  refine lv_iload_n hx hb dX4_foreseeEvent_0 rfl (lv_at hl 1 rfl) ?_
  refine lv_i2l hx hb dX4_foreseeEvent_1 rfl ?_
  refine lv_lconst (v := (0 : Int64)) hx hb dX4_foreseeEvent_2 (by decide) ?_
  refine lv_ldc2 (v := (7 : Int64)) hx hb X.2.2.2.1 (X.2.2.2.2 _ q2323) dX4_foreseeEvent_3 ?_
  refine mx_bi w (va_runS (As := [.long kind.toInt64, .long (0 : Int64), .long (7 : Int64)]) (rest := []) X (mt_in l G A M kind.toInt64 (0 : Int64) (7 : Int64)  ) (va_cwS 3 X.2.2.2.2 (lw_S q2060 q2061 q113 q2062) rfl rfl rfl (by decide +kernel) ⟨by rw [hRf]; decide, by rw [hRl]; decide⟩) (mx_preS w rfl) rfl rfl hl.1 rfl (lv_room (Nat.le_of_ble_eq_true rfl)) dX4_foreseeEvent_6 ⟨Nat.zero_le _, Nat.zero_le _⟩) (fun r M H locs hp w => ?_)
  obtain ⟨rfl, hp2⟩ := hp; rw [← hp2] at hM; clear hp2
  refine mx_bne (tgt := 15) hx hb dX4_foreseeEvent_9 (by decide) (fun c_9 => ?_) (fun c_9 => ?_)
  · rw [if_pos c_9] at E
    refine lv_aload_n hx hb dX4_foreseeEvent_15 rfl (lv_at hl 0 rfl) ?_
    refine mx_bv w (va_runV (As := []) (rest := []) X (mt_layAside l G A pp M0 v   ) (cwV 0 X.2.2.2.2 (lw_V q2311 q2313 qs86 q113 q2314) rfl rfl rfl (by decide +kernel) ⟨by rw [hRf]; decide, by rw [hRl]; decide⟩) (mx_preV w hM hM.2.1 rfl) rfl rfl hl.1 rfl (lv_room (Nat.le_of_ble_eq_true rfl)) dX4_foreseeEvent_16 ⟨Nat.zero_le _, Nat.zero_le _⟩) (fun M H locs hM w => ?_)
    rw [mf_foreseeEvent_c16] at E
    obtain ⟨v_16, ev_16⟩ : ∃ y, y = (mf_layAside v ) := ⟨_, rfl⟩
    rw [← ev_16] at E hM
    have hl1 : v_16 1 = v 1 := by rw [ev_16]; exact layAside_r (by decide)
    refine lv_aload_n hx hb dX4_foreseeEvent_19 rfl (lv_at hl 0 rfl) ?_
    refine lv_iconst (v := (0 : Int32)) hx hb dX4_foreseeEvent_20 (by decide) ?_
    refine md_putseen (x := (0 : Int32)) X w hM q2015 dX4_foreseeEvent_21 (fun M H locs w hM => ?_)
    refine lv_iconst (v := (0 : Int32)) hx hb dX4_foreseeEvent_24 (by decide) ?_
    refine lv_istore_n (lv' := [(2, .int (0 : Int32)), (0, .ref (pp 0)), (1, .int kind)]) hx hb dX4_foreseeEvent_25 rfl hl (by decide) rfl (fun ls hl => ?_)
    have L26 : ∀ (n_26 : Nat) (n2_26 : Nat) (v_26 : (Nat → Nat → Int32)) (M : mh) (H : Heap) (locs : List Loc) (ls : Array Slot), (hq : IP (T + n2_26) np nz ng (v_26 1)) → (hi : n2_26 ≤ 1440) → (hm : 1440 < n2_26 + n_26) → mf_foreseeEvent_26 v kind v_16 n_26 n2_26 v_26 = z → lv_has ls 3 [(0, .ref (pp 0)), (1, .int kind), (2, .int (nI n2_26))] → mW G A s M H locs → Mdl G pp M0 M v_26 → W p l e R s m av below meth c H locs 0 0 Q (F0 m 26 ls []) := by
      intro n_26
      induction n_26 with
      | zero =>
        intro n2_26 v_26 M H locs ls hq hi hm E hl w hM
        exfalso; omega
      | succ n_26 ih_26 =>
        intro n2_26 v_26 M H locs ls hq hi hm E hl w hM
        rw [mf_foreseeEvent_26] at E
        refine lv_iload_n hx hb dX4_foreseeEvent_26 rfl (lv_at hl 2 rfl) ?_
        refine lv_sipush (v := (1440 : Int32)) hx hb dX4_foreseeEvent_27 (by decide) ?_
        have J54 : ∀  (M : mh) (H : Heap) (locs : List Loc) (ls : Array Slot), mf_foreseeEvent_54 v kind v_16 (mf_foreseeEvent_26 v kind v_16 n_26) n2_26 v_26  = z → lv_has ls 3 [(0, .ref (pp 0)), (1, .int kind), (2, .int (nI n2_26))] → mW G A s M H locs → Mdl G pp M0 M v_26 → W p l e R s m av below meth c H locs 0 0 Q (F0 m 54 ls []) := by
          intro  M H locs ls  E hl w hM
          rw [mf_foreseeEvent_54] at E
          refine lv_aload_n hx hb dX4_foreseeEvent_54 rfl (lv_at hl 0 rfl) ?_
          refine mx_bv w (va_runV (As := []) (rest := []) X (mt_takeBack l G A pp M0 v_26   ) (cwV 0 X.2.2.2.2 (lw_V q2315 q2317 qs87 q113 q2318) rfl rfl rfl (by decide +kernel) ⟨by rw [hRf]; decide, by rw [hRl]; decide⟩) (mx_preV w hM hM.2.1 rfl) rfl rfl hl.1 rfl (lv_room (Nat.le_of_ble_eq_true rfl)) dX4_foreseeEvent_55 ⟨Nat.zero_le _, Nat.zero_le _⟩) (fun M H locs hM w => ?_)
          rw [mf_foreseeEvent_c55] at E
          obtain ⟨v_55, ev_55⟩ : ∃ y, y = (mf_takeBack v_26 ) := ⟨_, rfl⟩
          rw [← ev_55] at E hM
          refine lv_aload_n hx hb dX4_foreseeEvent_58 rfl (lv_at hl 0 rfl) ?_
          refine mx_get (v := .int (v_55 1 170)) X w in_X4 (ci := 3) rfl 4 (by decide) q2015 (fun _ h => h) hM.2.1 rfl dX4_foreseeEvent_59 ?_
          refine lv_iload_n hx hb dX4_foreseeEvent_62 rfl (lv_at hl 1 rfl) ?_
          refine lv_ishr hx hb dX4_foreseeEvent_63 ?_
          refine lv_iconst (v := (1 : Int32)) hx hb dX4_foreseeEvent_64 (by decide) ?_
          refine lv_iand hx hb dX4_foreseeEvent_65 ?_
          have J75 : ∀ (is0_75 : Int32) (M : mh) (H : Heap) (locs : List Loc) (ls : Array Slot), mf_foreseeEvent_75 v kind v_16 (mf_foreseeEvent_26 v kind v_16 n_26) n2_26 v_26 v_55 is0_75 = z → lv_has ls 3 [] → mW G A s M H locs → Mdl G pp M0 M v_55 → W p l e R s m av below meth c H locs 0 0 Q (F0 m 75 ls [.int is0_75]) := by
            intro is0_75 M H locs ls  E hl w hM
            rw [mf_foreseeEvent_75] at E
            exact fin is0_75 M H locs ls 75 dX4_foreseeEvent_75 ⟨by rw [← E], by rw [← E]; exact hM⟩ w
          refine lv_if_ne (tgt := 74) hx hb dX4_foreseeEvent_66 (by decide) (fun c_66 => ?_) (fun c_66 => ?_)
          · rw [if_neg c_66] at E
            refine lv_iload_n hx hb dX4_foreseeEvent_74 rfl (lv_at hl 2 rfl) ?_
            exact J75 (nI n2_26) M H locs ls E (lv_sub hl [] rfl) w hM
          · rw [if_pos c_66] at E
            refine lv_ldc (v := (-1000004 : Int32)) hx hb X.2.2.2.1 (X.2.2.2.2 _ q2163) dX4_foreseeEvent_69 ?_
            refine lv_goto (tgt := 75) hx hb dX4_foreseeEvent_71 (by decide) ?_
            exact J75 (-1000004 : Int32) M H locs ls E (lv_sub hl [] rfl) w hM
        refine mx_nge (u := n2_26) (v := 1440) (tgt := 54) hx hb rfl rfl (by omega) (by omega) dX4_foreseeEvent_30 (by decide) (fun c_30 => ?_) (fun c_30 => ?_)
        · rw [if_pos c_30] at E
          exact J54  M H locs ls E (lv_sub hl [0, 1, 2] rfl) w hM
        · rw [if_neg c_30] at E
          refine lv_aload_n hx hb dX4_foreseeEvent_33 rfl (lv_at hl 0 rfl) ?_
          refine mx_get (v := .int (v_26 1 170)) X w in_X4 (ci := 3) rfl 4 (by decide) q2015 (fun _ h => h) hM.2.1 rfl dX4_foreseeEvent_34 ?_
          refine lv_iload_n hx hb dX4_foreseeEvent_37 rfl (lv_at hl 1 rfl) ?_
          refine lv_ishr hx hb dX4_foreseeEvent_38 ?_
          refine lv_iconst (v := (1 : Int32)) hx hb dX4_foreseeEvent_39 (by decide) ?_
          refine lv_iand hx hb dX4_foreseeEvent_40 ?_
          refine lv_if_ne (tgt := 54) hx hb dX4_foreseeEvent_41 (by decide) (fun c_41 => ?_) (fun c_41 => ?_)
          · rw [if_neg c_41] at E
            exact J54  M H locs ls E (lv_sub hl [0, 1, 2] rfl) w hM
          · rw [if_pos c_41] at E
            refine lv_aload_n hx hb dX4_foreseeEvent_44 rfl (lv_at hl 0 rfl) ?_
            refine mx_bv w (va_runV (As := []) (rest := []) X (mt_minute l G A pp M0 v_26  (T + n2_26) np nz ng (hq) (by omega)) (cwV 0 X.2.2.2.2 (lw_V q2231 q2233 qs68 q113 q2234) rfl rfl rfl (by decide +kernel) ⟨by rw [hRf]; decide, by rw [hRl]; decide⟩) (mx_preV w hM hM.2.1 rfl) rfl rfl hl.1 rfl (lv_room (Nat.le_of_ble_eq_true rfl)) dX4_foreseeEvent_45 ⟨Nat.zero_le _, Nat.zero_le _⟩) (fun M H locs hM w => ?_)
            rw [mf_foreseeEvent_c45] at E
            obtain ⟨v_45, ev_45⟩ : ∃ y, y = (mf_minute v_26 ) := ⟨_, rfl⟩
            rw [← ev_45] at E hM
            have hq4 : IP (T + (n2_26 + 1)) np nz ng (v_45 1) := by rw [ev_45]; exact IP_minute (T := T + n2_26) hq (by omega)
            refine lv_iinc (v := (nI (n2_26 + 1))) (lv' := [(2, .int (nI (n2_26 + 1))), (0, .ref (pp 0)), (1, .int kind)]) hx hb dX4_foreseeEvent_48 hl (k := 2) rfl (nI_incr _ 1) (by decide) rfl (fun ls hl => ?_)
            refine lv_goto (tgt := 26) hx hb dX4_foreseeEvent_51 (by decide) ?_
            exact ih_26 (n2_26 + 1) v_45 M H locs ls (by first | omega | assumption | exact hq4) (by first | omega | assumption) (by first | omega | assumption) E (lv_sub hl [1, 2, 0] rfl) w hM
    exact L26 1442 0 (u2 v_16 1 170 (0 : Int32)) M H locs ls (by first | omega | assumption | exact IP.up (by rw [hl1]; exact hI) (okc_free hI.b (by omega))) (by first | omega | assumption) (by first | omega | assumption) E (lv_sub hl [1, 2, 0] rfl) w hM
  · rw [if_neg c_9] at E
    refine lv_ldc (v := (-1000001 : Int32)) hx hb X.2.2.2.1 (X.2.2.2.2 _ q2073) dX4_foreseeEvent_12 ?_
    exact fin (-1000001 : Int32) M H locs ls 14 dX4_foreseeEvent_14 ⟨by rw [← E], by rw [← E]; exact hM⟩ w
def mf_station_139 (v : (Nat → Nat → Int32)) (what : Int32) (is0_139 : Int32) : Int32 := is0_139
def mf_station (v : (Nat → Nat → Int32)) (what : Int32) : Int32 := (if (mf_in what.toInt64 (0 : Int64) (14 : Int64)) = true then (if what = (0 : Int32) then (v 1 1) else (if what = (1 : Int32) then (v 1 2) else (if what = (2 : Int32) then (v 1 3) else (if what = (3 : Int32) then (mf_demand v ) else (if what = (4 : Int32) then (if (v 1 4) = (-1 : Int32) then (mf_station_139 v what (-1000004 : Int32)) else (mf_station_139 v what (v 1 4))) else (if what = (5 : Int32) then (mf_running v ) else (if what = (6 : Int32) then (v 1 ((5 + 6) - 6)) else (if what = (7 : Int32) then (v 1 ((5 + 7) - 6)) else (if what = (8 : Int32) then (v 1 ((5 + 8) - 6)) else (if what = (9 : Int32) then (v 1 ((5 + 9) - 6)) else (if what = (10 : Int32) then (v 1 ((5 + 10) - 6)) else (if what = (11 : Int32) then (v 1 ((5 + 11) - 6)) else (if what = (12 : Int32) then (v 1 ((5 + 12) - 6)) else (if what = (13 : Int32) then (v 1 ((5 + 13) - 6)) else (if what = (14 : Int32) then (v 1 13) else (v 1 (5 + (tN what) - 6))))))))))))))))) else (-1000001 : Int32))
set_option maxHeartbeats 4000000 in
set_option maxRecDepth 100000 in
theorem mt_station (l : Launch) (G : mg) (A : Nat → Prop) (pp : Nat → Nat) (M0 : mh) (v : Nat → Nat → Int32) (what : Int32) (T np nz ng : Nat) (hI : IP T np nz ng (v 1)) : Met l yX4_station (ws_ yX4_station cX4_station 2 (some .int)) ({ frames := 3, cells := 0, slots := 0, locals := 65 }) (va_Pc [.ref (pp 0), .int what] (mU G A (fun M => Mdl G pp M0 M v))) (mQi G A (fun r M => r = mf_station v what ∧ Mdl G pp M0 M v)) 0 0 A := by
  refine mx_ofi (by decide) (Nat.le_of_ble_eq_true rfl) ?_
  intro p e R s m av below meth c M H Q ls X hRf hRl hRc hRs hin hM w fin hl
  have X : CallFix p m c cX4_station 2 s av lw_all "FieldPumpsModel" := X
  have hx := X.1
  have hb := X.2.1
  have hl : lv_has ls 2 [(0, .ref (pp 0)), (1, .int what)] := hl
  have hRf : R.frames = 3 := hRf
  have hRl : R.locals = 65 := hRl
  generalize ([] : List Loc) = locs at w ⊢
  generalize E : mf_station v what = z at fin
  rw [mf_station] at E
  have hb6 := hI.b
  have hcp := hI.cp
  have hcz := hI.cz
  have hcg := hI.cg
  refine lv_iload_n hx hb dX4_station_0 rfl (lv_at hl 1 rfl) ?_
  refine lv_i2l hx hb dX4_station_1 rfl ?_
  refine lv_lconst (v := (0 : Int64)) hx hb dX4_station_2 (by decide) ?_
  refine lv_ldc2 (v := (14 : Int64)) hx hb X.2.2.2.1 (X.2.2.2.2 _ q2328) dX4_station_3 ?_
  refine mx_bi w (va_runS (As := [.long what.toInt64, .long (0 : Int64), .long (14 : Int64)]) (rest := []) X (mt_in l G A M what.toInt64 (0 : Int64) (14 : Int64)  ) (va_cwS 3 X.2.2.2.2 (lw_S q2060 q2061 q113 q2062) rfl rfl rfl (by decide +kernel) ⟨by rw [hRf]; decide, by rw [hRl]; decide⟩) (mx_preS w rfl) rfl rfl hl.1 rfl (lv_room (Nat.le_of_ble_eq_true rfl)) dX4_station_6 ⟨Nat.zero_le _, Nat.zero_le _⟩) (fun r M H locs hp w => ?_)
  obtain ⟨rfl, hp2⟩ := hp; rw [← hp2] at hM; clear hp2
  refine mx_bne (tgt := 15) hx hb dX4_station_9 (by decide) (fun c_9 => ?_) (fun c_9 => ?_)
  · rw [if_pos c_9] at E
    obtain ⟨hw1, _, hw2⟩ := in_n (a := 0) (b := 14) (by decide) c_9
    refine lv_iload_n hx hb dX4_station_15 rfl (lv_at hl 1 rfl) ?_
    by_cases c_16_0 : what = (0 : Int32)
    · rw [if_pos c_16_0] at E
      refine lv_tableIn (tgt := 92) hx hb dX4_station_16 (by rw [c_16_0]; decide) (by rw [c_16_0]; decide) (by rw [c_16_0]; rfl) (by decide) ?_
      subst c_16_0
      refine lv_aload_n hx hb dX4_station_92 rfl (lv_at hl 0 rfl) ?_
      refine mx_get (v := .ref (pp 1)) X w in_X4 (ci := 3) rfl 0 (by decide) q2011 (fun _ h => h) hM.2.1 rfl dX4_station_93 ?_
      refine lv_iconst (v := (1 : Int32)) hx hb dX4_station_96 (by decide) ?_
      refine md_ald X w hM 1 (by decide) (by decide) 1 rfl (show 1 < 170 by decide) dX4_station_97 ?_
      exact fin (v 1 1) M H locs ls 98 dX4_station_98 ⟨E, hM⟩ w
    · rw [if_neg c_16_0] at E
      by_cases c_16_1 : what = (1 : Int32)
      · rw [if_pos c_16_1] at E
        refine lv_tableIn (tgt := 99) hx hb dX4_station_16 (by rw [c_16_1]; decide) (by rw [c_16_1]; decide) (by rw [c_16_1]; rfl) (by decide) ?_
        subst c_16_1
        refine lv_aload_n hx hb dX4_station_99 rfl (lv_at hl 0 rfl) ?_
        refine mx_get (v := .ref (pp 1)) X w in_X4 (ci := 3) rfl 0 (by decide) q2011 (fun _ h => h) hM.2.1 rfl dX4_station_100 ?_
        refine lv_iconst (v := (2 : Int32)) hx hb dX4_station_103 (by decide) ?_
        refine md_ald X w hM 1 (by decide) (by decide) 2 rfl (show 2 < 170 by decide) dX4_station_104 ?_
        exact fin (v 1 2) M H locs ls 105 dX4_station_105 ⟨E, hM⟩ w
      · rw [if_neg c_16_1] at E
        by_cases c_16_2 : what = (2 : Int32)
        · rw [if_pos c_16_2] at E
          refine lv_tableIn (tgt := 106) hx hb dX4_station_16 (by rw [c_16_2]; decide) (by rw [c_16_2]; decide) (by rw [c_16_2]; rfl) (by decide) ?_
          subst c_16_2
          refine lv_aload_n hx hb dX4_station_106 rfl (lv_at hl 0 rfl) ?_
          refine mx_get (v := .ref (pp 1)) X w in_X4 (ci := 3) rfl 0 (by decide) q2011 (fun _ h => h) hM.2.1 rfl dX4_station_107 ?_
          refine lv_iconst (v := (3 : Int32)) hx hb dX4_station_110 (by decide) ?_
          refine md_ald X w hM 1 (by decide) (by decide) 3 rfl (show 3 < 170 by decide) dX4_station_111 ?_
          exact fin (v 1 3) M H locs ls 112 dX4_station_112 ⟨E, hM⟩ w
        · rw [if_neg c_16_2] at E
          by_cases c_16_3 : what = (3 : Int32)
          · rw [if_pos c_16_3] at E
            refine lv_tableIn (tgt := 113) hx hb dX4_station_16 (by rw [c_16_3]; decide) (by rw [c_16_3]; decide) (by rw [c_16_3]; rfl) (by decide) ?_
            subst c_16_3
            refine lv_aload_n hx hb dX4_station_113 rfl (lv_at hl 0 rfl) ?_
            refine mx_bi w (va_runV (As := []) (rest := []) X (mt_demand l G A pp M0 v  nz (hI.enz) (hI.z8)) (cwV 0 X.2.2.2.2 (lw_V q2250 q2252 qs72 q113 q2253) rfl rfl rfl (by decide +kernel) ⟨by rw [hRf]; decide, by rw [hRl]; decide⟩) (mx_preV w hM hM.2.1 rfl) rfl rfl hl.1 rfl (lv_room (Nat.le_of_ble_eq_true rfl)) dX4_station_114 ⟨Nat.zero_le _, Nat.zero_le _⟩) (fun r M H locs hp w => ?_)
            obtain ⟨rfl, hM⟩ := hp
            exact fin (mf_demand v ) M H locs ls 117 dX4_station_117 ⟨E, hM⟩ w
          · rw [if_neg c_16_3] at E
            by_cases c_16_4 : what = (4 : Int32)
            · rw [if_pos c_16_4] at E
              refine lv_tableIn (tgt := 118) hx hb dX4_station_16 (by rw [c_16_4]; decide) (by rw [c_16_4]; decide) (by rw [c_16_4]; rfl) (by decide) ?_
              subst c_16_4
              refine lv_aload_n hx hb dX4_station_118 rfl (lv_at hl 0 rfl) ?_
              refine mx_get (v := .ref (pp 1)) X w in_X4 (ci := 3) rfl 0 (by decide) q2011 (fun _ h => h) hM.2.1 rfl dX4_station_119 ?_
              refine lv_iconst (v := (4 : Int32)) hx hb dX4_station_122 (by decide) ?_
              refine md_ald X w hM 1 (by decide) (by decide) 4 rfl (show 4 < 170 by decide) dX4_station_123 ?_
              refine lv_iconst (v := (-1 : Int32)) hx hb dX4_station_124 (by decide) ?_
              have J139 : ∀ (is0_139 : Int32) (M : mh) (H : Heap) (locs : List Loc) (ls : Array Slot), mf_station_139 v (4 : Int32) is0_139 = z → lv_has ls 2 [] → mW G A s M H locs → Mdl G pp M0 M v → W p l e R s m av below meth c H locs 0 0 Q (F0 m 139 ls [.int is0_139]) := by
                intro is0_139 M H locs ls  E hl w hM
                rw [mf_station_139] at E
                exact fin is0_139 M H locs ls 139 dX4_station_139 ⟨E, hM⟩ w
              refine lv_icmp_ne (tgt := 133) hx hb dX4_station_125 (by decide) (fun c_125 => ?_) (fun c_125 => ?_)
              · rw [if_neg c_125] at E
                refine lv_aload_n hx hb dX4_station_133 rfl (lv_at hl 0 rfl) ?_
                refine mx_get (v := .ref (pp 1)) X w in_X4 (ci := 3) rfl 0 (by decide) q2011 (fun _ h => h) hM.2.1 rfl dX4_station_134 ?_
                refine lv_iconst (v := (4 : Int32)) hx hb dX4_station_137 (by decide) ?_
                refine md_ald X w hM 1 (by decide) (by decide) 4 rfl (show 4 < 170 by decide) dX4_station_138 ?_
                exact J139 (v 1 4) M H locs ls E (lv_sub hl [] rfl) w hM
              · rw [if_pos c_125] at E
                refine lv_ldc (v := (-1000004 : Int32)) hx hb X.2.2.2.1 (X.2.2.2.2 _ q2163) dX4_station_128 ?_
                refine lv_goto (tgt := 139) hx hb dX4_station_130 (by decide) ?_
                exact J139 (-1000004 : Int32) M H locs ls E (lv_sub hl [] rfl) w hM
            · rw [if_neg c_16_4] at E
              by_cases c_16_5 : what = (5 : Int32)
              · rw [if_pos c_16_5] at E
                refine lv_tableIn (tgt := 140) hx hb dX4_station_16 (by rw [c_16_5]; decide) (by rw [c_16_5]; decide) (by rw [c_16_5]; rfl) (by decide) ?_
                subst c_16_5
                refine lv_aload_n hx hb dX4_station_140 rfl (lv_at hl 0 rfl) ?_
                refine mx_bi w (va_runV (As := []) (rest := []) X (mt_running l G A pp M0 v  np (hI.enp) (hI.n6)) (cwV 0 X.2.2.2.2 (lw_V q2159 q2161 qs60 q113 q2162) rfl rfl rfl (by decide +kernel) ⟨by rw [hRf]; decide, by rw [hRl]; decide⟩) (mx_preV w hM hM.2.1 rfl) rfl rfl hl.1 rfl (lv_room (Nat.le_of_ble_eq_true rfl)) dX4_station_141 ⟨Nat.zero_le _, Nat.zero_le _⟩) (fun r M H locs hp w => ?_)
                obtain ⟨rfl, hM⟩ := hp
                exact fin (mf_running v ) M H locs ls 144 dX4_station_144 ⟨E, hM⟩ w
              · rw [if_neg c_16_5] at E
                by_cases c_16_6 : what = (6 : Int32)
                · rw [if_pos c_16_6] at E
                  refine lv_tableIn (tgt := 153) hx hb dX4_station_16 (by rw [c_16_6]; decide) (by rw [c_16_6]; decide) (by rw [c_16_6]; rfl) (by decide) ?_
                  subst c_16_6
                  refine lv_aload_n hx hb dX4_station_153 rfl (lv_at hl 0 rfl) ?_
                  refine mx_get (v := .ref (pp 1)) X w in_X4 (ci := 3) rfl 0 (by decide) q2011 (fun _ h => h) hM.2.1 rfl dX4_station_154 ?_
                  refine lv_iconst (v := (5 : Int32)) hx hb dX4_station_157 (by decide) ?_
                  refine lv_iload_n hx hb dX4_station_158 rfl (lv_at hl 1 rfl) ?_
                  refine mx_nadd (u := 5) (v := 6) hx hb rfl rfl dX4_station_159 ?_
                  refine lv_bipush (v := (6 : Int32)) hx hb dX4_station_160 (by decide) ?_
                  refine mx_nsub (u := 5 + 6) (v := 6) hx hb rfl rfl (by first | omega | (have := ne_n (n := 0) hw1 c_16_0 rfl; omega)) dX4_station_162 ?_
                  refine md_ald X w hM 1 (by decide) (by decide) ((5 + 6) - 6) rfl (show (5 + 6) - 6 < 170 by omega) dX4_station_163 ?_
                  exact fin (v 1 ((5 + 6) - 6)) M H locs ls 164 dX4_station_164 ⟨E, hM⟩ w
                · rw [if_neg c_16_6] at E
                  by_cases c_16_7 : what = (7 : Int32)
                  · rw [if_pos c_16_7] at E
                    refine lv_tableIn (tgt := 153) hx hb dX4_station_16 (by rw [c_16_7]; decide) (by rw [c_16_7]; decide) (by rw [c_16_7]; rfl) (by decide) ?_
                    subst c_16_7
                    refine lv_aload_n hx hb dX4_station_153 rfl (lv_at hl 0 rfl) ?_
                    refine mx_get (v := .ref (pp 1)) X w in_X4 (ci := 3) rfl 0 (by decide) q2011 (fun _ h => h) hM.2.1 rfl dX4_station_154 ?_
                    refine lv_iconst (v := (5 : Int32)) hx hb dX4_station_157 (by decide) ?_
                    refine lv_iload_n hx hb dX4_station_158 rfl (lv_at hl 1 rfl) ?_
                    refine mx_nadd (u := 5) (v := 7) hx hb rfl rfl dX4_station_159 ?_
                    refine lv_bipush (v := (6 : Int32)) hx hb dX4_station_160 (by decide) ?_
                    refine mx_nsub (u := 5 + 7) (v := 6) hx hb rfl rfl (by first | omega | (have := ne_n (n := 0) hw1 c_16_0 rfl; omega)) dX4_station_162 ?_
                    refine md_ald X w hM 1 (by decide) (by decide) ((5 + 7) - 6) rfl (show (5 + 7) - 6 < 170 by omega) dX4_station_163 ?_
                    exact fin (v 1 ((5 + 7) - 6)) M H locs ls 164 dX4_station_164 ⟨E, hM⟩ w
                  · rw [if_neg c_16_7] at E
                    by_cases c_16_8 : what = (8 : Int32)
                    · rw [if_pos c_16_8] at E
                      refine lv_tableIn (tgt := 153) hx hb dX4_station_16 (by rw [c_16_8]; decide) (by rw [c_16_8]; decide) (by rw [c_16_8]; rfl) (by decide) ?_
                      subst c_16_8
                      refine lv_aload_n hx hb dX4_station_153 rfl (lv_at hl 0 rfl) ?_
                      refine mx_get (v := .ref (pp 1)) X w in_X4 (ci := 3) rfl 0 (by decide) q2011 (fun _ h => h) hM.2.1 rfl dX4_station_154 ?_
                      refine lv_iconst (v := (5 : Int32)) hx hb dX4_station_157 (by decide) ?_
                      refine lv_iload_n hx hb dX4_station_158 rfl (lv_at hl 1 rfl) ?_
                      refine mx_nadd (u := 5) (v := 8) hx hb rfl rfl dX4_station_159 ?_
                      refine lv_bipush (v := (6 : Int32)) hx hb dX4_station_160 (by decide) ?_
                      refine mx_nsub (u := 5 + 8) (v := 6) hx hb rfl rfl (by first | omega | (have := ne_n (n := 0) hw1 c_16_0 rfl; omega)) dX4_station_162 ?_
                      refine md_ald X w hM 1 (by decide) (by decide) ((5 + 8) - 6) rfl (show (5 + 8) - 6 < 170 by omega) dX4_station_163 ?_
                      exact fin (v 1 ((5 + 8) - 6)) M H locs ls 164 dX4_station_164 ⟨E, hM⟩ w
                    · rw [if_neg c_16_8] at E
                      by_cases c_16_9 : what = (9 : Int32)
                      · rw [if_pos c_16_9] at E
                        refine lv_tableIn (tgt := 153) hx hb dX4_station_16 (by rw [c_16_9]; decide) (by rw [c_16_9]; decide) (by rw [c_16_9]; rfl) (by decide) ?_
                        subst c_16_9
                        refine lv_aload_n hx hb dX4_station_153 rfl (lv_at hl 0 rfl) ?_
                        refine mx_get (v := .ref (pp 1)) X w in_X4 (ci := 3) rfl 0 (by decide) q2011 (fun _ h => h) hM.2.1 rfl dX4_station_154 ?_
                        refine lv_iconst (v := (5 : Int32)) hx hb dX4_station_157 (by decide) ?_
                        refine lv_iload_n hx hb dX4_station_158 rfl (lv_at hl 1 rfl) ?_
                        refine mx_nadd (u := 5) (v := 9) hx hb rfl rfl dX4_station_159 ?_
                        refine lv_bipush (v := (6 : Int32)) hx hb dX4_station_160 (by decide) ?_
                        refine mx_nsub (u := 5 + 9) (v := 6) hx hb rfl rfl (by first | omega | (have := ne_n (n := 0) hw1 c_16_0 rfl; omega)) dX4_station_162 ?_
                        refine md_ald X w hM 1 (by decide) (by decide) ((5 + 9) - 6) rfl (show (5 + 9) - 6 < 170 by omega) dX4_station_163 ?_
                        exact fin (v 1 ((5 + 9) - 6)) M H locs ls 164 dX4_station_164 ⟨E, hM⟩ w
                      · rw [if_neg c_16_9] at E
                        by_cases c_16_10 : what = (10 : Int32)
                        · rw [if_pos c_16_10] at E
                          refine lv_tableIn (tgt := 153) hx hb dX4_station_16 (by rw [c_16_10]; decide) (by rw [c_16_10]; decide) (by rw [c_16_10]; rfl) (by decide) ?_
                          subst c_16_10
                          refine lv_aload_n hx hb dX4_station_153 rfl (lv_at hl 0 rfl) ?_
                          refine mx_get (v := .ref (pp 1)) X w in_X4 (ci := 3) rfl 0 (by decide) q2011 (fun _ h => h) hM.2.1 rfl dX4_station_154 ?_
                          refine lv_iconst (v := (5 : Int32)) hx hb dX4_station_157 (by decide) ?_
                          refine lv_iload_n hx hb dX4_station_158 rfl (lv_at hl 1 rfl) ?_
                          refine mx_nadd (u := 5) (v := 10) hx hb rfl rfl dX4_station_159 ?_
                          refine lv_bipush (v := (6 : Int32)) hx hb dX4_station_160 (by decide) ?_
                          refine mx_nsub (u := 5 + 10) (v := 6) hx hb rfl rfl (by first | omega | (have := ne_n (n := 0) hw1 c_16_0 rfl; omega)) dX4_station_162 ?_
                          refine md_ald X w hM 1 (by decide) (by decide) ((5 + 10) - 6) rfl (show (5 + 10) - 6 < 170 by omega) dX4_station_163 ?_
                          exact fin (v 1 ((5 + 10) - 6)) M H locs ls 164 dX4_station_164 ⟨E, hM⟩ w
                        · rw [if_neg c_16_10] at E
                          by_cases c_16_11 : what = (11 : Int32)
                          · rw [if_pos c_16_11] at E
                            refine lv_tableIn (tgt := 153) hx hb dX4_station_16 (by rw [c_16_11]; decide) (by rw [c_16_11]; decide) (by rw [c_16_11]; rfl) (by decide) ?_
                            subst c_16_11
                            refine lv_aload_n hx hb dX4_station_153 rfl (lv_at hl 0 rfl) ?_
                            refine mx_get (v := .ref (pp 1)) X w in_X4 (ci := 3) rfl 0 (by decide) q2011 (fun _ h => h) hM.2.1 rfl dX4_station_154 ?_
                            refine lv_iconst (v := (5 : Int32)) hx hb dX4_station_157 (by decide) ?_
                            refine lv_iload_n hx hb dX4_station_158 rfl (lv_at hl 1 rfl) ?_
                            refine mx_nadd (u := 5) (v := 11) hx hb rfl rfl dX4_station_159 ?_
                            refine lv_bipush (v := (6 : Int32)) hx hb dX4_station_160 (by decide) ?_
                            refine mx_nsub (u := 5 + 11) (v := 6) hx hb rfl rfl (by first | omega | (have := ne_n (n := 0) hw1 c_16_0 rfl; omega)) dX4_station_162 ?_
                            refine md_ald X w hM 1 (by decide) (by decide) ((5 + 11) - 6) rfl (show (5 + 11) - 6 < 170 by omega) dX4_station_163 ?_
                            exact fin (v 1 ((5 + 11) - 6)) M H locs ls 164 dX4_station_164 ⟨E, hM⟩ w
                          · rw [if_neg c_16_11] at E
                            by_cases c_16_12 : what = (12 : Int32)
                            · rw [if_pos c_16_12] at E
                              refine lv_tableIn (tgt := 153) hx hb dX4_station_16 (by rw [c_16_12]; decide) (by rw [c_16_12]; decide) (by rw [c_16_12]; rfl) (by decide) ?_
                              subst c_16_12
                              refine lv_aload_n hx hb dX4_station_153 rfl (lv_at hl 0 rfl) ?_
                              refine mx_get (v := .ref (pp 1)) X w in_X4 (ci := 3) rfl 0 (by decide) q2011 (fun _ h => h) hM.2.1 rfl dX4_station_154 ?_
                              refine lv_iconst (v := (5 : Int32)) hx hb dX4_station_157 (by decide) ?_
                              refine lv_iload_n hx hb dX4_station_158 rfl (lv_at hl 1 rfl) ?_
                              refine mx_nadd (u := 5) (v := 12) hx hb rfl rfl dX4_station_159 ?_
                              refine lv_bipush (v := (6 : Int32)) hx hb dX4_station_160 (by decide) ?_
                              refine mx_nsub (u := 5 + 12) (v := 6) hx hb rfl rfl (by first | omega | (have := ne_n (n := 0) hw1 c_16_0 rfl; omega)) dX4_station_162 ?_
                              refine md_ald X w hM 1 (by decide) (by decide) ((5 + 12) - 6) rfl (show (5 + 12) - 6 < 170 by omega) dX4_station_163 ?_
                              exact fin (v 1 ((5 + 12) - 6)) M H locs ls 164 dX4_station_164 ⟨E, hM⟩ w
                            · rw [if_neg c_16_12] at E
                              by_cases c_16_13 : what = (13 : Int32)
                              · rw [if_pos c_16_13] at E
                                refine lv_tableIn (tgt := 153) hx hb dX4_station_16 (by rw [c_16_13]; decide) (by rw [c_16_13]; decide) (by rw [c_16_13]; rfl) (by decide) ?_
                                subst c_16_13
                                refine lv_aload_n hx hb dX4_station_153 rfl (lv_at hl 0 rfl) ?_
                                refine mx_get (v := .ref (pp 1)) X w in_X4 (ci := 3) rfl 0 (by decide) q2011 (fun _ h => h) hM.2.1 rfl dX4_station_154 ?_
                                refine lv_iconst (v := (5 : Int32)) hx hb dX4_station_157 (by decide) ?_
                                refine lv_iload_n hx hb dX4_station_158 rfl (lv_at hl 1 rfl) ?_
                                refine mx_nadd (u := 5) (v := 13) hx hb rfl rfl dX4_station_159 ?_
                                refine lv_bipush (v := (6 : Int32)) hx hb dX4_station_160 (by decide) ?_
                                refine mx_nsub (u := 5 + 13) (v := 6) hx hb rfl rfl (by first | omega | (have := ne_n (n := 0) hw1 c_16_0 rfl; omega)) dX4_station_162 ?_
                                refine md_ald X w hM 1 (by decide) (by decide) ((5 + 13) - 6) rfl (show (5 + 13) - 6 < 170 by omega) dX4_station_163 ?_
                                exact fin (v 1 ((5 + 13) - 6)) M H locs ls 164 dX4_station_164 ⟨E, hM⟩ w
                              · rw [if_neg c_16_13] at E
                                by_cases c_16_14 : what = (14 : Int32)
                                · rw [if_pos c_16_14] at E
                                  refine lv_tableIn (tgt := 145) hx hb dX4_station_16 (by rw [c_16_14]; decide) (by rw [c_16_14]; decide) (by rw [c_16_14]; rfl) (by decide) ?_
                                  subst c_16_14
                                  refine lv_aload_n hx hb dX4_station_145 rfl (lv_at hl 0 rfl) ?_
                                  refine mx_get (v := .ref (pp 1)) X w in_X4 (ci := 3) rfl 0 (by decide) q2011 (fun _ h => h) hM.2.1 rfl dX4_station_146 ?_
                                  refine lv_bipush (v := (13 : Int32)) hx hb dX4_station_149 (by decide) ?_
                                  refine md_ald X w hM 1 (by decide) (by decide) 13 rfl (show 13 < 170 by decide) dX4_station_151 ?_
                                  exact fin (v 1 13) M H locs ls 152 dX4_station_152 ⟨E, hM⟩ w
                                · rw [if_neg c_16_14] at E
                                  refine lv_tableOut (tgt := 153) hx hb dX4_station_16 (Classical.byContradiction fun hh => by
                                    have h2 : what.toInt = 0 ∨ what.toInt = 1 ∨ what.toInt = 2 ∨ what.toInt = 3 ∨ what.toInt = 4 ∨ what.toInt = 5 ∨ what.toInt = 6 ∨ what.toInt = 7 ∨ what.toInt = 8 ∨ what.toInt = 9 ∨ what.toInt = 10 ∨ what.toInt = 11 ∨ what.toInt = 12 ∨ what.toInt = 13 ∨ what.toInt = 14 := by omega
                                    rcases h2 with h | h | h | h | h | h | h | h | h | h | h | h | h | h | h
                                    · exact lv_neT c_16_0 rfl h
                                    · exact lv_neT c_16_1 rfl h
                                    · exact lv_neT c_16_2 rfl h
                                    · exact lv_neT c_16_3 rfl h
                                    · exact lv_neT c_16_4 rfl h
                                    · exact lv_neT c_16_5 rfl h
                                    · exact lv_neT c_16_6 rfl h
                                    · exact lv_neT c_16_7 rfl h
                                    · exact lv_neT c_16_8 rfl h
                                    · exact lv_neT c_16_9 rfl h
                                    · exact lv_neT c_16_10 rfl h
                                    · exact lv_neT c_16_11 rfl h
                                    · exact lv_neT c_16_12 rfl h
                                    · exact lv_neT c_16_13 rfl h
                                    · exact lv_neT c_16_14 rfl h) (by decide) ?_
                                  refine lv_aload_n hx hb dX4_station_153 rfl (lv_at hl 0 rfl) ?_
                                  refine mx_get (v := .ref (pp 1)) X w in_X4 (ci := 3) rfl 0 (by decide) q2011 (fun _ h => h) hM.2.1 rfl dX4_station_154 ?_
                                  refine lv_iconst (v := (5 : Int32)) hx hb dX4_station_157 (by decide) ?_
                                  refine lv_iload_n hx hb dX4_station_158 rfl (lv_at hl 1 rfl) ?_
                                  refine mx_cast (z := nI (tN what)) (hw1) ?_
                                  refine mx_nadd (u := 5) (v := tN what) hx hb rfl rfl dX4_station_159 ?_
                                  refine lv_bipush (v := (6 : Int32)) hx hb dX4_station_160 (by decide) ?_
                                  refine mx_nsub (u := 5 + (tN what)) (v := 6) hx hb rfl rfl (by first | omega | (have := ne_n (n := 0) hw1 c_16_0 rfl; omega)) dX4_station_162 ?_
                                  refine md_ald X w hM 1 (by decide) (by decide) (5 + (tN what) - 6) rfl (show 5 + (tN what) - 6 < 170 by omega) dX4_station_163 ?_
                                  exact fin (v 1 (5 + (tN what) - 6)) M H locs ls 164 dX4_station_164 ⟨E, hM⟩ w
  · rw [if_neg c_9] at E
    refine lv_ldc (v := (-1000001 : Int32)) hx hb X.2.2.2.1 (X.2.2.2.2 _ q2073) dX4_station_12 ?_
    exact fin (-1000001 : Int32) M H locs ls 14 dX4_station_14 ⟨E, hM⟩ w
def mf_nightAt_34 (v : (Nat → Nat → Int32)) (index : Int32) (is0_34 : Int32) : Int32 := is0_34
def mf_nightAt (v : (Nat → Nat → Int32)) (index : Int32) : Int32 := (if 0 ≤ index then (if (v 1 18) ≤ index then (mf_nightAt_34 v index (-1000004 : Int32)) else (mf_nightAt_34 v index (v 1 (127 + (tN index))))) else (mf_nightAt_34 v index (-1000001 : Int32)))
set_option maxHeartbeats 4000000 in
set_option maxRecDepth 100000 in
theorem mt_nightAt (l : Launch) (G : mg) (A : Nat → Prop) (pp : Nat → Nat) (M0 : mh) (v : Nat → Nat → Int32) (index : Int32) (nn : Nat) (enn : v 1 18 = nI nn) (hn7 : nn ≤ 7) : Met l yX4_nightAt (ws_ yX4_nightAt cX4_nightAt 2 (some .int)) ({ frames := 0, cells := 0, slots := 0, locals := 0 }) (va_Pc [.ref (pp 0), .int index] (mU G A (fun M => Mdl G pp M0 M v))) (mQi G A (fun r M => r = mf_nightAt v index ∧ Mdl G pp M0 M v)) 0 0 A := by
  refine mx_ofi (by decide) (Nat.le_of_ble_eq_true rfl) ?_
  intro p e R s m av below meth c M H Q ls X hRf hRl hRc hRs hin hM w fin hl
  have X : CallFix p m c cX4_nightAt 2 s av lw_all "FieldPumpsModel" := X
  have hx := X.1
  have hb := X.2.1
  have hl : lv_has ls 2 [(0, .ref (pp 0)), (1, .int index)] := hl
  have hRf : R.frames = 0 := hRf
  have hRl : R.locals = 0 := hRl
  generalize ([] : List Loc) = locs at w ⊢
  generalize E : mf_nightAt v index = z at fin
  rw [mf_nightAt] at E
  have hcn := nC_of enn (by omega)
  refine lv_iload_n hx hb dX4_nightAt_0 rfl (lv_at hl 1 rfl) ?_
  have J34 : ∀ (is0_34 : Int32) (M : mh) (H : Heap) (locs : List Loc) (ls : Array Slot), mf_nightAt_34 v index is0_34 = z → lv_has ls 2 [] → mW G A s M H locs → Mdl G pp M0 M v → W p l e R s m av below meth c H locs 0 0 Q (F0 m 34 ls [.int is0_34]) := by
    intro is0_34 M H locs ls  E hl w hM
    rw [mf_nightAt_34] at E
    exact fin is0_34 M H locs ls 34 dX4_nightAt_34 ⟨E, hM⟩ w
  refine lv_if_ge (tgt := 9) hx hb dX4_nightAt_1 (by decide) (fun c_1 => ?_) (fun c_1 => ?_)
  · rw [if_pos c_1] at E
    refine lv_iload_n hx hb dX4_nightAt_9 rfl (lv_at hl 1 rfl) ?_
    refine lv_aload_n hx hb dX4_nightAt_10 rfl (lv_at hl 0 rfl) ?_
    refine mx_get (v := .ref (pp 1)) X w in_X4 (ci := 3) rfl 0 (by decide) q2011 (fun _ h => h) hM.2.1 rfl dX4_nightAt_11 ?_
    refine lv_bipush (v := (18 : Int32)) hx hb dX4_nightAt_14 (by decide) ?_
    refine md_ald X w hM 1 (by decide) (by decide) 18 rfl (show 18 < 170 by decide) dX4_nightAt_16 ?_
    refine lv_icmp_ge (tgt := 32) hx hb dX4_nightAt_17 (by decide) (fun c_17 => ?_) (fun c_17 => ?_)
    · rw [if_pos c_17] at E
      refine lv_ldc (v := (-1000004 : Int32)) hx hb X.2.2.2.1 (X.2.2.2.2 _ q2163) dX4_nightAt_32 ?_
      exact J34 (-1000004 : Int32) M H locs ls E (lv_sub hl [] rfl) w hM
    · rw [if_neg c_17] at E
      obtain ⟨hx1, hx2⟩ := lt_n (n := nn) (Int32.not_lt.mpr c_1) (by rw [← enn]; exact Int32.not_le.mp c_17) (by omega)
      refine lv_aload_n hx hb dX4_nightAt_20 rfl (lv_at hl 0 rfl) ?_
      refine mx_get (v := .ref (pp 1)) X w in_X4 (ci := 3) rfl 0 (by decide) q2011 (fun _ h => h) hM.2.1 rfl dX4_nightAt_21 ?_
      refine lv_bipush (v := (127 : Int32)) hx hb dX4_nightAt_24 (by decide) ?_
      refine lv_iload_n hx hb dX4_nightAt_26 rfl (lv_at hl 1 rfl) ?_
      refine mx_cast (z := nI (tN index)) (hx1) ?_
      refine mx_nadd (u := 127) (v := tN index) hx hb rfl rfl dX4_nightAt_27 ?_
      refine md_ald X w hM 1 (by decide) (by decide) (127 + (tN index)) rfl (show 127 + (tN index) < 170 by omega) dX4_nightAt_28 ?_
      refine lv_goto (tgt := 34) hx hb dX4_nightAt_29 (by decide) ?_
      exact J34 (v 1 (127 + (tN index))) M H locs ls E (lv_sub hl [] rfl) w hM
  · rw [if_neg c_1] at E
    refine lv_ldc (v := (-1000001 : Int32)) hx hb X.2.2.2.1 (X.2.2.2.2 _ q2073) dX4_nightAt_4 ?_
    refine lv_goto (tgt := 34) hx hb dX4_nightAt_6 (by decide) ?_
    exact J34 (-1000001 : Int32) M H locs ls E (lv_sub hl [] rfl) w hM
def mf_eventAt_16 (v : (Nat → Nat → Int32)) (index : Int32) (what : Int32)  : Int32 := (-1000001 : Int32)
def mf_eventAt_64 (v : (Nat → Nat → Int32)) (index : Int32) (what : Int32) (is0_64 : Int32) : Int32 := is0_64
def mf_eventAt_63 (v : (Nat → Nat → Int32)) (index : Int32) (what : Int32)  : Int32 := (mf_eventAt_64 v index what (v 1 (134 + 3 * (tN index) + (tN what))))
def mf_eventAt (v : (Nat → Nat → Int32)) (index : Int32) (what : Int32) : Int32 := (if index < 0 then (mf_eventAt_16 v index what ) else (if (mf_in what.toInt64 (0 : Int64) (2 : Int64)) = true then (if index < (v 1 19) then (if what = (2 : Int32) then (if (v 1 (134 + 3 * (tN index) + (tN what))) = (-1 : Int32) then (mf_eventAt_64 v index what (-1000004 : Int32)) else (mf_eventAt_63 v index what )) else (mf_eventAt_63 v index what )) else (-1000004 : Int32)) else (mf_eventAt_16 v index what )))
set_option maxHeartbeats 4000000 in
set_option maxRecDepth 100000 in
theorem mt_eventAt (l : Launch) (G : mg) (A : Nat → Prop) (pp : Nat → Nat) (M0 : mh) (v : Nat → Nat → Int32) (index : Int32) (what : Int32) (ne : Nat) (ene : v 1 19 = nI ne) (hne : ne ≤ 12) : Met l yX4_eventAt (ws_ yX4_eventAt cX4_eventAt 4 (some .int)) ({ frames := 1, cells := 0, slots := 0, locals := 25 }) (va_Pc [.ref (pp 0), .int index, .int what] (mU G A (fun M => Mdl G pp M0 M v))) (mQi G A (fun r M => r = mf_eventAt v index what ∧ Mdl G pp M0 M v)) 0 0 A := by
  refine mx_ofi (by decide) (Nat.le_of_ble_eq_true rfl) ?_
  intro p e R s m av below meth c M H Q ls X hRf hRl hRc hRs hin hM w fin hl
  have X : CallFix p m c cX4_eventAt 4 s av lw_all "FieldPumpsModel" := X
  have hx := X.1
  have hb := X.2.1
  have hl : lv_has ls 4 [(0, .ref (pp 0)), (1, .int index), (2, .int what)] := hl
  have hRf : R.frames = 1 := hRf
  have hRl : R.locals = 25 := hRl
  generalize ([] : List Loc) = locs at w ⊢
  generalize E : mf_eventAt v index what = z at fin
  rw [mf_eventAt] at E
  refine lv_iload_n hx hb dX4_eventAt_0 rfl (lv_at hl 1 rfl) ?_
  have J16 : ∀  (M : mh) (H : Heap) (locs : List Loc) (ls : Array Slot), mf_eventAt_16 v index what  = z → lv_has ls 4 [] → mW G A s M H locs → Mdl G pp M0 M v → W p l e R s m av below meth c H locs 0 0 Q (F0 m 16 ls []) := by
    intro  M H locs ls  E hl w hM
    rw [mf_eventAt_16] at E
    refine lv_ldc (v := (-1000001 : Int32)) hx hb X.2.2.2.1 (X.2.2.2.2 _ q2073) dX4_eventAt_16 ?_
    exact fin (-1000001 : Int32) M H locs ls 18 dX4_eventAt_18 ⟨E, hM⟩ w
  refine lv_if_lt (tgt := 16) hx hb dX4_eventAt_1 (by decide) (fun c_1 => ?_) (fun c_1 => ?_)
  · rw [if_pos c_1] at E
    exact J16  M H locs ls E (lv_sub hl [] rfl) w hM
  · rw [if_neg c_1] at E
    refine lv_iload_n hx hb dX4_eventAt_4 rfl (lv_at hl 2 rfl) ?_
    refine lv_i2l hx hb dX4_eventAt_5 rfl ?_
    refine lv_lconst (v := (0 : Int64)) hx hb dX4_eventAt_6 (by decide) ?_
    refine lv_ldc2 (v := (2 : Int64)) hx hb X.2.2.2.1 (X.2.2.2.2 _ q2086) dX4_eventAt_7 ?_
    refine mx_bi w (va_runS (As := [.long what.toInt64, .long (0 : Int64), .long (2 : Int64)]) (rest := []) X (mt_in l G A M what.toInt64 (0 : Int64) (2 : Int64)  ) (va_cwS 3 X.2.2.2.2 (lw_S q2060 q2061 q113 q2062) rfl rfl rfl (by decide +kernel) ⟨by rw [hRf]; decide, by rw [hRl]; decide⟩) (mx_preS w rfl) rfl rfl hl.1 rfl (lv_room (Nat.le_of_ble_eq_true rfl)) dX4_eventAt_10 ⟨Nat.zero_le _, Nat.zero_le _⟩) (fun r M H locs hp w => ?_)
    obtain ⟨rfl, hp2⟩ := hp; rw [← hp2] at hM; clear hp2
    refine mx_bne (tgt := 19) hx hb dX4_eventAt_13 (by decide) (fun c_13 => ?_) (fun c_13 => ?_)
    · rw [if_pos c_13] at E
      obtain ⟨hw1, _, hw2⟩ := in_n (a := 0) (b := 2) (by decide) c_13
      refine lv_iload_n hx hb dX4_eventAt_19 rfl (lv_at hl 1 rfl) ?_
      refine lv_aload_n hx hb dX4_eventAt_20 rfl (lv_at hl 0 rfl) ?_
      refine mx_get (v := .ref (pp 1)) X w in_X4 (ci := 3) rfl 0 (by decide) q2011 (fun _ h => h) hM.2.1 rfl dX4_eventAt_21 ?_
      refine lv_bipush (v := (19 : Int32)) hx hb dX4_eventAt_24 (by decide) ?_
      refine md_ald X w hM 1 (by decide) (by decide) 19 rfl (show 19 < 170 by decide) dX4_eventAt_26 ?_
      refine lv_icmp_lt (tgt := 33) hx hb dX4_eventAt_27 (by decide) (fun c_27 => ?_) (fun c_27 => ?_)
      · rw [if_pos c_27] at E
        obtain ⟨hx1, hx2⟩ := lt_n (n := ne) c_1 (by rw [← ene]; exact c_27) (by omega)
        refine lv_aload_n hx hb dX4_eventAt_33 rfl (lv_at hl 0 rfl) ?_
        refine mx_get (v := .ref (pp 1)) X w in_X4 (ci := 3) rfl 0 (by decide) q2011 (fun _ h => h) hM.2.1 rfl dX4_eventAt_34 ?_
        refine lv_sipush (v := (134 : Int32)) hx hb dX4_eventAt_37 (by decide) ?_
        refine lv_iconst (v := (3 : Int32)) hx hb dX4_eventAt_40 (by decide) ?_
        refine lv_iload_n hx hb dX4_eventAt_41 rfl (lv_at hl 1 rfl) ?_
        refine mx_cast (z := nI (tN index)) (hx1) ?_
        refine mx_nmul (u := 3) (v := tN index) hx hb rfl rfl dX4_eventAt_42 ?_
        refine mx_nadd (u := 134) (v := 3 * (tN index)) hx hb rfl rfl dX4_eventAt_43 ?_
        refine lv_iload_n hx hb dX4_eventAt_44 rfl (lv_at hl 2 rfl) ?_
        refine mx_cast (z := nI (tN what)) (hw1) ?_
        refine mx_nadd (u := 134 + 3 * (tN index)) (v := tN what) hx hb rfl rfl dX4_eventAt_45 ?_
        refine md_ald X w hM 1 (by decide) (by decide) (134 + 3 * (tN index) + (tN what)) rfl (show 134 + 3 * (tN index) + (tN what) < 170 by omega) dX4_eventAt_46 ?_
        refine lv_istore_n (lv' := [(3, .int (v 1 (134 + 3 * (tN index) + (tN what)))), (0, .ref (pp 0)), (1, .int index), (2, .int what)]) hx hb dX4_eventAt_47 rfl hl (by decide) rfl (fun ls hl => ?_)
        refine lv_iload_n hx hb dX4_eventAt_48 rfl (lv_at hl 3 rfl) ?_
        refine lv_iconst (v := (2 : Int32)) hx hb dX4_eventAt_49 (by decide) ?_
        have J64 : ∀ (is0_64 : Int32) (M : mh) (H : Heap) (locs : List Loc) (ls : Array Slot), mf_eventAt_64 v index what is0_64 = z → lv_has ls 4 [] → mW G A s M H locs → Mdl G pp M0 M v → W p l e R s m av below meth c H locs 0 0 Q (F0 m 64 ls [.int is0_64]) := by
          intro is0_64 M H locs ls  E hl w hM
          rw [mf_eventAt_64] at E
          exact fin is0_64 M H locs ls 64 dX4_eventAt_64 ⟨E, hM⟩ w
        have J63 : ∀  (M : mh) (H : Heap) (locs : List Loc) (ls : Array Slot), mf_eventAt_63 v index what  = z → lv_has ls 4 [(3, .int (v 1 (134 + 3 * (tN index) + (tN what))))] → mW G A s M H locs → Mdl G pp M0 M v → W p l e R s m av below meth c H locs 0 0 Q (F0 m 63 ls []) := by
          intro  M H locs ls  E hl w hM
          rw [mf_eventAt_63] at E
          refine lv_iload_n hx hb dX4_eventAt_63 rfl (lv_at hl 0 rfl) ?_
          exact J64 (v 1 (134 + 3 * (tN index) + (tN what))) M H locs ls E (lv_sub hl [] rfl) w hM
        refine lv_icmp_ne (tgt := 63) hx hb dX4_eventAt_50 (by decide) (fun c_50 => ?_) (fun c_50 => ?_)
        · rw [if_neg c_50] at E
          exact J63  M H locs ls E (lv_sub hl [0] rfl) w hM
        · rw [if_pos c_50] at E
          refine lv_iload_n hx hb dX4_eventAt_53 rfl (lv_at hl 0 rfl) ?_
          refine lv_iconst (v := (-1 : Int32)) hx hb dX4_eventAt_54 (by decide) ?_
          refine lv_icmp_ne (tgt := 63) hx hb dX4_eventAt_55 (by decide) (fun c_55 => ?_) (fun c_55 => ?_)
          · rw [if_neg c_55] at E
            exact J63  M H locs ls E (lv_sub hl [0] rfl) w hM
          · rw [if_pos c_55] at E
            refine lv_ldc (v := (-1000004 : Int32)) hx hb X.2.2.2.1 (X.2.2.2.2 _ q2163) dX4_eventAt_58 ?_
            refine lv_goto (tgt := 64) hx hb dX4_eventAt_60 (by decide) ?_
            exact J64 (-1000004 : Int32) M H locs ls E (lv_sub hl [] rfl) w hM
      · rw [if_neg c_27] at E
        refine lv_ldc (v := (-1000004 : Int32)) hx hb X.2.2.2.1 (X.2.2.2.2 _ q2163) dX4_eventAt_30 ?_
        exact fin (-1000004 : Int32) M H locs ls 32 dX4_eventAt_32 ⟨E, hM⟩ w
    · rw [if_neg c_13] at E
      exact J16  M H locs ls E (lv_sub hl [] rfl) w hM
def mf_count_141 (v : (Nat → Nat → Int32)) (what : Int32) (is0_141 : Int32) : Int32 := is0_141
def mf_count (v : (Nat → Nat → Int32)) (what : Int32) : Int32 := (if what = (0 : Int32) then (v 1 (14 + 0)) else (if what = (1 : Int32) then (v 1 (14 + 1)) else (if what = (2 : Int32) then (v 1 (14 + 2)) else (if what = (3 : Int32) then (mf_openZones v ) else (if what = (4 : Int32) then (mf_readyPumps v ) else (if what = (5 : Int32) then (v 1 ((18 + 5) - 5)) else (if what = (6 : Int32) then (v 1 ((18 + 6) - 5)) else (if what = (7 : Int32) then (v 1 0) else (if what = (8 : Int32) then (mf_minuteOfDay v ) else (if what = (9 : Int32) then (v 0 2) else (if what = (10 : Int32) then (v 0 6) else (if (mf_in what.toInt64 (20 : Int64) (38 : Int64)) = true then (mf_count_141 v what (mf_setting v ((tN what) - 20))) else (mf_count_141 v what (-1000001 : Int32))))))))))))))
set_option maxHeartbeats 4000000 in
set_option maxRecDepth 100000 in
theorem mt_count (l : Launch) (G : mg) (A : Nat → Prop) (pp : Nat → Nat) (M0 : mh) (v : Nat → Nat → Int32) (what : Int32) (T np nz ng : Nat) (hI : IP T np nz ng (v 1)) : Met l yX4_count (ws_ yX4_count cX4_count 2 (some .int)) ({ frames := 4, cells := 0, slots := 0, locals := 86 }) (va_Pc [.ref (pp 0), .int what] (mU G A (fun M => Mdl G pp M0 M v))) (mQi G A (fun r M => r = mf_count v what ∧ Mdl G pp M0 M v)) 0 0 A := by
  refine mx_ofi (by decide) (Nat.le_of_ble_eq_true rfl) ?_
  intro p e R s m av below meth c M H Q ls X hRf hRl hRc hRs hin hM w fin hl
  have X : CallFix p m c cX4_count 2 s av lw_all "FieldPumpsModel" := X
  have hx := X.1
  have hb := X.2.1
  have hl : lv_has ls 2 [(0, .ref (pp 0)), (1, .int what)] := hl
  have hRf : R.frames = 4 := hRf
  have hRl : R.locals = 86 := hRl
  generalize ([] : List Loc) = locs at w ⊢
  generalize E : mf_count v what = z at fin
  rw [mf_count] at E
  have hb6 := hI.b
  have hcp := hI.cp
  have hcz := hI.cz
  have hcg := hI.cg
  refine lv_iload_n hx hb dX4_count_0 rfl (lv_at hl 1 rfl) ?_
  by_cases c_1_0 : what = (0 : Int32)
  · rw [if_pos c_1_0] at E
    refine lv_tableIn (tgt := 60) hx hb dX4_count_1 (by rw [c_1_0]; decide) (by rw [c_1_0]; decide) (by rw [c_1_0]; rfl) (by decide) ?_
    subst c_1_0
    refine lv_aload_n hx hb dX4_count_60 rfl (lv_at hl 0 rfl) ?_
    refine mx_get (v := .ref (pp 1)) X w in_X4 (ci := 3) rfl 0 (by decide) q2011 (fun _ h => h) hM.2.1 rfl dX4_count_61 ?_
    refine lv_bipush (v := (14 : Int32)) hx hb dX4_count_64 (by decide) ?_
    refine lv_iload_n hx hb dX4_count_66 rfl (lv_at hl 1 rfl) ?_
    refine mx_nadd (u := 14) (v := 0) hx hb rfl rfl dX4_count_67 ?_
    refine md_ald X w hM 1 (by decide) (by decide) (14 + 0) rfl (show 14 + 0 < 170 by omega) dX4_count_68 ?_
    exact fin (v 1 (14 + 0)) M H locs ls 69 dX4_count_69 ⟨E, hM⟩ w
  · rw [if_neg c_1_0] at E
    by_cases c_1_1 : what = (1 : Int32)
    · rw [if_pos c_1_1] at E
      refine lv_tableIn (tgt := 60) hx hb dX4_count_1 (by rw [c_1_1]; decide) (by rw [c_1_1]; decide) (by rw [c_1_1]; rfl) (by decide) ?_
      subst c_1_1
      refine lv_aload_n hx hb dX4_count_60 rfl (lv_at hl 0 rfl) ?_
      refine mx_get (v := .ref (pp 1)) X w in_X4 (ci := 3) rfl 0 (by decide) q2011 (fun _ h => h) hM.2.1 rfl dX4_count_61 ?_
      refine lv_bipush (v := (14 : Int32)) hx hb dX4_count_64 (by decide) ?_
      refine lv_iload_n hx hb dX4_count_66 rfl (lv_at hl 1 rfl) ?_
      refine mx_nadd (u := 14) (v := 1) hx hb rfl rfl dX4_count_67 ?_
      refine md_ald X w hM 1 (by decide) (by decide) (14 + 1) rfl (show 14 + 1 < 170 by omega) dX4_count_68 ?_
      exact fin (v 1 (14 + 1)) M H locs ls 69 dX4_count_69 ⟨E, hM⟩ w
    · rw [if_neg c_1_1] at E
      by_cases c_1_2 : what = (2 : Int32)
      · rw [if_pos c_1_2] at E
        refine lv_tableIn (tgt := 60) hx hb dX4_count_1 (by rw [c_1_2]; decide) (by rw [c_1_2]; decide) (by rw [c_1_2]; rfl) (by decide) ?_
        subst c_1_2
        refine lv_aload_n hx hb dX4_count_60 rfl (lv_at hl 0 rfl) ?_
        refine mx_get (v := .ref (pp 1)) X w in_X4 (ci := 3) rfl 0 (by decide) q2011 (fun _ h => h) hM.2.1 rfl dX4_count_61 ?_
        refine lv_bipush (v := (14 : Int32)) hx hb dX4_count_64 (by decide) ?_
        refine lv_iload_n hx hb dX4_count_66 rfl (lv_at hl 1 rfl) ?_
        refine mx_nadd (u := 14) (v := 2) hx hb rfl rfl dX4_count_67 ?_
        refine md_ald X w hM 1 (by decide) (by decide) (14 + 2) rfl (show 14 + 2 < 170 by omega) dX4_count_68 ?_
        exact fin (v 1 (14 + 2)) M H locs ls 69 dX4_count_69 ⟨E, hM⟩ w
      · rw [if_neg c_1_2] at E
        by_cases c_1_3 : what = (3 : Int32)
        · rw [if_pos c_1_3] at E
          refine lv_tableIn (tgt := 70) hx hb dX4_count_1 (by rw [c_1_3]; decide) (by rw [c_1_3]; decide) (by rw [c_1_3]; rfl) (by decide) ?_
          subst c_1_3
          refine lv_aload_n hx hb dX4_count_70 rfl (lv_at hl 0 rfl) ?_
          refine mx_bi w (va_runV (As := []) (rest := []) X (mt_openZones l G A pp M0 v  nz (hI.enz) (hI.z8)) (cwV 0 X.2.2.2.2 (lw_V q2184 q2186 qs63 q113 q2187) rfl rfl rfl (by decide +kernel) ⟨by rw [hRf]; decide, by rw [hRl]; decide⟩) (mx_preV w hM hM.2.1 rfl) rfl rfl hl.1 rfl (lv_room (Nat.le_of_ble_eq_true rfl)) dX4_count_71 ⟨Nat.zero_le _, Nat.zero_le _⟩) (fun r M H locs hp w => ?_)
          obtain ⟨rfl, hM⟩ := hp
          exact fin (mf_openZones v ) M H locs ls 74 dX4_count_74 ⟨E, hM⟩ w
        · rw [if_neg c_1_3] at E
          by_cases c_1_4 : what = (4 : Int32)
          · rw [if_pos c_1_4] at E
            refine lv_tableIn (tgt := 75) hx hb dX4_count_1 (by rw [c_1_4]; decide) (by rw [c_1_4]; decide) (by rw [c_1_4]; rfl) (by decide) ?_
            subst c_1_4
            refine lv_aload_n hx hb dX4_count_75 rfl (lv_at hl 0 rfl) ?_
            refine mx_bi w (va_runV (As := []) (rest := []) X (mt_readyPumps l G A pp M0 v  np (hI.enp) (hI.n6)) (cwV 0 X.2.2.2.2 (lw_V q2341 q2343 qs88 q113 q2344) rfl rfl rfl (by decide +kernel) ⟨by rw [hRf]; decide, by rw [hRl]; decide⟩) (mx_preV w hM hM.2.1 rfl) rfl rfl hl.1 rfl (lv_room (Nat.le_of_ble_eq_true rfl)) dX4_count_76 ⟨Nat.zero_le _, Nat.zero_le _⟩) (fun r M H locs hp w => ?_)
            obtain ⟨rfl, hM⟩ := hp
            exact fin (mf_readyPumps v ) M H locs ls 79 dX4_count_79 ⟨E, hM⟩ w
          · rw [if_neg c_1_4] at E
            by_cases c_1_5 : what = (5 : Int32)
            · rw [if_pos c_1_5] at E
              refine lv_tableIn (tgt := 80) hx hb dX4_count_1 (by rw [c_1_5]; decide) (by rw [c_1_5]; decide) (by rw [c_1_5]; rfl) (by decide) ?_
              subst c_1_5
              refine lv_aload_n hx hb dX4_count_80 rfl (lv_at hl 0 rfl) ?_
              refine mx_get (v := .ref (pp 1)) X w in_X4 (ci := 3) rfl 0 (by decide) q2011 (fun _ h => h) hM.2.1 rfl dX4_count_81 ?_
              refine lv_bipush (v := (18 : Int32)) hx hb dX4_count_84 (by decide) ?_
              refine lv_iload_n hx hb dX4_count_86 rfl (lv_at hl 1 rfl) ?_
              refine mx_nadd (u := 18) (v := 5) hx hb rfl rfl dX4_count_87 ?_
              refine lv_iconst (v := (5 : Int32)) hx hb dX4_count_88 (by decide) ?_
              refine mx_nsub (u := 18 + 5) (v := 5) hx hb rfl rfl (by omega) dX4_count_89 ?_
              refine md_ald X w hM 1 (by decide) (by decide) ((18 + 5) - 5) rfl (show (18 + 5) - 5 < 170 by omega) dX4_count_90 ?_
              exact fin (v 1 ((18 + 5) - 5)) M H locs ls 91 dX4_count_91 ⟨E, hM⟩ w
            · rw [if_neg c_1_5] at E
              by_cases c_1_6 : what = (6 : Int32)
              · rw [if_pos c_1_6] at E
                refine lv_tableIn (tgt := 80) hx hb dX4_count_1 (by rw [c_1_6]; decide) (by rw [c_1_6]; decide) (by rw [c_1_6]; rfl) (by decide) ?_
                subst c_1_6
                refine lv_aload_n hx hb dX4_count_80 rfl (lv_at hl 0 rfl) ?_
                refine mx_get (v := .ref (pp 1)) X w in_X4 (ci := 3) rfl 0 (by decide) q2011 (fun _ h => h) hM.2.1 rfl dX4_count_81 ?_
                refine lv_bipush (v := (18 : Int32)) hx hb dX4_count_84 (by decide) ?_
                refine lv_iload_n hx hb dX4_count_86 rfl (lv_at hl 1 rfl) ?_
                refine mx_nadd (u := 18) (v := 6) hx hb rfl rfl dX4_count_87 ?_
                refine lv_iconst (v := (5 : Int32)) hx hb dX4_count_88 (by decide) ?_
                refine mx_nsub (u := 18 + 6) (v := 5) hx hb rfl rfl (by omega) dX4_count_89 ?_
                refine md_ald X w hM 1 (by decide) (by decide) ((18 + 6) - 5) rfl (show (18 + 6) - 5 < 170 by omega) dX4_count_90 ?_
                exact fin (v 1 ((18 + 6) - 5)) M H locs ls 91 dX4_count_91 ⟨E, hM⟩ w
              · rw [if_neg c_1_6] at E
                by_cases c_1_7 : what = (7 : Int32)
                · rw [if_pos c_1_7] at E
                  refine lv_tableIn (tgt := 92) hx hb dX4_count_1 (by rw [c_1_7]; decide) (by rw [c_1_7]; decide) (by rw [c_1_7]; rfl) (by decide) ?_
                  subst c_1_7
                  refine lv_aload_n hx hb dX4_count_92 rfl (lv_at hl 0 rfl) ?_
                  refine mx_get (v := .ref (pp 1)) X w in_X4 (ci := 3) rfl 0 (by decide) q2011 (fun _ h => h) hM.2.1 rfl dX4_count_93 ?_
                  refine lv_iconst (v := (0 : Int32)) hx hb dX4_count_96 (by decide) ?_
                  refine md_ald X w hM 1 (by decide) (by decide) 0 rfl (show 0 < 170 by decide) dX4_count_97 ?_
                  exact fin (v 1 0) M H locs ls 98 dX4_count_98 ⟨E, hM⟩ w
                · rw [if_neg c_1_7] at E
                  by_cases c_1_8 : what = (8 : Int32)
                  · rw [if_pos c_1_8] at E
                    refine lv_tableIn (tgt := 99) hx hb dX4_count_1 (by rw [c_1_8]; decide) (by rw [c_1_8]; decide) (by rw [c_1_8]; rfl) (by decide) ?_
                    subst c_1_8
                    refine lv_aload_n hx hb dX4_count_99 rfl (lv_at hl 0 rfl) ?_
                    refine mx_bi w (va_runV (As := []) (rest := []) X (mt_minuteOfDay l G A pp M0 v   ) (cwV 0 X.2.2.2.2 (lw_V q2239 q2241 qs70 q113 q2242) rfl rfl rfl (by decide +kernel) ⟨by rw [hRf]; decide, by rw [hRl]; decide⟩) (mx_preV w hM hM.2.1 rfl) rfl rfl hl.1 rfl (lv_room (Nat.le_of_ble_eq_true rfl)) dX4_count_100 ⟨Nat.zero_le _, Nat.zero_le _⟩) (fun r M H locs hp w => ?_)
                    obtain ⟨rfl, hM⟩ := hp
                    exact fin (mf_minuteOfDay v ) M H locs ls 103 dX4_count_103 ⟨E, hM⟩ w
                  · rw [if_neg c_1_8] at E
                    by_cases c_1_9 : what = (9 : Int32)
                    · rw [if_pos c_1_9] at E
                      refine lv_tableIn (tgt := 104) hx hb dX4_count_1 (by rw [c_1_9]; decide) (by rw [c_1_9]; decide) (by rw [c_1_9]; rfl) (by decide) ?_
                      subst c_1_9
                      refine lv_aload_n hx hb dX4_count_104 rfl (lv_at hl 0 rfl) ?_
                      refine mx_get (v := .int (v 0 2)) X w in_X4 (ci := 3) rfl 2 (by decide) q2013 (fun _ h => h) hM.2.1 rfl dX4_count_105 ?_
                      exact fin (v 0 2) M H locs ls 108 dX4_count_108 ⟨E, hM⟩ w
                    · rw [if_neg c_1_9] at E
                      by_cases c_1_10 : what = (10 : Int32)
                      · rw [if_pos c_1_10] at E
                        refine lv_tableIn (tgt := 109) hx hb dX4_count_1 (by rw [c_1_10]; decide) (by rw [c_1_10]; decide) (by rw [c_1_10]; rfl) (by decide) ?_
                        subst c_1_10
                        refine lv_aload_n hx hb dX4_count_109 rfl (lv_at hl 0 rfl) ?_
                        refine mx_get (v := .int (v 0 6)) X w in_X4 (ci := 3) rfl 6 (by decide) q2017 (fun _ h => h) hM.2.1 rfl dX4_count_110 ?_
                        exact fin (v 0 6) M H locs ls 113 dX4_count_113 ⟨E, hM⟩ w
                      · rw [if_neg c_1_10] at E
                        refine lv_tableOut (tgt := 114) hx hb dX4_count_1 (Classical.byContradiction fun hh => by
                          have h2 : what.toInt = 0 ∨ what.toInt = 1 ∨ what.toInt = 2 ∨ what.toInt = 3 ∨ what.toInt = 4 ∨ what.toInt = 5 ∨ what.toInt = 6 ∨ what.toInt = 7 ∨ what.toInt = 8 ∨ what.toInt = 9 ∨ what.toInt = 10 := by omega
                          rcases h2 with h | h | h | h | h | h | h | h | h | h | h
                          · exact lv_neT c_1_0 rfl h
                          · exact lv_neT c_1_1 rfl h
                          · exact lv_neT c_1_2 rfl h
                          · exact lv_neT c_1_3 rfl h
                          · exact lv_neT c_1_4 rfl h
                          · exact lv_neT c_1_5 rfl h
                          · exact lv_neT c_1_6 rfl h
                          · exact lv_neT c_1_7 rfl h
                          · exact lv_neT c_1_8 rfl h
                          · exact lv_neT c_1_9 rfl h
                          · exact lv_neT c_1_10 rfl h) (by decide) ?_
                        refine lv_iload_n hx hb dX4_count_114 rfl (lv_at hl 1 rfl) ?_
                        refine lv_i2l hx hb dX4_count_115 rfl ?_
                        refine lv_ldc2 (v := (20 : Int64)) hx hb X.2.2.2.1 (X.2.2.2.2 _ q2345) dX4_count_116 ?_
                        refine lv_ldc2 (v := (38 : Int64)) hx hb X.2.2.2.1 (X.2.2.2.2 _ q2346) dX4_count_119 ?_
                        refine mx_bi w (va_runS (As := [.long what.toInt64, .long (20 : Int64), .long (38 : Int64)]) (rest := []) X (mt_in l G A M what.toInt64 (20 : Int64) (38 : Int64)  ) (va_cwS 3 X.2.2.2.2 (lw_S q2060 q2061 q113 q2062) rfl rfl rfl (by decide +kernel) ⟨by rw [hRf]; decide, by rw [hRl]; decide⟩) (mx_preS w rfl) rfl rfl hl.1 rfl (lv_room (Nat.le_of_ble_eq_true rfl)) dX4_count_122 ⟨Nat.zero_le _, Nat.zero_le _⟩) (fun r M H locs hp w => ?_)
                        obtain ⟨rfl, hp2⟩ := hp; rw [← hp2] at hM; clear hp2
                        have J141 : ∀ (is0_141 : Int32) (M : mh) (H : Heap) (locs : List Loc) (ls : Array Slot), mf_count_141 v what is0_141 = z → lv_has ls 2 [] → mW G A s M H locs → Mdl G pp M0 M v → W p l e R s m av below meth c H locs 0 0 Q (F0 m 141 ls [.int is0_141]) := by
                          intro is0_141 M H locs ls  E hl w hM
                          rw [mf_count_141] at E
                          exact fin is0_141 M H locs ls 141 dX4_count_141 ⟨E, hM⟩ w
                        refine mx_beq (tgt := 139) hx hb dX4_count_125 (by decide) (fun c_125 => ?_) (fun c_125 => ?_)
                        · rw [if_neg c_125] at E
                          refine lv_ldc (v := (-1000001 : Int32)) hx hb X.2.2.2.1 (X.2.2.2.2 _ q2073) dX4_count_139 ?_
                          exact J141 (-1000001 : Int32) M H locs ls E (lv_sub hl [] rfl) w hM
                        · rw [if_pos c_125] at E
                          obtain ⟨hw1, hw2, hw3⟩ := in_n (a := 20) (b := 38) (by decide) c_125
                          refine lv_aload_n hx hb dX4_count_128 rfl (lv_at hl 0 rfl) ?_
                          refine lv_iload_n hx hb dX4_count_129 rfl (lv_at hl 1 rfl) ?_
                          refine mx_cast (z := nI (tN what)) (hw1) ?_
                          refine lv_bipush (v := (20 : Int32)) hx hb dX4_count_130 (by decide) ?_
                          refine mx_nsub (u := tN what) (v := 20) hx hb rfl rfl (by omega) dX4_count_132 ?_
                          refine mx_bi w (va_runV (As := [.int (nI ((tN what) - 20))]) (rest := []) X (mt_setting l G A pp M0 v ((tN what) - 20)  (by first | omega | assumption)) (cwV 1 X.2.2.2.2 (lw_V q2078 q2080 qs47 q113 q2081) rfl rfl rfl (by decide +kernel) ⟨by rw [hRf]; decide, by rw [hRl]; decide⟩) (mx_preV w hM hM.2.1 rfl) rfl rfl hl.1 rfl (lv_room (Nat.le_of_ble_eq_true rfl)) dX4_count_133 ⟨Nat.zero_le _, Nat.zero_le _⟩) (fun r M H locs hp w => ?_)
                          obtain ⟨rfl, hM⟩ := hp
                          refine lv_goto (tgt := 141) hx hb dX4_count_136 (by decide) ?_
                          exact J141 (mf_setting v ((tN what) - 20)) M H locs ls E (lv_sub hl [] rfl) w hM
def mf_undo_22 (v : (Nat → Nat → Int32)) : Nat → Nat → (Nat → Nat → Int32) → (Int32 × (Nat → Nat → Int32))
  | 0, _, v_22 => ((-1), v_22)
  | n_22 + 1, n1_22, v_22 => (if 170 ≤ n1_22 then ((v_22 0 2), v_22) else ( (mf_undo_22 v n_22) (n1_22 + 1) (u2 v_22 1 n1_22 (v_22 2 (170 * tN ((v 0 2) - (1 : Int32)) + n1_22)))))
def mf_undo (v : (Nat → Nat → Int32)) : Int32 × (Nat → Nat → Int32) := (if (v 0 2) = 0 then ((-1000002 : Int32), v) else (mf_undo_22 v 180 0 (u2 v 0 2 ((v 0 2) - (1 : Int32)))))
set_option maxHeartbeats 4000000 in
set_option maxRecDepth 100000 in
theorem mt_undo (l : Launch) (G : mg) (A : Nat → Prop) (pp : Nat → Nat) (M0 : mh) (v : Nat → Nat → Int32)  (hs : rg (v 0 2) 4) : Met l yX4_undo (ws_ yX4_undo cX4_undo 2 (some .int)) ({ frames := 0, cells := 0, slots := 0, locals := 0 }) (va_Pc [.ref (pp 0)] (mU G A (fun M => Mdl G pp M0 M v))) (mQi G A (fun r M => r = (mf_undo v).1 ∧ Mdl G pp M0 M (mf_undo v).2)) 0 0 A := by
  refine mx_ofi (by decide) (Nat.le_of_ble_eq_true rfl) ?_
  intro p e R s m av below meth c M H Q ls X hRf hRl hRc hRs hin hM w fin hl
  have X : CallFix p m c cX4_undo 2 s av lw_all "FieldPumpsModel" := X
  have hx := X.1
  have hb := X.2.1
  have hl : lv_has ls 2 [(0, .ref (pp 0))] := hl
  have hRf : R.frames = 0 := hRf
  have hRl : R.locals = 0 := hRl
  generalize ([] : List Loc) = locs at w ⊢
  generalize E : mf_undo v = z at fin
  rw [mf_undo] at E
  refine lv_aload_n hx hb dX4_undo_0 rfl (lv_at hl 0 rfl) ?_
  refine mx_get (v := .int (v 0 2)) X w in_X4 (ci := 3) rfl 2 (by decide) q2013 (fun _ h => h) hM.2.1 rfl dX4_undo_1 ?_
  refine lv_if_ne (tgt := 10) hx hb dX4_undo_4 (by decide) (fun c_4 => ?_) (fun c_4 => ?_)
  · rw [if_neg c_4] at E
    refine lv_aload_n hx hb dX4_undo_10 rfl (lv_at hl 0 rfl) ?_
    refine lv_dup hx hb dX4_undo_11 rfl ?_
    refine mx_get (v := .int (v 0 2)) X w in_X4 (ci := 3) rfl 2 (by decide) q2013 (fun _ h => h) hM.2.1 rfl dX4_undo_12 ?_
    refine lv_iconst (v := (1 : Int32)) hx hb dX4_undo_15 (by decide) ?_
    refine lv_isub hx hb dX4_undo_16 ?_
    refine md_put (x := ((v 0 2) - (1 : Int32))) X w hM 2 (by decide) q2013 rfl rfl rfl dX4_undo_17 (fun M H locs w hM => ?_)
    obtain ⟨hu1, hu2⟩ := rg_n (rg_dec hs c_4) (by decide)
    refine lv_iconst (v := (0 : Int32)) hx hb dX4_undo_20 (by decide) ?_
    refine lv_istore_n (lv' := [(1, .int (0 : Int32)), (0, .ref (pp 0))]) hx hb dX4_undo_21 rfl hl (by decide) rfl (fun ls hl => ?_)
    have L22 : ∀ (n_22 : Nat) (n1_22 : Nat) (v_22 : (Nat → Nat → Int32)) (M : mh) (H : Heap) (locs : List Loc) (ls : Array Slot), (hs2 : v_22 0 2 = (v 0 2) - (1 : Int32)) → (hi : n1_22 ≤ 170) → (hm : 170 < n1_22 + n_22) → mf_undo_22 v n_22 n1_22 v_22 = z → lv_has ls 2 [(0, .ref (pp 0)), (1, .int (nI n1_22))] → mW G A s M H locs → Mdl G pp M0 M v_22 → W p l e R s m av below meth c H locs 0 0 Q (F0 m 22 ls []) := by
      intro n_22
      induction n_22 with
      | zero =>
        intro n1_22 v_22 M H locs ls hs2 hi hm E hl w hM
        exfalso; omega
      | succ n_22 ih_22 =>
        intro n1_22 v_22 M H locs ls hs2 hi hm E hl w hM
        rw [mf_undo_22] at E
        refine lv_iload_n hx hb dX4_undo_22 rfl (lv_at hl 1 rfl) ?_
        refine lv_sipush (v := (170 : Int32)) hx hb dX4_undo_23 (by decide) ?_
        refine mx_nge (u := n1_22) (v := 170) (tgt := 56) hx hb rfl rfl (by omega) (by omega) dX4_undo_26 (by decide) (fun c_26 => ?_) (fun c_26 => ?_)
        · rw [if_pos c_26] at E
          refine lv_aload_n hx hb dX4_undo_56 rfl (lv_at hl 0 rfl) ?_
          refine mx_get (v := .int (v_22 0 2)) X w in_X4 (ci := 3) rfl 2 (by decide) q2013 (fun _ h => h) hM.2.1 rfl dX4_undo_57 ?_
          exact fin (v_22 0 2) M H locs ls 60 dX4_undo_60 ⟨by rw [← E], by rw [← E]; exact hM⟩ w
        · rw [if_neg c_26] at E
          refine lv_aload_n hx hb dX4_undo_29 rfl (lv_at hl 0 rfl) ?_
          refine mx_get (v := .ref (pp 1)) X w in_X4 (ci := 3) rfl 0 (by decide) q2011 (fun _ h => h) hM.2.1 rfl dX4_undo_30 ?_
          refine lv_iload_n hx hb dX4_undo_33 rfl (lv_at hl 1 rfl) ?_
          refine lv_aload_n hx hb dX4_undo_34 rfl (lv_at hl 0 rfl) ?_
          refine mx_get (v := .ref (pp 2)) X w in_X4 (ci := 3) rfl 1 (by decide) q2012 (fun _ h => h) hM.2.1 rfl dX4_undo_35 ?_
          refine lv_sipush (v := (170 : Int32)) hx hb dX4_undo_38 (by decide) ?_
          refine lv_aload_n hx hb dX4_undo_41 rfl (lv_at hl 0 rfl) ?_
          refine mx_get (v := .int (v_22 0 2)) X w in_X4 (ci := 3) rfl 2 (by decide) q2013 (fun _ h => h) hM.2.1 rfl dX4_undo_42 ?_
          refine mx_cast (z := nI (tN ((v 0 2) - (1 : Int32)))) (by rw [hs2]; exact hu1) ?_
          refine mx_nmul (u := 170) (v := tN ((v 0 2) - (1 : Int32))) hx hb rfl rfl dX4_undo_45 ?_
          refine lv_iload_n hx hb dX4_undo_46 rfl (lv_at hl 1 rfl) ?_
          refine mx_nadd (u := 170 * tN ((v 0 2) - (1 : Int32))) (v := n1_22) hx hb rfl rfl dX4_undo_47 ?_
          refine md_ald X w hM 2 (by decide) (by decide) (170 * tN ((v 0 2) - (1 : Int32)) + n1_22) rfl (show 170 * tN ((v 0 2) - (1 : Int32)) + n1_22 < 680 by omega) dX4_undo_48 ?_
          refine md_ast (x := (v_22 2 (170 * tN ((v 0 2) - (1 : Int32)) + n1_22))) X w hM 1 (by decide) (by decide) n1_22 rfl (show n1_22 < 170 by omega) dX4_undo_49 (fun M H locs w hM => ?_)
          refine lv_iinc (v := (nI (n1_22 + 1))) (lv' := [(1, .int (nI (n1_22 + 1))), (0, .ref (pp 0))]) hx hb dX4_undo_50 hl (k := 1) rfl (nI_incr _ 1) (by decide) rfl (fun ls hl => ?_)
          refine lv_goto (tgt := 22) hx hb dX4_undo_53 (by decide) ?_
          exact ih_22 (n1_22 + 1) (u2 v_22 1 n1_22 (v_22 2 (170 * tN ((v 0 2) - (1 : Int32)) + n1_22))) M H locs ls (by first | omega | assumption | exact (by rw [u2_r (by decide)]; exact hs2)) (by first | omega | assumption) (by first | omega | assumption) E (lv_sub hl [1, 0] rfl) w hM
    exact L22 180 0 (u2 v 0 2 ((v 0 2) - (1 : Int32))) M H locs ls (by first | omega | assumption | exact u2_s) (by first | omega | assumption) (by first | omega | assumption) E (lv_sub hl [1, 0] rfl) w hM
  · rw [if_pos c_4] at E
    refine lv_ldc (v := (-1000002 : Int32)) hx hb X.2.2.2.1 (X.2.2.2.2 _ q2105) dX4_undo_7 ?_
    exact fin (-1000002 : Int32) M H locs ls 9 dX4_undo_9 ⟨by rw [← E], by rw [← E]; exact hM⟩ w
def mf_type (v : (Nat → Nat → Int32)) (ch : Int32) : Int32 × (Nat → Nat → Int32) := (if (mf_in ch.toInt64 (32 : Int64) (126 : Int64)) = true then (if (v 0 6) = (60 : Int32) then ((-1000003 : Int32), v) else (((u2 (u2 v 4 (tN (v 0 6)) ch) 0 6 (((u2 v 4 (tN (v 0 6)) ch) 0 6) + (1 : Int32))) 0 6), (u2 (u2 v 4 (tN (v 0 6)) ch) 0 6 (((u2 v 4 (tN (v 0 6)) ch) 0 6) + (1 : Int32))))) else ((-1000001 : Int32), v))
set_option maxHeartbeats 4000000 in
set_option maxRecDepth 100000 in
theorem mt_type (l : Launch) (G : mg) (A : Nat → Prop) (pp : Nat → Nat) (M0 : mh) (v : Nat → Nat → Int32) (ch : Int32) (ht : rg (v 0 6) 60) : Met l yX4_type (ws_ yX4_type cX4_type 2 (some .int)) ({ frames := 1, cells := 0, slots := 0, locals := 25 }) (va_Pc [.ref (pp 0), .int ch] (mU G A (fun M => Mdl G pp M0 M v))) (mQi G A (fun r M => r = (mf_type v ch).1 ∧ Mdl G pp M0 M (mf_type v ch).2)) 0 0 A := by
  refine mx_ofi (by decide) (Nat.le_of_ble_eq_true rfl) ?_
  intro p e R s m av below meth c M H Q ls X hRf hRl hRc hRs hin hM w fin hl
  have X : CallFix p m c cX4_type 2 s av lw_all "FieldPumpsModel" := X
  have hx := X.1
  have hb := X.2.1
  have hl : lv_has ls 2 [(0, .ref (pp 0)), (1, .int ch)] := hl
  have hRf : R.frames = 1 := hRf
  have hRl : R.locals = 25 := hRl
  generalize ([] : List Loc) = locs at w ⊢
  generalize E : mf_type v ch = z at fin
  rw [mf_type] at E
  refine lv_iload_n hx hb dX4_type_0 rfl (lv_at hl 1 rfl) ?_
  refine lv_i2l hx hb dX4_type_1 rfl ?_
  refine lv_ldc2 (v := (32 : Int64)) hx hb X.2.2.2.1 (X.2.2.2.2 _ q2355) dX4_type_2 ?_
  refine lv_ldc2 (v := (126 : Int64)) hx hb X.2.2.2.1 (X.2.2.2.2 _ q2356) dX4_type_5 ?_
  refine mx_bi w (va_runS (As := [.long ch.toInt64, .long (32 : Int64), .long (126 : Int64)]) (rest := []) X (mt_in l G A M ch.toInt64 (32 : Int64) (126 : Int64)  ) (va_cwS 3 X.2.2.2.2 (lw_S q2060 q2061 q113 q2062) rfl rfl rfl (by decide +kernel) ⟨by rw [hRf]; decide, by rw [hRl]; decide⟩) (mx_preS w rfl) rfl rfl hl.1 rfl (lv_room (Nat.le_of_ble_eq_true rfl)) dX4_type_8 ⟨Nat.zero_le _, Nat.zero_le _⟩) (fun r M H locs hp w => ?_)
  obtain ⟨rfl, hp2⟩ := hp; rw [← hp2] at hM; clear hp2
  refine mx_bne (tgt := 17) hx hb dX4_type_11 (by decide) (fun c_11 => ?_) (fun c_11 => ?_)
  · rw [if_pos c_11] at E
    refine lv_aload_n hx hb dX4_type_17 rfl (lv_at hl 0 rfl) ?_
    refine mx_get (v := .int (v 0 6)) X w in_X4 (ci := 3) rfl 6 (by decide) q2017 (fun _ h => h) hM.2.1 rfl dX4_type_18 ?_
    refine lv_bipush (v := (60 : Int32)) hx hb dX4_type_21 (by decide) ?_
    refine lv_icmp_ne (tgt := 29) hx hb dX4_type_23 (by decide) (fun c_23 => ?_) (fun c_23 => ?_)
    · rw [if_neg c_23] at E
      obtain ⟨ht1, ht2⟩ := rg_n ht (by decide)
      have ht3 := cnt_lt (m := 60) ht1 ht2 c_23
      refine lv_aload_n hx hb dX4_type_29 rfl (lv_at hl 0 rfl) ?_
      refine mx_get (v := .ref (pp 4)) X w in_X4 (ci := 3) rfl 5 (by decide) q2016 (fun _ h => h) hM.2.1 rfl dX4_type_30 ?_
      refine lv_aload_n hx hb dX4_type_33 rfl (lv_at hl 0 rfl) ?_
      refine mx_get (v := .int (v 0 6)) X w in_X4 (ci := 3) rfl 6 (by decide) q2017 (fun _ h => h) hM.2.1 rfl dX4_type_34 ?_
      refine mx_cast (z := nI (tN (v 0 6))) (ht1) ?_
      refine lv_iload_n hx hb dX4_type_37 rfl (lv_at hl 1 rfl) ?_
      refine md_ast (x := ch) X w hM 4 (by decide) (by decide) (tN (v 0 6)) rfl (show tN (v 0 6) < 60 by omega) dX4_type_38 (fun M H locs w hM => ?_)
      refine lv_aload_n hx hb dX4_type_39 rfl (lv_at hl 0 rfl) ?_
      refine lv_dup hx hb dX4_type_40 rfl ?_
      refine mx_get (v := .int ((u2 v 4 (tN (v 0 6)) ch) 0 6)) X w in_X4 (ci := 3) rfl 6 (by decide) q2017 (fun _ h => h) hM.2.1 rfl dX4_type_41 ?_
      refine lv_iconst (v := (1 : Int32)) hx hb dX4_type_44 (by decide) ?_
      refine lv_iadd hx hb dX4_type_45 ?_
      refine md_put (x := (((u2 v 4 (tN (v 0 6)) ch) 0 6) + (1 : Int32))) X w hM 6 (by decide) q2017 rfl rfl rfl dX4_type_46 (fun M H locs w hM => ?_)
      refine lv_aload_n hx hb dX4_type_49 rfl (lv_at hl 0 rfl) ?_
      refine mx_get (v := .int ((u2 (u2 v 4 (tN (v 0 6)) ch) 0 6 (((u2 v 4 (tN (v 0 6)) ch) 0 6) + (1 : Int32))) 0 6)) X w in_X4 (ci := 3) rfl 6 (by decide) q2017 (fun _ h => h) hM.2.1 rfl dX4_type_50 ?_
      exact fin ((u2 (u2 v 4 (tN (v 0 6)) ch) 0 6 (((u2 v 4 (tN (v 0 6)) ch) 0 6) + (1 : Int32))) 0 6) M H locs ls 53 dX4_type_53 ⟨by rw [← E], by rw [← E]; exact hM⟩ w
    · rw [if_pos c_23] at E
      refine lv_ldc (v := (-1000003 : Int32)) hx hb X.2.2.2.1 (X.2.2.2.2 _ q2088) dX4_type_26 ?_
      exact fin (-1000003 : Int32) M H locs ls 28 dX4_type_28 ⟨by rw [← E], by rw [← E]; exact hM⟩ w
  · rw [if_neg c_11] at E
    refine lv_ldc (v := (-1000001 : Int32)) hx hb X.2.2.2.1 (X.2.2.2.2 _ q2073) dX4_type_14 ?_
    exact fin (-1000001 : Int32) M H locs ls 16 dX4_type_16 ⟨by rw [← E], by rw [← E]; exact hM⟩ w
def mf_clearText (v : (Nat → Nat → Int32)) : Int32 × (Nat → Nat → Int32) := ((v 0 6), (u2 v 0 6 (0 : Int32)))
set_option maxHeartbeats 4000000 in
set_option maxRecDepth 100000 in
theorem mt_clearText (l : Launch) (G : mg) (A : Nat → Prop) (pp : Nat → Nat) (M0 : mh) (v : Nat → Nat → Int32)   : Met l yX4_clearText (ws_ yX4_clearText cX4_clearText 2 (some .int)) ({ frames := 0, cells := 0, slots := 0, locals := 0 }) (va_Pc [.ref (pp 0)] (mU G A (fun M => Mdl G pp M0 M v))) (mQi G A (fun r M => r = (mf_clearText v).1 ∧ Mdl G pp M0 M (mf_clearText v).2)) 0 0 A := by
  refine mx_ofi (by decide) (Nat.le_of_ble_eq_true rfl) ?_
  intro p e R s m av below meth c M H Q ls X hRf hRl hRc hRs hin hM w fin hl
  have X : CallFix p m c cX4_clearText 2 s av lw_all "FieldPumpsModel" := X
  have hx := X.1
  have hb := X.2.1
  have hl : lv_has ls 2 [(0, .ref (pp 0))] := hl
  have hRf : R.frames = 0 := hRf
  have hRl : R.locals = 0 := hRl
  generalize ([] : List Loc) = locs at w ⊢
  generalize E : mf_clearText v = z at fin
  rw [mf_clearText] at E
  refine lv_aload_n hx hb dX4_clearText_0 rfl (lv_at hl 0 rfl) ?_
  refine mx_get (v := .int (v 0 6)) X w in_X4 (ci := 3) rfl 6 (by decide) q2017 (fun _ h => h) hM.2.1 rfl dX4_clearText_1 ?_
  refine lv_istore_n (lv' := [(1, .int (v 0 6)), (0, .ref (pp 0))]) hx hb dX4_clearText_4 rfl hl (by decide) rfl (fun ls hl => ?_)
  refine lv_aload_n hx hb dX4_clearText_5 rfl (lv_at hl 1 rfl) ?_
  refine lv_iconst (v := (0 : Int32)) hx hb dX4_clearText_6 (by decide) ?_
  refine md_put (x := (0 : Int32)) X w hM 6 (by decide) q2017 rfl rfl rfl dX4_clearText_7 (fun M H locs w hM => ?_)
  refine lv_iload_n hx hb dX4_clearText_10 rfl (lv_at hl 0 rfl) ?_
  exact fin (v 0 6) M H locs ls 11 dX4_clearText_11 ⟨by rw [← E], by rw [← E]; exact hM⟩ w
