set_option maxRecDepth 100000
/-! C8 -/
def cf_control_c97 (f : (Nat → Int32)) (f_26 : (Nat → Int32)) (f_74 : (Nat → Int32)) (f_92 : (Nat → Int32)) (f_93 : (Nat → Int32)) (f_97 : (Nat → Int32)) : (Nat → Int32) := f_97
def cf_control_c93 (f : (Nat → Int32)) (f_26 : (Nat → Int32)) (f_74 : (Nat → Int32)) (f_92 : (Nat → Int32)) (f_93 : (Nat → Int32)) : (Nat → Int32) := (cf_control_c97 f f_26 f_74 f_92 f_93 (cf_crotate f_93 ))
def cf_control_92 (f : (Nat → Int32)) (f_26 : (Nat → Int32)) (f_74 : (Nat → Int32)) (f_92 : (Nat → Int32)) : (Nat → Int32) := (cf_control_c93 f f_26 f_74 f_92 (cf_cstage f_92 ))
def cf_control_c89 (f : (Nat → Int32)) (f_26 : (Nat → Int32)) (f_74 : (Nat → Int32)) (f_89 : (Nat → Int32)) : (Nat → Int32) := (cf_control_92 f f_26 f_74 f_89)
def cf_control_c82 (f : (Nat → Int32)) (f_26 : (Nat → Int32)) (f_74 : (Nat → Int32)) (f_82 : (Nat → Int32)) : (Nat → Int32) := (cf_control_92 f f_26 f_74 f_82)
def cf_control_74 (f : (Nat → Int32)) (f_26 : (Nat → Int32)) (f_74 : (Nat → Int32)) : (Nat → Int32) := (if (cf_running f_74 ) = 0 then (cf_control_c82 f f_26 f_74 (cf_forget f_74 )) else (cf_control_c89 f f_26 f_74 (cf_watch f_74 )))
def cf_control_c71 (f : (Nat → Int32)) (f_26 : (Nat → Int32)) (f_57 : (Nat → Int32)) (f_66 : (Nat → Int32)) (f_71 : (Nat → Int32)) : (Nat → Int32) := (cf_control_74 f f_26 f_71)
def cf_control_c66 (f : (Nat → Int32)) (f_26 : (Nat → Int32)) (f_57 : (Nat → Int32)) (f_66 : (Nat → Int32)) : (Nat → Int32) := (cf_control_c71 f f_26 f_57 f_66 (cf_tell1 f_66 (3 : Int32)))
def cf_control_c57 (f : (Nat → Int32)) (f_26 : (Nat → Int32)) (f_57 : (Nat → Int32)) : (Nat → Int32) := (cf_control_c66 f f_26 f_57 (cf_cstart f_57 (tN (f_57 (180 + 0)))))
def cf_control_26 (f : (Nat → Int32)) (f_26 : (Nat → Int32)) : (Nat → Int32) := (if (cf_running f_26 ) = 0 then (if (-(f_26 29)) ≤ (cf_off f_26 ) then (cf_control_74 f f_26 f_26) else (if (cf_hasReady f_26 ) = true then (cf_control_c57 f f_26 (cf_ready f_26 )) else (cf_control_74 f f_26 f_26))) else (cf_control_74 f f_26 f_26))
def cf_control_c23 (f : (Nat → Int32)) (f_23 : (Nat → Int32)) : (Nat → Int32) := (cf_control_26 f f_23)
def cf_control (f : (Nat → Int32)) : (Nat → Int32) := (if (f 4) = (-1 : Int32) then (cf_control_26 f f) else (cf_control_c23 f (cf_cregulate f (tN (f 4)))))
set_option maxHeartbeats 4000000 in
set_option maxRecDepth 100000 in
theorem ct_control (l : Launch) (G : mg) (A : Nat → Prop) (ad : Nat → Nat) (np ng : Nat) (M0 : mh) (f : Nat → Int32)  (T nz : Nat) (hS : SI T np nz ng f) : Met l yX1_control (ws_ yX1_control cX1_control 1 (none)) ({ frames := 9, cells := 0, slots := 0, locals := 199 }) (va_Pc [.ref (ad 0)] (mU G A (fun M => Sta G ad np ng M0 M f))) (mQv G A (fun M => Sta G ad np ng M0 M (cf_control f))) 0 0 A := by
  refine mx_ofv (by decide) (Nat.le_of_ble_eq_true rfl) ?_
  intro p e R s m av below meth c M H Q ls X hRf hRl hRc hRs hin hM w fin hl
  have X : CallFix p m c cX1_control 1 s av lw_all "FieldPumps$Station" := X
  have hx := X.1
  have hb := X.2.1
  have hl : lv_has ls 1 [(0, .ref (ad 0))] := hl
  have hRf : R.frames = 9 := hRf
  have hRl : R.locals = 199 := hRl
  have hRc : R.cells = 0 := hRc
  have hRs : R.slots = 0 := hRs
  have hcp := hM.cnp
  have hn6 := hM.n6
  have hg8 := hM.g8
  generalize ([] : List Loc) = locs at w ⊢
  generalize E : cf_control f = z at fin
  rw [cf_control] at E
  refine lv_aload_n hx hb dX1_control_0 rfl (lv_at hl 0 rfl) ?_
  refine mx_get (v := .int (f 4)) X w in_X1 (ci := 1) rfl 22 (by decide) q337 (fun _ h => h) hM.st rfl dX1_control_1 ?_
  refine lv_iconst (v := (-1 : Int32)) hx hb dX1_control_4 (by decide) ?_
  have J26 : ∀ (f_26 : (Nat → Int32)) (M : mh) (H : Heap) (locs : List Loc) (ls : Array Slot), (hS26 : SI T np nz ng f_26) → cf_control_26 f f_26 = z → lv_has ls 1 [(0, .ref (ad 0))] → mW G A s M H locs → Sta G ad np ng M0 M f_26 → W p l e R s m av below meth c H locs 0 0 Q (F0 m 26 ls []) := by
    intro f_26 M H locs ls hS26 E hl w hM
    have hcp := hM.cnp
    rw [cf_control_26] at E
    refine lv_aload_n hx hb dX1_control_26 rfl (lv_at hl 0 rfl) ?_
    refine mx_bi w (va_runV (As := []) (rest := []) X (ct_running l G A ad np ng M0 M f_26  hM ) (cwV 0 X.2.2.2.2 (lw_V q270 q271 q272 q97 q273) rfl rfl rfl (by decide +kernel) ⟨by rw [hRf]; decide, by rw [hRl]; decide⟩) (mx_preV w rfl hM.st rfl) rfl rfl hl.1 rfl (lv_room (Nat.le_of_ble_eq_true rfl)) dX1_control_27 ⟨Nat.zero_le _, Nat.zero_le _⟩) (fun r M9 H locs hp w => ?_)
    obtain ⟨rfl, eM⟩ := hp; subst M9
    have J74 : ∀ (f_74 : (Nat → Int32)) (M : mh) (H : Heap) (locs : List Loc) (ls : Array Slot), (hS74 : SI T np nz ng f_74) → cf_control_74 f f_26 f_74 = z → lv_has ls 1 [(0, .ref (ad 0))] → mW G A s M H locs → Sta G ad np ng M0 M f_74 → W p l e R s m av below meth c H locs 0 0 Q (F0 m 74 ls []) := by
      intro f_74 M H locs ls hS74 E hl w hM
      have hcp := hM.cnp
      rw [cf_control_74] at E
      refine lv_aload_n hx hb dX1_control_74 rfl (lv_at hl 0 rfl) ?_
      refine mx_bi w (va_runV (As := []) (rest := []) X (ct_running l G A ad np ng M0 M f_74  hM ) (cwV 0 X.2.2.2.2 (lw_V q270 q271 q272 q97 q273) rfl rfl rfl (by decide +kernel) ⟨by rw [hRf]; decide, by rw [hRl]; decide⟩) (mx_preV w rfl hM.st rfl) rfl rfl hl.1 rfl (lv_room (Nat.le_of_ble_eq_true rfl)) dX1_control_75 ⟨Nat.zero_le _, Nat.zero_le _⟩) (fun r M9 H locs hp w => ?_)
      obtain ⟨rfl, eM⟩ := hp; subst M9
      have J92 : ∀ (f_92 : (Nat → Int32)) (M : mh) (H : Heap) (locs : List Loc) (ls : Array Slot), (hS92 : SI T np nz ng f_92) → (h692 : st6 f_92) → cf_control_92 f f_26 f_74 f_92 = z → lv_has ls 1 [(0, .ref (ad 0))] → mW G A s M H locs → Sta G ad np ng M0 M f_92 → W p l e R s m av below meth c H locs 0 0 Q (F0 m 92 ls []) := by
        intro f_92 M H locs ls hS92 h692 E hl w hM
        have hcp := hM.cnp
        rw [cf_control_92] at E
        refine lv_aload_n hx hb dX1_control_92 rfl (lv_at hl 0 rfl) ?_
        refine mx_bv w (va_runV (As := []) (rest := []) X (ct_cstage l G A ad np ng M0 f_92  T nz (hS92) (h692.h1 hS92) (h692.2)) (cwV 0 X.2.2.2.2 (lw_V q1522 q1524 qs34 q97 q1525) rfl rfl rfl (by decide +kernel) ⟨by rw [hRf]; decide, by rw [hRl]; decide⟩) (mx_preV w hM hM.st rfl) rfl rfl hl.1 rfl (lv_room (Nat.le_of_ble_eq_true rfl)) dX1_control_93 ⟨Nat.zero_le _, Nat.zero_le _⟩) (fun M H locs hM w => ?_)
        rw [cf_control_c93] at E
        obtain ⟨f_93, ef_93⟩ : ∃ y, y = (cf_cstage f_92 ) := ⟨_, rfl⟩
        rw [← ef_93] at E hM
        have hS93 : SI T np nz ng f_93 := by rw [ef_93]; exact (E_stage (w := fun _ _ => 0) (s := 0) hS92 h692).2
        refine lv_aload_n hx hb dX1_control_96 rfl (lv_at hl 0 rfl) ?_
        refine mx_bv w (va_runV (As := []) (rest := []) X (ct_crotate l G A ad np ng M0 f_93  T nz (hS93)) (cwV 0 X.2.2.2.2 (lw_V q1534 q1536 qs37 q97 q1537) rfl rfl rfl (by decide +kernel) ⟨by rw [hRf]; decide, by rw [hRl]; decide⟩) (mx_preV w hM hM.st rfl) rfl rfl hl.1 rfl (lv_room (Nat.le_of_ble_eq_true rfl)) dX1_control_97 ⟨Nat.zero_le _, Nat.zero_le _⟩) (fun M H locs hM w => ?_)
        rw [cf_control_c97] at E
        obtain ⟨f_97, ef_97⟩ : ∃ y, y = (cf_crotate f_93 ) := ⟨_, rfl⟩
        rw [← ef_97] at E hM
        exact fin M H locs ls 100 dX1_control_100 (by rw [← E]; exact hM) w
      refine lv_if_ne (tgt := 88) hx hb dX1_control_78 (by decide) (fun c_78 => ?_) (fun c_78 => ?_)
      · rw [if_neg c_78] at E
        refine lv_aload_n hx hb dX1_control_88 rfl (lv_at hl 0 rfl) ?_
        refine mx_bv w (va_runV (As := []) (rest := []) X (ct_watch l G A ad np ng M0 f_74   (hS74.var)) (cwV 0 X.2.2.2.2 (lw_V q1514 q1516 qs33 q97 q1517) rfl rfl rfl (by decide +kernel) ⟨by rw [hRf]; decide, by rw [hRl]; decide⟩) (mx_preV w hM hM.st rfl) rfl rfl hl.1 rfl (lv_room (Nat.le_of_ble_eq_true rfl)) dX1_control_89 ⟨Nat.zero_le _, Nat.zero_le _⟩) (fun M H locs hM w => ?_)
        rw [cf_control_c89] at E
        obtain ⟨f_89, ef_89⟩ : ∃ y, y = (cf_watch f_74 ) := ⟨_, rfl⟩
        rw [← ef_89] at E hM
        have hS89 : SI T np nz ng f_89 := by rw [ef_89]; exact SI_watch hS74 c_78
        have h689 : st6 f_89 := by rw [ef_89]; exact st6_watch hS74.ip c_78
        exact J92 f_89 M H locs ls (by first | exact hS82 | exact hS89) (by first | exact h682 | exact h689) E (lv_sub hl [0] rfl) w hM
      · rw [if_pos c_78] at E
        refine lv_aload_n hx hb dX1_control_81 rfl (lv_at hl 0 rfl) ?_
        refine mx_bv w (va_runV (As := []) (rest := []) X (ct_forget l G A ad np ng M0 f_74   ) (cwV 0 X.2.2.2.2 (lw_V q1513 q1438 qs27 q97 q1439) rfl rfl rfl (by decide +kernel) ⟨by rw [hRf]; decide, by rw [hRl]; decide⟩) (mx_preV w hM hM.st rfl) rfl rfl hl.1 rfl (lv_room (Nat.le_of_ble_eq_true rfl)) dX1_control_82 ⟨Nat.zero_le _, Nat.zero_le _⟩) (fun M H locs hM w => ?_)
        rw [cf_control_c82] at E
        obtain ⟨f_82, ef_82⟩ : ∃ y, y = (cf_forget f_74 ) := ⟨_, rfl⟩
        rw [← ef_82] at E hM
        have hS82 : SI T np nz ng f_82 := by rw [ef_82]; exact SI_forget hS74
        have h682 : st6 f_82 := by rw [ef_82]; exact st6_forget hS74.ip
        refine lv_goto (tgt := 92) hx hb dX1_control_85 (by decide) ?_
        exact J92 f_82 M H locs ls (by first | exact hS82 | exact hS89) (by first | exact h682 | exact h689) E (lv_sub hl [0] rfl) w hM
    refine lv_if_ne (tgt := 74) hx hb dX1_control_30 (by decide) (fun c_30 => ?_) (fun c_30 => ?_)
    · rw [if_neg c_30] at E
      exact J74 f_26 M H locs ls (by first | exact hS71 | exact hS26) E (lv_sub hl [0] rfl) w hM
    · rw [if_pos c_30] at E
      refine lv_aload_n hx hb dX1_control_33 rfl (lv_at hl 0 rfl) ?_
      refine mx_bi w (va_runV (As := []) (rest := []) X (ct_off l G A ad np ng M0 M f_26  hM ) (cwV 0 X.2.2.2.2 (lw_V q239 q241 qs0 q97 q242) rfl rfl rfl (by decide +kernel) ⟨by rw [hRf]; decide, by rw [hRl]; decide⟩) (mx_preV w rfl hM.st rfl) rfl rfl hl.1 rfl (lv_room (Nat.le_of_ble_eq_true rfl)) dX1_control_34 ⟨Nat.zero_le _, Nat.zero_le _⟩) (fun r M9 H locs hp w => ?_)
      obtain ⟨rfl, eM⟩ := hp; subst M9
      refine lv_aload_n hx hb dX1_control_37 rfl (lv_at hl 0 rfl) ?_
      refine mx_get (v := .ref (ad 13)) X w in_X1 (ci := 1) rfl 10 (by decide) q311 (fun _ h => h) hM.st rfl dX1_control_38 ?_
      refine lv_bipush (v := (9 : Int32)) hx hb dX1_control_41 (by decide) ?_
      refine mx_iald2 X w hM.a13 9 (show 9 < 19 from by decide) (by decide) (if_pos (show 9 < 19 from by decide)) dX1_control_43 ?_
      refine lv_ineg hx hb dX1_control_44 ?_
      refine lv_icmp_ge (tgt := 74) hx hb dX1_control_45 (by decide) (fun c_45 => ?_) (fun c_45 => ?_)
      · rw [if_pos c_45] at E
        exact J74 f_26 M H locs ls (by first | exact hS71 | exact hS26) E (lv_sub hl [0] rfl) w hM
      · rw [if_neg c_45] at E
        refine lv_aload_n hx hb dX1_control_48 rfl (lv_at hl 0 rfl) ?_
        refine mx_bi w (va_runV (As := []) (rest := []) X (ct_hasReady l G A ad np ng M0 M f_26  hM ) (cwV 0 X.2.2.2.2 (lw_V q1449 q1450 q1451 q97 q1452) rfl rfl rfl (by decide +kernel) ⟨by rw [hRf]; decide, by rw [hRl]; decide⟩) (mx_preV w rfl hM.st rfl) rfl rfl hl.1 rfl (lv_room (Nat.le_of_ble_eq_true rfl)) dX1_control_49 ⟨Nat.zero_le _, Nat.zero_le _⟩) (fun r M9 H locs hp w => ?_)
        obtain ⟨rfl, eM⟩ := hp; subst M9
        refine mx_beq (tgt := 74) hx hb dX1_control_52 (by decide) (fun c_52 => ?_) (fun c_52 => ?_)
        · rw [if_neg c_52] at E
          exact J74 f_26 M H locs ls (by first | exact hS71 | exact hS26) E (lv_sub hl [0] rfl) w hM
        · rw [if_pos c_52] at E
          refine lv_aload_n hx hb dX1_control_55 rfl (lv_at hl 0 rfl) ?_
          refine lv_aload_n hx hb dX1_control_56 rfl (lv_at hl 0 rfl) ?_
          refine mx_bq w (va_runV (As := []) (rest := [.ref (ad 0)]) X (ct_ready l G A ad np ng M0 f_26   (hS26.q)) (cwV 0 X.2.2.2.2 (lw_V q1461 q1462 q1463 q97 q1464) rfl rfl rfl (by decide +kernel) ⟨by rw [hRf]; decide, by rw [hRl]; decide⟩) (mx_preV w hM hM.st rfl) rfl rfl hl.1 rfl (lv_room (Nat.le_of_ble_eq_true rfl)) dX1_control_57 ⟨Nat.zero_le _, Nat.zero_le _⟩) (fun r M H locs hp w => ?_)
          obtain ⟨rfl, hM⟩ := hp
          rw [cf_control_c57] at E
          obtain ⟨f_57, ef_57⟩ : ∃ y, y = (cf_ready f_26 ) := ⟨_, rfl⟩
          rw [← ef_57] at E hM
          have hS57 : SI T np nz ng f_57 := by rw [ef_57]; exact SI_ready hS26
          have hq57 : ∃ j, j < np ∧ f_57 (180 + 0) = nI j := by rw [ef_57]; exact ready_pk hn6 hS26.cp hS26.runs hS26.q c_52
          have hpk : tN (f_57 (180 + 0)) < np := q_lt hq57 hn6
          refine mx_bq w (va_runV (As := []) (rest := [.ref (ad 0)]) X (ct_peek l G A ad np ng M0 M f_57  hM (hq57)) (cwV 0 X.2.2.2.2 (lw_V q1498 q1499 q1500 q104 q1501) rfl rfl rfl (by decide +kernel) ⟨by rw [hRf]; decide, by rw [hRl]; decide⟩) (mx_preV w rfl hM.q17 rfl) rfl rfl hl.1 rfl (lv_room (Nat.le_of_ble_eq_true rfl)) dX1_control_60 ⟨Nat.zero_le _, Nat.zero_le _⟩) (fun r M9 H locs hp w => ?_)
          obtain ⟨rfl, eM⟩ := hp; subst M9
          have eo_60 : va_rf ((cf_peek f_57 ).map fun k => ad (20 + k)) = .ref (ad (20 + (tN (f_57 (180 + 0))))) := rfl
          rw [eo_60]
          refine st_castP X w hM (by first | omega | assumption) q261 dX1_control_63 ?_
          refine mx_bv w (va_runV (As := [.ref (ad (20 + (tN (f_57 (180 + 0)))))]) (rest := []) X (ct_cstart l G A ad np ng M0 f_57 (tN (f_57 (180 + 0)))  (hpk) (hS57.var) (hS57.ne)) (cwV 1 X.2.2.2.2 (lw_V q1502 q1504 qs32 q97 q1505) rfl rfl rfl (by decide +kernel) ⟨by rw [hRf]; decide, by rw [hRl]; decide⟩) (mx_preV w hM hM.st rfl) rfl rfl hl.1 rfl (lv_room (Nat.le_of_ble_eq_true rfl)) dX1_control_66 ⟨Nat.zero_le _, Nat.zero_le _⟩) (fun M H locs hM w => ?_)
          rw [cf_control_c66] at E
          obtain ⟨f_66, ef_66⟩ : ∃ y, y = (cf_cstart f_57 (tN (f_57 (180 + 0)))) := ⟨_, rfl⟩
          rw [← ef_66] at E hM
          have hS66 : SI T np nz ng f_66 := by rw [ef_66]; exact SI_start hpk hS57
          refine lv_aload_n hx hb dX1_control_69 rfl (lv_at hl 0 rfl) ?_
          refine lv_iconst (v := (3 : Int32)) hx hb dX1_control_70 (by decide) ?_
          refine mx_bv w (va_runV (As := [.int (3 : Int32)]) (rest := []) X (ct_tell1 l G A ad np ng M0 f_66 (3 : Int32)  (hS66.ne)) (cwV 1 X.2.2.2.2 (lw_V q1405 q1407 qs22 q97 q1408) rfl rfl rfl (by decide +kernel) ⟨by rw [hRf]; decide, by rw [hRl]; decide⟩) (mx_preV w hM hM.st rfl) rfl rfl hl.1 rfl (lv_room (Nat.le_of_ble_eq_true rfl)) dX1_control_71 ⟨Nat.zero_le _, Nat.zero_le _⟩) (fun M H locs hM w => ?_)
          rw [cf_control_c71] at E
          obtain ⟨f_71, ef_71⟩ : ∃ y, y = (cf_tell1 f_66 (3 : Int32)) := ⟨_, rfl⟩
          rw [← ef_71] at E hM
          have hS71 : SI T np nz ng f_71 := by rw [ef_71]; exact SI_tell1 hS66
          exact J74 f_71 M H locs ls (by first | exact hS71 | exact hS26) E (lv_sub hl [0] rfl) w hM
  refine lv_icmp_eq (tgt := 26) hx hb dX1_control_5 (by decide) (fun c_5 => ?_) (fun c_5 => ?_)
  · rw [if_pos c_5] at E
    exact J26 f M H locs ls (by first | exact hS23 | exact hS) E (lv_sub hl [0] rfl) w hM
  · rw [if_neg c_5] at E
    refine lv_aload_n hx hb dX1_control_8 rfl (lv_at hl 0 rfl) ?_
    refine lv_aload_n hx hb dX1_control_9 rfl (lv_at hl 0 rfl) ?_
    refine mx_get (v := .ref (ad 1)) X w in_X1 (ci := 1) rfl 0 (by decide) q286 (fun _ h => h) hM.st rfl dX1_control_10 ?_
    refine lv_aload_n hx hb dX1_control_13 rfl (lv_at hl 0 rfl) ?_
    obtain ⟨hj1, hj2⟩ := isP_n hS.var c_5 hn6
    refine mx_get (v := .int (f 4)) X w in_X1 (ci := 1) rfl 22 (by decide) q337 (fun _ h => h) hM.st rfl dX1_control_14 ?_
    refine mx_cast (z := nI (tN (f 4))) (hj1) ?_
    refine mx_bq w (va_runV (As := [.int (nI (tN (f 4)))]) (rest := [.ref (ad 0)]) X (ct_pget l G A ad np ng M0 M f (tN (f 4)) hM (by first | omega | assumption)) (cwV 1 X.2.2.2.2 (lw_V q247 q248 q249 q100 q250) rfl rfl rfl (by decide +kernel) ⟨by rw [hRf]; decide, by rw [hRl]; decide⟩) (mx_preV w rfl hM.pl rfl) rfl rfl hl.1 rfl (lv_room (Nat.le_of_ble_eq_true rfl)) dX1_control_17 ⟨Nat.zero_le _, Nat.zero_le _⟩) (fun r M9 H locs hp w => ?_)
    obtain ⟨rfl, eM⟩ := hp; subst M9
    refine st_castP X w hM (by first | omega | assumption) q261 dX1_control_20 ?_
    refine mx_bv w (va_runV (As := [.ref (ad (20 + (tN (f 4))))]) (rest := []) X (ct_cregulate l G A ad np ng M0 f (tN (f 4))  (by first | omega | assumption)) (cwV 1 X.2.2.2.2 (lw_V q1444 q1446 qs29 q97 q1447) rfl rfl rfl (by decide +kernel) ⟨by rw [hRf]; decide, by rw [hRl]; decide⟩) (mx_preV w hM hM.st rfl) rfl rfl hl.1 rfl (lv_room (Nat.le_of_ble_eq_true rfl)) dX1_control_23 ⟨Nat.zero_le _, Nat.zero_le _⟩) (fun M H locs hM w => ?_)
    rw [cf_control_c23] at E
    obtain ⟨f_23, ef_23⟩ : ∃ y, y = (cf_cregulate f (tN (f 4))) := ⟨_, rfl⟩
    rw [← ef_23] at E hM
    have hS23 : SI T np nz ng f_23 := by rw [ef_23]; exact SI_regulate hS c_5
    exact J26 f_23 M H locs ls (by first | exact hS23 | exact hS) E (lv_sub hl [0] rfl) w hM
