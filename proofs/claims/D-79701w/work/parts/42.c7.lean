set_option maxRecDepth 100000
/-! C7 -/
def cf_cstage_115 (f : (Nat → Int32)) (f_115 : (Nat → Int32)) : (Nat → Int32) := f_115
def cf_cstage_c112 (f : (Nat → Int32)) (f_103 : (Nat → Int32)) (f_108 : (Nat → Int32)) (f_112 : (Nat → Int32)) : (Nat → Int32) := (cf_cstage_115 f f_112)
def cf_cstage_c108 (f : (Nat → Int32)) (f_103 : (Nat → Int32)) (f_108 : (Nat → Int32)) : (Nat → Int32) := (cf_cstage_c112 f f_103 f_108 (cf_forget f_108 ))
def cf_cstage_c103 (f : (Nat → Int32)) (f_103 : (Nat → Int32)) : (Nat → Int32) := (cf_cstage_c108 f f_103 (cf_tell1 f_103 (2 : Int32)))
def cf_cstage_78 (f : (Nat → Int32))  : (Nat → Int32) := (if (cf_isDue f 2 8) = true then (cf_cstage_c103 f (cf_cstop f (tN (f 4)))) else (cf_cstage_115 f f))
def cf_cstage_c72 (f : (Nat → Int32)) (f_68 : (Nat → Int32)) (f_72 : (Nat → Int32)) : (Nat → Int32) := (cf_cstage_115 f f_72)
def cf_cstage_c68 (f : (Nat → Int32)) (f_68 : (Nat → Int32)) : (Nat → Int32) := (cf_cstage_c72 f f_68 (cf_forget f_68 ))
def cf_cstage_63 (f : (Nat → Int32))  : (Nat → Int32) := (cf_cstage_c68 f (cf_cstop f ((cf_mostRun f ).getD 0)))
def cf_cstage_37 (f : (Nat → Int32))  : (Nat → Int32) := (if (cf_isDue f 1 6) = true then (if (1 : Int32) < (cf_running f ) then (cf_cstage_63 f ) else (if (f 4) = (-1 : Int32) then (cf_cstage_63 f ) else (cf_cstage_78 f ))) else (cf_cstage_78 f ))
def cf_cstage_c31 (f : (Nat → Int32)) (f_18 : (Nat → Int32)) (f_27 : (Nat → Int32)) (f_31 : (Nat → Int32)) : (Nat → Int32) := (cf_cstage_115 f f_31)
def cf_cstage_c27 (f : (Nat → Int32)) (f_18 : (Nat → Int32)) (f_27 : (Nat → Int32)) : (Nat → Int32) := (cf_cstage_c31 f f_18 f_27 (cf_forget f_27 ))
def cf_cstage_c18 (f : (Nat → Int32)) (f_18 : (Nat → Int32)) : (Nat → Int32) := (cf_cstage_c27 f f_18 (cf_cstart f_18 (tN (f_18 (180 + 0)))))
def cf_cstage (f : (Nat → Int32)) : (Nat → Int32) := (if (cf_isDue f 0 5) = true then (if (cf_hasReady f ) = true then (cf_cstage_c18 f (cf_ready f )) else (cf_cstage_37 f )) else (cf_cstage_37 f ))
set_option maxHeartbeats 4000000 in
set_option maxRecDepth 100000 in
theorem ct_cstage (l : Launch) (G : mg) (A : Nat → Prop) (ad : Nat → Nat) (np ng : Nat) (M0 : mh) (f : Nat → Int32)  (T nz : Nat) (hS : SI T np nz ng f) (h1 : cf_isDue f 1 6 = true → ((1 : Int32) < cf_running f ∨ f 4 = -1) → ¬ cf_mostRun f = none) (h2 : cf_isDue f 2 8 = true → ¬ f 4 = -1) : Met l yX1_stage (ws_ yX1_stage cX1_stage 1 (none)) ({ frames := 8, cells := 0, slots := 0, locals := 179 }) (va_Pc [.ref (ad 0)] (mU G A (fun M => Sta G ad np ng M0 M f))) (mQv G A (fun M => Sta G ad np ng M0 M (cf_cstage f))) 0 0 A := by
  refine mx_ofv (by decide) (Nat.le_of_ble_eq_true rfl) ?_
  intro p e R s m av below meth c M H Q ls X hRf hRl hRc hRs hin hM w fin hl
  have X : CallFix p m c cX1_stage 1 s av lw_all "FieldPumps$Station" := X
  have hx := X.1
  have hb := X.2.1
  have hl : lv_has ls 1 [(0, .ref (ad 0))] := hl
  have hRf : R.frames = 8 := hRf
  have hRl : R.locals = 179 := hRl
  have hRc : R.cells = 0 := hRc
  have hRs : R.slots = 0 := hRs
  have hcp := hM.cnp
  have hn6 := hM.n6
  have hg8 := hM.g8
  generalize ([] : List Loc) = locs at w ⊢
  generalize E : cf_cstage f = z at fin
  rw [cf_cstage] at E
  refine lv_aload_n hx hb dX1_stage_0 rfl (lv_at hl 0 rfl) ?_
  refine lv_iconst (v := (0 : Int32)) hx hb dX1_stage_1 (by decide) ?_
  refine lv_iconst (v := (5 : Int32)) hx hb dX1_stage_2 (by decide) ?_
  refine mx_bi w (va_runV (As := [.int (nI 0), .int (nI 5)]) (rest := []) X (ct_isDue l G A ad np ng M0 M f 0 5 hM (by decide) (by decide)) (cwV 2 X.2.2.2.2 (lw_V q1526 q1528 qs35 q97 q1529) rfl rfl rfl (by decide +kernel) ⟨by rw [hRf]; decide, by rw [hRl]; decide⟩) (mx_preV w rfl hM.st rfl) rfl rfl hl.1 rfl (lv_room (Nat.le_of_ble_eq_true rfl)) dX1_stage_3 ⟨Nat.zero_le _, Nat.zero_le _⟩) (fun r M9 H locs hp w => ?_)
  obtain ⟨rfl, eM⟩ := hp; subst M9
  have J115 : ∀ (f_115 : (Nat → Int32)) (M : mh) (H : Heap) (locs : List Loc) (ls : Array Slot), cf_cstage_115 f f_115 = z → lv_has ls 1 [] → mW G A s M H locs → Sta G ad np ng M0 M f_115 → W p l e R s m av below meth c H locs 0 0 Q (F0 m 115 ls []) := by
    intro f_115 M H locs ls  E hl w hM
    have hcp := hM.cnp
    rw [cf_cstage_115] at E
    exact fin M H locs ls 115 dX1_stage_115 (by rw [← E]; exact hM) w
  have J37 : ∀  (M : mh) (H : Heap) (locs : List Loc) (ls : Array Slot), cf_cstage_37 f  = z → lv_has ls 1 [(0, .ref (ad 0))] → mW G A s M H locs → Sta G ad np ng M0 M f → W p l e R s m av below meth c H locs 0 0 Q (F0 m 37 ls []) := by
    intro  M H locs ls  E hl w hM
    have hcp := hM.cnp
    rw [cf_cstage_37] at E
    refine lv_aload_n hx hb dX1_stage_37 rfl (lv_at hl 0 rfl) ?_
    refine lv_iconst (v := (1 : Int32)) hx hb dX1_stage_38 (by decide) ?_
    refine lv_bipush (v := (6 : Int32)) hx hb dX1_stage_39 (by decide) ?_
    refine mx_bi w (va_runV (As := [.int (nI 1), .int (nI 6)]) (rest := []) X (ct_isDue l G A ad np ng M0 M f 1 6 hM (by decide) (by decide)) (cwV 2 X.2.2.2.2 (lw_V q1526 q1528 qs35 q97 q1529) rfl rfl rfl (by decide +kernel) ⟨by rw [hRf]; decide, by rw [hRl]; decide⟩) (mx_preV w rfl hM.st rfl) rfl rfl hl.1 rfl (lv_room (Nat.le_of_ble_eq_true rfl)) dX1_stage_41 ⟨Nat.zero_le _, Nat.zero_le _⟩) (fun r M9 H locs hp w => ?_)
    obtain ⟨rfl, eM⟩ := hp; subst M9
    have J78 : ∀  (M : mh) (H : Heap) (locs : List Loc) (ls : Array Slot), cf_cstage_78 f  = z → lv_has ls 1 [(0, .ref (ad 0))] → mW G A s M H locs → Sta G ad np ng M0 M f → W p l e R s m av below meth c H locs 0 0 Q (F0 m 78 ls []) := by
      intro  M H locs ls  E hl w hM
      have hcp := hM.cnp
      rw [cf_cstage_78] at E
      refine lv_aload_n hx hb dX1_stage_78 rfl (lv_at hl 0 rfl) ?_
      refine lv_iconst (v := (2 : Int32)) hx hb dX1_stage_79 (by decide) ?_
      refine lv_bipush (v := (8 : Int32)) hx hb dX1_stage_80 (by decide) ?_
      refine mx_bi w (va_runV (As := [.int (nI 2), .int (nI 8)]) (rest := []) X (ct_isDue l G A ad np ng M0 M f 2 8 hM (by decide) (by decide)) (cwV 2 X.2.2.2.2 (lw_V q1526 q1528 qs35 q97 q1529) rfl rfl rfl (by decide +kernel) ⟨by rw [hRf]; decide, by rw [hRl]; decide⟩) (mx_preV w rfl hM.st rfl) rfl rfl hl.1 rfl (lv_room (Nat.le_of_ble_eq_true rfl)) dX1_stage_82 ⟨Nat.zero_le _, Nat.zero_le _⟩) (fun r M9 H locs hp w => ?_)
      obtain ⟨rfl, eM⟩ := hp; subst M9
      refine mx_beq (tgt := 115) hx hb dX1_stage_85 (by decide) (fun c_85 => ?_) (fun c_85 => ?_)
      · rw [if_neg c_85] at E
        exact J115 f M H locs ls E (lv_sub hl [] rfl) w hM
      · rw [if_pos c_85] at E
        refine lv_aload_n hx hb dX1_stage_88 rfl (lv_at hl 0 rfl) ?_
        refine lv_aload_n hx hb dX1_stage_89 rfl (lv_at hl 0 rfl) ?_
        refine mx_get (v := .ref (ad 1)) X w in_X1 (ci := 1) rfl 0 (by decide) q286 (fun _ h => h) hM.st rfl dX1_stage_90 ?_
        refine lv_aload_n hx hb dX1_stage_93 rfl (lv_at hl 0 rfl) ?_
        obtain ⟨hj1, hj2⟩ := isP_n hS.var (h2 (by assumption)) hn6
        refine mx_get (v := .int (f 4)) X w in_X1 (ci := 1) rfl 22 (by decide) q337 (fun _ h => h) hM.st rfl dX1_stage_94 ?_
        refine mx_cast (z := nI (tN (f 4))) (hj1) ?_
        refine mx_bq w (va_runV (As := [.int (nI (tN (f 4)))]) (rest := [.ref (ad 0)]) X (ct_pget l G A ad np ng M0 M f (tN (f 4)) hM (by first | omega | assumption)) (cwV 1 X.2.2.2.2 (lw_V q247 q248 q249 q100 q250) rfl rfl rfl (by decide +kernel) ⟨by rw [hRf]; decide, by rw [hRl]; decide⟩) (mx_preV w rfl hM.pl rfl) rfl rfl hl.1 rfl (lv_room (Nat.le_of_ble_eq_true rfl)) dX1_stage_97 ⟨Nat.zero_le _, Nat.zero_le _⟩) (fun r M9 H locs hp w => ?_)
        obtain ⟨rfl, eM⟩ := hp; subst M9
        refine st_castP X w hM (by first | omega | assumption) q261 dX1_stage_100 ?_
        refine mx_bv w (va_runV (As := [.ref (ad (20 + (tN (f 4))))]) (rest := []) X (ct_cstop l G A ad np ng M0 f (tN (f 4))  (hj2) (hS.ne)) (cwV 1 X.2.2.2.2 (lw_V q844 q845 q846 q97 q847) rfl rfl rfl (by decide +kernel) ⟨by rw [hRf]; decide, by rw [hRl]; decide⟩) (mx_preV w hM hM.st rfl) rfl rfl hl.1 rfl (lv_room (Nat.le_of_ble_eq_true rfl)) dX1_stage_103 ⟨Nat.zero_le _, Nat.zero_le _⟩) (fun M H locs hM w => ?_)
        rw [cf_cstage_c103] at E
        obtain ⟨f_103, ef_103⟩ : ∃ y, y = (cf_cstop f (tN (f 4))) := ⟨_, rfl⟩
        rw [← ef_103] at E hM
        refine lv_aload_n hx hb dX1_stage_106 rfl (lv_at hl 0 rfl) ?_
        refine lv_iconst (v := (2 : Int32)) hx hb dX1_stage_107 (by decide) ?_
        refine mx_bv w (va_runV (As := [.int (2 : Int32)]) (rest := []) X (ct_tell1 l G A ad np ng M0 f_103 (2 : Int32)  (by rw [ef_103]; exact cstop_19 hj2 hn6 hcp hS.ne)) (cwV 1 X.2.2.2.2 (lw_V q1405 q1407 qs22 q97 q1408) rfl rfl rfl (by decide +kernel) ⟨by rw [hRf]; decide, by rw [hRl]; decide⟩) (mx_preV w hM hM.st rfl) rfl rfl hl.1 rfl (lv_room (Nat.le_of_ble_eq_true rfl)) dX1_stage_108 ⟨Nat.zero_le _, Nat.zero_le _⟩) (fun M H locs hM w => ?_)
        rw [cf_cstage_c108] at E
        obtain ⟨f_108, ef_108⟩ : ∃ y, y = (cf_tell1 f_103 (2 : Int32)) := ⟨_, rfl⟩
        rw [← ef_108] at E hM
        refine lv_aload_n hx hb dX1_stage_111 rfl (lv_at hl 0 rfl) ?_
        refine mx_bv w (va_runV (As := []) (rest := []) X (ct_forget l G A ad np ng M0 f_108   ) (cwV 0 X.2.2.2.2 (lw_V q1513 q1438 qs27 q97 q1439) rfl rfl rfl (by decide +kernel) ⟨by rw [hRf]; decide, by rw [hRl]; decide⟩) (mx_preV w hM hM.st rfl) rfl rfl hl.1 rfl (lv_room (Nat.le_of_ble_eq_true rfl)) dX1_stage_112 ⟨Nat.zero_le _, Nat.zero_le _⟩) (fun M H locs hM w => ?_)
        rw [cf_cstage_c112] at E
        obtain ⟨f_112, ef_112⟩ : ∃ y, y = (cf_forget f_108 ) := ⟨_, rfl⟩
        rw [← ef_112] at E hM
        exact J115 f_112 M H locs ls E (lv_sub hl [] rfl) w hM
    refine mx_beq (tgt := 78) hx hb dX1_stage_44 (by decide) (fun c_44 => ?_) (fun c_44 => ?_)
    · rw [if_neg c_44] at E
      exact J78  M H locs ls E (lv_sub hl [0] rfl) w hM
    · rw [if_pos c_44] at E
      refine lv_aload_n hx hb dX1_stage_47 rfl (lv_at hl 0 rfl) ?_
      refine mx_bi w (va_runV (As := []) (rest := []) X (ct_running l G A ad np ng M0 M f  hM ) (cwV 0 X.2.2.2.2 (lw_V q270 q271 q272 q97 q273) rfl rfl rfl (by decide +kernel) ⟨by rw [hRf]; decide, by rw [hRl]; decide⟩) (mx_preV w rfl hM.st rfl) rfl rfl hl.1 rfl (lv_room (Nat.le_of_ble_eq_true rfl)) dX1_stage_48 ⟨Nat.zero_le _, Nat.zero_le _⟩) (fun r M9 H locs hp w => ?_)
      obtain ⟨rfl, eM⟩ := hp; subst M9
      refine lv_iconst (v := (1 : Int32)) hx hb dX1_stage_51 (by decide) ?_
      have J63 : ∀  (M : mh) (H : Heap) (locs : List Loc) (ls : Array Slot), (h63 : ¬ cf_mostRun f = none) → cf_cstage_63 f  = z → lv_has ls 1 [(0, .ref (ad 0))] → mW G A s M H locs → Sta G ad np ng M0 M f → W p l e R s m av below meth c H locs 0 0 Q (F0 m 63 ls []) := by
        intro  M H locs ls h63 E hl w hM
        have hcp := hM.cnp
        rw [cf_cstage_63] at E
        refine lv_aload_n hx hb dX1_stage_63 rfl (lv_at hl 0 rfl) ?_
        refine lv_aload_n hx hb dX1_stage_64 rfl (lv_at hl 0 rfl) ?_
        refine mx_bq w (va_runV (As := []) (rest := [.ref (ad 0)]) X (ct_mostRun l G A ad np ng M0 M f  hM ) (cwV 0 X.2.2.2.2 (lw_V q1530 q1532 qs36 q97 q1533) rfl rfl rfl (by decide +kernel) ⟨by rw [hRf]; decide, by rw [hRl]; decide⟩) (mx_preV w rfl hM.st rfl) rfl rfl hl.1 rfl (lv_room (Nat.le_of_ble_eq_true rfl)) dX1_stage_65 ⟨Nat.zero_le _, Nat.zero_le _⟩) (fun r M9 H locs hp w => ?_)
        obtain ⟨rfl, eM⟩ := hp; subst M9
        have eo_65 : va_rf ((cf_mostRun f ).map fun k => ad (20 + k)) = .ref (ad (20 + ((cf_mostRun f ).getD 0))) := P_ref (h63)
        rw [eo_65]
        refine mx_bv w (va_runV (As := [.ref (ad (20 + ((cf_mostRun f ).getD 0)))]) (rest := []) X (ct_cstop l G A ad np ng M0 f ((cf_mostRun f ).getD 0)  (okP_getD (E_longest (w := fun _ _ => 0) (s := 0) hn6 hcp).2 h63) (hS.ne)) (cwV 1 X.2.2.2.2 (lw_V q844 q845 q846 q97 q847) rfl rfl rfl (by decide +kernel) ⟨by rw [hRf]; decide, by rw [hRl]; decide⟩) (mx_preV w hM hM.st rfl) rfl rfl hl.1 rfl (lv_room (Nat.le_of_ble_eq_true rfl)) dX1_stage_68 ⟨Nat.zero_le _, Nat.zero_le _⟩) (fun M H locs hM w => ?_)
        rw [cf_cstage_c68] at E
        obtain ⟨f_68, ef_68⟩ : ∃ y, y = (cf_cstop f ((cf_mostRun f ).getD 0)) := ⟨_, rfl⟩
        rw [← ef_68] at E hM
        refine lv_aload_n hx hb dX1_stage_71 rfl (lv_at hl 0 rfl) ?_
        refine mx_bv w (va_runV (As := []) (rest := []) X (ct_forget l G A ad np ng M0 f_68   ) (cwV 0 X.2.2.2.2 (lw_V q1513 q1438 qs27 q97 q1439) rfl rfl rfl (by decide +kernel) ⟨by rw [hRf]; decide, by rw [hRl]; decide⟩) (mx_preV w hM hM.st rfl) rfl rfl hl.1 rfl (lv_room (Nat.le_of_ble_eq_true rfl)) dX1_stage_72 ⟨Nat.zero_le _, Nat.zero_le _⟩) (fun M H locs hM w => ?_)
        rw [cf_cstage_c72] at E
        obtain ⟨f_72, ef_72⟩ : ∃ y, y = (cf_forget f_68 ) := ⟨_, rfl⟩
        rw [← ef_72] at E hM
        refine lv_goto (tgt := 115) hx hb dX1_stage_75 (by decide) ?_
        exact J115 f_72 M H locs ls E (lv_sub hl [] rfl) w hM
      refine lv_icmp_gt (tgt := 63) hx hb dX1_stage_52 (by decide) (fun c_52 => ?_) (fun c_52 => ?_)
      · rw [if_pos c_52] at E
        exact J63  M H locs ls (by first | exact h1 (by assumption) (Or.inl (by assumption)) | exact h1 (by assumption) (Or.inr (by assumption))) E (lv_sub hl [0] rfl) w hM
      · rw [if_neg c_52] at E
        refine lv_aload_n hx hb dX1_stage_55 rfl (lv_at hl 0 rfl) ?_
        refine mx_get (v := .int (f 4)) X w in_X1 (ci := 1) rfl 22 (by decide) q337 (fun _ h => h) hM.st rfl dX1_stage_56 ?_
        refine lv_iconst (v := (-1 : Int32)) hx hb dX1_stage_59 (by decide) ?_
        refine lv_icmp_ne (tgt := 78) hx hb dX1_stage_60 (by decide) (fun c_60 => ?_) (fun c_60 => ?_)
        · rw [if_neg c_60] at E
          exact J78  M H locs ls E (lv_sub hl [0] rfl) w hM
        · rw [if_pos c_60] at E
          exact J63  M H locs ls (by first | exact h1 (by assumption) (Or.inl (by assumption)) | exact h1 (by assumption) (Or.inr (by assumption))) E (lv_sub hl [0] rfl) w hM
  refine mx_beq (tgt := 37) hx hb dX1_stage_6 (by decide) (fun c_6 => ?_) (fun c_6 => ?_)
  · rw [if_neg c_6] at E
    exact J37  M H locs ls E (lv_sub hl [0] rfl) w hM
  · rw [if_pos c_6] at E
    refine lv_aload_n hx hb dX1_stage_9 rfl (lv_at hl 0 rfl) ?_
    refine mx_bi w (va_runV (As := []) (rest := []) X (ct_hasReady l G A ad np ng M0 M f  hM ) (cwV 0 X.2.2.2.2 (lw_V q1449 q1450 q1451 q97 q1452) rfl rfl rfl (by decide +kernel) ⟨by rw [hRf]; decide, by rw [hRl]; decide⟩) (mx_preV w rfl hM.st rfl) rfl rfl hl.1 rfl (lv_room (Nat.le_of_ble_eq_true rfl)) dX1_stage_10 ⟨Nat.zero_le _, Nat.zero_le _⟩) (fun r M9 H locs hp w => ?_)
    obtain ⟨rfl, eM⟩ := hp; subst M9
    refine mx_beq (tgt := 37) hx hb dX1_stage_13 (by decide) (fun c_13 => ?_) (fun c_13 => ?_)
    · rw [if_neg c_13] at E
      exact J37  M H locs ls E (lv_sub hl [0] rfl) w hM
    · rw [if_pos c_13] at E
      refine lv_aload_n hx hb dX1_stage_16 rfl (lv_at hl 0 rfl) ?_
      refine lv_aload_n hx hb dX1_stage_17 rfl (lv_at hl 0 rfl) ?_
      refine mx_bq w (va_runV (As := []) (rest := [.ref (ad 0)]) X (ct_ready l G A ad np ng M0 f   (hS.q)) (cwV 0 X.2.2.2.2 (lw_V q1461 q1462 q1463 q97 q1464) rfl rfl rfl (by decide +kernel) ⟨by rw [hRf]; decide, by rw [hRl]; decide⟩) (mx_preV w hM hM.st rfl) rfl rfl hl.1 rfl (lv_room (Nat.le_of_ble_eq_true rfl)) dX1_stage_18 ⟨Nat.zero_le _, Nat.zero_le _⟩) (fun r M H locs hp w => ?_)
      obtain ⟨rfl, hM⟩ := hp
      rw [cf_cstage_c18] at E
      obtain ⟨f_18, ef_18⟩ : ∃ y, y = (cf_ready f ) := ⟨_, rfl⟩
      rw [← ef_18] at E hM
      refine mx_bq w (va_runV (As := []) (rest := [.ref (ad 0)]) X (ct_peek l G A ad np ng M0 M f_18  hM (by rw [ef_18]; exact ready_pk hn6 hcp hS.runs hS.q (by assumption))) (cwV 0 X.2.2.2.2 (lw_V q1498 q1499 q1500 q104 q1501) rfl rfl rfl (by decide +kernel) ⟨by rw [hRf]; decide, by rw [hRl]; decide⟩) (mx_preV w rfl hM.q17 rfl) rfl rfl hl.1 rfl (lv_room (Nat.le_of_ble_eq_true rfl)) dX1_stage_21 ⟨Nat.zero_le _, Nat.zero_le _⟩) (fun r M9 H locs hp w => ?_)
      obtain ⟨rfl, eM⟩ := hp; subst M9
      have eo_21 : va_rf ((cf_peek f_18 ).map fun k => ad (20 + k)) = .ref (ad (20 + (tN (f_18 (180 + 0))))) := rfl
      rw [eo_21]
      have hpk : tN (f_18 (180 + 0)) < np := by rw [ef_18]; exact hS.pk (by assumption)
      refine st_castP X w hM (by first | omega | assumption) q261 dX1_stage_24 ?_
      refine mx_bv w (va_runV (As := [.ref (ad (20 + (tN (f_18 (180 + 0)))))]) (rest := []) X (ct_cstart l G A ad np ng M0 f_18 (tN (f_18 (180 + 0)))  (hpk) (by rw [ef_18]; exact (SI_ready hS).var) (by rw [ef_18]; exact (SI_ready hS).ne)) (cwV 1 X.2.2.2.2 (lw_V q1502 q1504 qs32 q97 q1505) rfl rfl rfl (by decide +kernel) ⟨by rw [hRf]; decide, by rw [hRl]; decide⟩) (mx_preV w hM hM.st rfl) rfl rfl hl.1 rfl (lv_room (Nat.le_of_ble_eq_true rfl)) dX1_stage_27 ⟨Nat.zero_le _, Nat.zero_le _⟩) (fun M H locs hM w => ?_)
      rw [cf_cstage_c27] at E
      obtain ⟨f_27, ef_27⟩ : ∃ y, y = (cf_cstart f_18 (tN (f_18 (180 + 0)))) := ⟨_, rfl⟩
      rw [← ef_27] at E hM
      refine lv_aload_n hx hb dX1_stage_30 rfl (lv_at hl 0 rfl) ?_
      refine mx_bv w (va_runV (As := []) (rest := []) X (ct_forget l G A ad np ng M0 f_27   ) (cwV 0 X.2.2.2.2 (lw_V q1513 q1438 qs27 q97 q1439) rfl rfl rfl (by decide +kernel) ⟨by rw [hRf]; decide, by rw [hRl]; decide⟩) (mx_preV w hM hM.st rfl) rfl rfl hl.1 rfl (lv_room (Nat.le_of_ble_eq_true rfl)) dX1_stage_31 ⟨Nat.zero_le _, Nat.zero_le _⟩) (fun M H locs hM w => ?_)
      rw [cf_cstage_c31] at E
      obtain ⟨f_31, ef_31⟩ : ∃ y, y = (cf_forget f_27 ) := ⟨_, rfl⟩
      rw [← ef_31] at E hM
      refine lv_goto (tgt := 115) hx hb dX1_stage_34 (by decide) ?_
      exact J115 f_31 M H locs ls E (lv_sub hl [] rfl) w hM
def cf_crotate_45 (f : (Nat → Int32))  : (Nat → Int32) := f
def cf_crotate_111 (f : (Nat → Int32)) (f_111 : (Nat → Int32)) : (Nat → Int32) := f_111
def cf_crotate_c108 (f : (Nat → Int32)) (f_76 : (Nat → Int32)) (f_93 : (Nat → Int32)) (f_103 : (Nat → Int32)) (f_108 : (Nat → Int32)) : (Nat → Int32) := (cf_crotate_111 f f_108)
def cf_crotate_c103 (f : (Nat → Int32)) (f_76 : (Nat → Int32)) (f_93 : (Nat → Int32)) (f_103 : (Nat → Int32)) : (Nat → Int32) := (cf_crotate_c108 f f_76 f_93 f_103 (cf_cstop f_103 (tN (f 4))))
def cf_crotate_c93 (f : (Nat → Int32)) (f_76 : (Nat → Int32)) (f_93 : (Nat → Int32)) : (Nat → Int32) := (cf_crotate_c103 f f_76 f_93 (cf_tell f_93 (7 : Int32) (nI ((cf_fresh f (tN (f 4))).getD 0))))
def cf_crotate_c76 (f : (Nat → Int32)) (f_76 : (Nat → Int32)) : (Nat → Int32) := (cf_crotate_c93 f f_76 (cf_tell (upd f_76 4 (nI ((cf_fresh f (tN (f 4))).getD 0))) (0 : Int32) (nI ((cf_fresh f (tN (f 4))).getD 0))))
def cf_crotate (f : (Nat → Int32)) : (Nat → Int32) := (if (f 38) = 0 then (cf_crotate_45 f ) else (if (f 4) = (-1 : Int32) then (cf_crotate_45 f ) else (if (f 38) ≤ (f (39 + (8 * (tN (f 4))) + 6)) then (if (cf_fresh f (tN (f 4))) = none then (cf_crotate_111 f f) else (cf_crotate_c76 f (cf_pstart f ((cf_fresh f (tN (f 4))).getD 0) (f (39 + (8 * (tN (f 4))) + 4))))) else (cf_crotate_45 f ))))
set_option maxHeartbeats 4000000 in
set_option maxRecDepth 100000 in
theorem ct_crotate (l : Launch) (G : mg) (A : Nat → Prop) (ad : Nat → Nat) (np ng : Nat) (M0 : mh) (f : Nat → Int32)  (T nz : Nat) (hS : SI T np nz ng f) : Met l yX1_rotate (ws_ yX1_rotate cX1_rotate 3 (none)) ({ frames := 4, cells := 0, slots := 0, locals := 89 }) (va_Pc [.ref (ad 0)] (mU G A (fun M => Sta G ad np ng M0 M f))) (mQv G A (fun M => Sta G ad np ng M0 M (cf_crotate f))) 0 0 A := by
  refine mx_ofv (by decide) (Nat.le_of_ble_eq_true rfl) ?_
  intro p e R s m av below meth c M H Q ls X hRf hRl hRc hRs hin hM w fin hl
  have X : CallFix p m c cX1_rotate 3 s av lw_all "FieldPumps$Station" := X
  have hx := X.1
  have hb := X.2.1
  have hl : lv_has ls 3 [(0, .ref (ad 0))] := hl
  have hRf : R.frames = 4 := hRf
  have hRl : R.locals = 89 := hRl
  have hRc : R.cells = 0 := hRc
  have hRs : R.slots = 0 := hRs
  have hcp := hM.cnp
  have hn6 := hM.n6
  have hg8 := hM.g8
  generalize ([] : List Loc) = locs at w ⊢
  generalize E : cf_crotate f = z at fin
  rw [cf_crotate] at E
  refine lv_aload_n hx hb dX1_rotate_0 rfl (lv_at hl 0 rfl) ?_
  refine mx_get (v := .ref (ad 13)) X w in_X1 (ci := 1) rfl 10 (by decide) q311 (fun _ h => h) hM.st rfl dX1_rotate_1 ?_
  refine lv_bipush (v := (18 : Int32)) hx hb dX1_rotate_4 (by decide) ?_
  refine mx_iald2 X w hM.a13 18 (show 18 < 19 from by decide) (by decide) (if_pos (show 18 < 19 from by decide)) dX1_rotate_6 ?_
  have J45 : ∀  (M : mh) (H : Heap) (locs : List Loc) (ls : Array Slot), cf_crotate_45 f  = z → lv_has ls 3 [] → mW G A s M H locs → Sta G ad np ng M0 M f → W p l e R s m av below meth c H locs 0 0 Q (F0 m 45 ls []) := by
    intro  M H locs ls  E hl w hM
    have hcp := hM.cnp
    rw [cf_crotate_45] at E
    exact fin M H locs ls 45 dX1_rotate_45 (by rw [← E]; exact hM) w
  refine lv_if_eq (tgt := 45) hx hb dX1_rotate_7 (by decide) (fun c_7 => ?_) (fun c_7 => ?_)
  · rw [if_pos c_7] at E
    exact J45  M H locs ls E (lv_sub hl [] rfl) w hM
  · rw [if_neg c_7] at E
    refine lv_aload_n hx hb dX1_rotate_10 rfl (lv_at hl 0 rfl) ?_
    refine mx_get (v := .int (f 4)) X w in_X1 (ci := 1) rfl 22 (by decide) q337 (fun _ h => h) hM.st rfl dX1_rotate_11 ?_
    refine lv_iconst (v := (-1 : Int32)) hx hb dX1_rotate_14 (by decide) ?_
    refine lv_icmp_eq (tgt := 45) hx hb dX1_rotate_15 (by decide) (fun c_15 => ?_) (fun c_15 => ?_)
    · rw [if_pos c_15] at E
      exact J45  M H locs ls E (lv_sub hl [] rfl) w hM
    · rw [if_neg c_15] at E
      refine lv_aload_n hx hb dX1_rotate_18 rfl (lv_at hl 0 rfl) ?_
      refine mx_get (v := .ref (ad 1)) X w in_X1 (ci := 1) rfl 0 (by decide) q286 (fun _ h => h) hM.st rfl dX1_rotate_19 ?_
      obtain ⟨hj1, hj2⟩ := isP_n hS.var c_15 hn6
      refine lv_aload_n hx hb dX1_rotate_22 rfl (lv_at hl 0 rfl) ?_
      refine mx_get (v := .int (f 4)) X w in_X1 (ci := 1) rfl 22 (by decide) q337 (fun _ h => h) hM.st rfl dX1_rotate_23 ?_
      refine mx_cast (z := nI (tN (f 4))) (hj1) ?_
      refine mx_bq w (va_runV (As := [.int (nI (tN (f 4)))]) (rest := []) X (ct_pget l G A ad np ng M0 M f (tN (f 4)) hM (by first | omega | assumption)) (cwV 1 X.2.2.2.2 (lw_V q247 q248 q249 q100 q250) rfl rfl rfl (by decide +kernel) ⟨by rw [hRf]; decide, by rw [hRl]; decide⟩) (mx_preV w rfl hM.pl rfl) rfl rfl hl.1 rfl (lv_room (Nat.le_of_ble_eq_true rfl)) dX1_rotate_26 ⟨Nat.zero_le _, Nat.zero_le _⟩) (fun r M9 H locs hp w => ?_)
      obtain ⟨rfl, eM⟩ := hp; subst M9
      refine st_castP X w hM (by first | omega | assumption) q261 dX1_rotate_29 ?_
      refine st_getPN (v := .int (f (39 + (8 * (tN (f 4))) + 6))) X w hM (k := (tN (f 4))) (by first | omega | assumption) 6 (by decide) q606 rfl dX1_rotate_32 ?_
      refine lv_aload_n hx hb dX1_rotate_35 rfl (lv_at hl 0 rfl) ?_
      refine mx_get (v := .ref (ad 13)) X w in_X1 (ci := 1) rfl 10 (by decide) q311 (fun _ h => h) hM.st rfl dX1_rotate_36 ?_
      refine lv_bipush (v := (18 : Int32)) hx hb dX1_rotate_39 (by decide) ?_
      refine mx_iald2 X w hM.a13 18 (show 18 < 19 from by decide) (by decide) (if_pos (show 18 < 19 from by decide)) dX1_rotate_41 ?_
      refine lv_icmp_ge (tgt := 46) hx hb dX1_rotate_42 (by decide) (fun c_42 => ?_) (fun c_42 => ?_)
      · rw [if_pos c_42] at E
        refine lv_aload_n hx hb dX1_rotate_46 rfl (lv_at hl 0 rfl) ?_
        refine mx_get (v := .ref (ad 1)) X w in_X1 (ci := 1) rfl 0 (by decide) q286 (fun _ h => h) hM.st rfl dX1_rotate_47 ?_
        refine lv_aload_n hx hb dX1_rotate_50 rfl (lv_at hl 0 rfl) ?_
        refine mx_get (v := .int (f 4)) X w in_X1 (ci := 1) rfl 22 (by decide) q337 (fun _ h => h) hM.st rfl dX1_rotate_51 ?_
        refine mx_cast (z := nI (tN (f 4))) (hj1) ?_
        refine mx_bq w (va_runV (As := [.int (nI (tN (f 4)))]) (rest := []) X (ct_pget l G A ad np ng M0 M f (tN (f 4)) hM (by first | omega | assumption)) (cwV 1 X.2.2.2.2 (lw_V q247 q248 q249 q100 q250) rfl rfl rfl (by decide +kernel) ⟨by rw [hRf]; decide, by rw [hRl]; decide⟩) (mx_preV w rfl hM.pl rfl) rfl rfl hl.1 rfl (lv_room (Nat.le_of_ble_eq_true rfl)) dX1_rotate_54 ⟨Nat.zero_le _, Nat.zero_le _⟩) (fun r M9 H locs hp w => ?_)
        obtain ⟨rfl, eM⟩ := hp; subst M9
        refine st_castP X w hM (by first | omega | assumption) q261 dX1_rotate_57 ?_
        refine lv_astore_n (lv' := [(1, .ref (ad (20 + (tN (f 4))))), (0, .ref (ad 0))]) hx hb dX1_rotate_60 rfl hl (by decide) rfl (fun ls hl => ?_)
        refine lv_aload_n hx hb dX1_rotate_61 rfl (lv_at hl 1 rfl) ?_
        refine lv_aload_n hx hb dX1_rotate_62 rfl (lv_at hl 0 rfl) ?_
        refine mx_bq w (va_runV (As := [.ref (ad (20 + (tN (f 4))))]) (rest := []) X (ct_fresh l G A ad np ng M0 M f (tN (f 4)) hM (by first | omega | assumption)) (cwV 1 X.2.2.2.2 (lw_V q1538 q1540 qs38 q97 q1541) rfl rfl rfl (by decide +kernel) ⟨by rw [hRf]; decide, by rw [hRl]; decide⟩) (mx_preV w rfl hM.st rfl) rfl rfl hl.1 rfl (lv_room (Nat.le_of_ble_eq_true rfl)) dX1_rotate_63 ⟨Nat.zero_le _, Nat.zero_le _⟩) (fun r M9 H locs hp w => ?_)
        obtain ⟨rfl, eM⟩ := hp; subst M9
        refine mx_astore_nQ (lv' := [(2, va_rf ((cf_fresh f (tN (f 4))).map fun k => ad (20 + k))), (1, .ref (ad (20 + (tN (f 4))))), (0, .ref (ad 0))]) hx hb dX1_rotate_66 rfl hl (by decide) (by first | rfl | (simp only [List.filter, va_rf_cat]; rfl)) (fun ls hl => ?_)
        refine mx_aload_nQ hx hb dX1_rotate_67 rfl (lv_at hl 0 rfl) ?_
        have J111 : ∀ (f_111 : (Nat → Int32)) (M : mh) (H : Heap) (locs : List Loc) (ls : Array Slot), cf_crotate_111 f f_111 = z → lv_has ls 3 [] → mW G A s M H locs → Sta G ad np ng M0 M f_111 → W p l e R s m av below meth c H locs 0 0 Q (F0 m 111 ls []) := by
          intro f_111 M H locs ls  E hl w hM
          have hcp := hM.cnp
          rw [cf_crotate_111] at E
          exact fin M H locs ls 111 dX1_rotate_111 (by rw [← E]; exact hM) w
        refine mx_ifnullP (tgt := 111) hx hb dX1_rotate_68 (by decide) (fun c_68 => ?_) (fun c_68 => ?_)
        · rw [if_pos c_68] at E
          exact J111 f M H locs ls E (lv_sub hl [] rfl) w hM
        · rw [if_neg c_68] at E
          have eo_68 : va_rf ((cf_fresh f (tN (f 4))).map fun k => ad (20 + k)) = .ref (ad (20 + ((cf_fresh f (tN (f 4))).getD 0))) := P_ref c_68
          have hl9 : (cf_fresh f (tN (f 4))).getD 0 < np := okP_getD (E_fresh_4 (w := fun _ _ => 0) (s := 0) hn6 hcp rfl (by omega) 7 none 0 okP_none (by omega) (by omega)).1 c_68
          refine mx_aload_nQ hx hb dX1_rotate_71 rfl (lv_at hl 0 rfl) ?_
          rw [eo_68]
          refine lv_aload_n hx hb dX1_rotate_72 rfl (lv_at hl 1 rfl) ?_
          refine st_getPN (v := .int (f (39 + (8 * (tN (f 4))) + 4))) X w hM (k := (tN (f 4))) (by first | omega | assumption) 4 (by decide) q596 rfl dX1_rotate_73 ?_
          refine mx_bv w (st_callP (As := [.int (f (39 + (8 * (tN (f 4))) + 4))]) (rest := []) X w hM (by first | omega | assumption) (ct_pstart l G A ad np ng M0 f ((cf_fresh f (tN (f 4))).getD 0) (f (39 + (8 * (tN (f 4))) + 4))  (by first | omega | assumption)) (va_cwU 1 X.2.2.2.2 (lw_U q1506 q1508 q1509 q1507 q115 q1512) rfl rfl rfl rfl (by decide +kernel) ⟨by rw [hRf]; decide, by rw [hRl]; decide⟩) (va_cwU 1 X.2.2.2.2 (lw_U q1506 q1508 q1511 q1507 q115 q1512) rfl rfl rfl rfl (by decide +kernel) ⟨by rw [hRf]; decide, by rw [hRl]; decide⟩) (va_cwU 1 X.2.2.2.2 (lw_U q1506 q1508 q1510 q1507 q115 q1512) rfl rfl rfl rfl (by decide +kernel) ⟨by rw [hRf]; decide, by rw [hRl]; decide⟩) hM rfl rfl hl.1 rfl (lv_room (Nat.le_of_ble_eq_true rfl)) dX1_rotate_76 ⟨Nat.zero_le _, Nat.zero_le _⟩) (fun M H locs hM w => ?_)
          rw [cf_crotate_c76] at E
          obtain ⟨f_76, ef_76⟩ : ∃ y, y = (cf_pstart f ((cf_fresh f (tN (f 4))).getD 0) (f (39 + (8 * (tN (f 4))) + 4))) := ⟨_, rfl⟩
          rw [← ef_76] at E hM
          refine lv_aload_n hx hb dX1_rotate_79 rfl (lv_at hl 2 rfl) ?_
          refine mx_aload_nQ hx hb dX1_rotate_80 rfl (lv_at hl 0 rfl) ?_
          rw [eo_68]
          refine st_getPN (v := .int (nI ((cf_fresh f (tN (f 4))).getD 0))) X w hM (k := ((cf_fresh f (tN (f 4))).getD 0)) (by first | omega | assumption) 0 (by decide) q584 rfl dX1_rotate_81 ?_
          refine st_put (x := (nI ((cf_fresh f (tN (f 4))).getD 0))) X w hM 22 4 q337 rfl rfl rfl rfl rfl (stOk_lit rfl) dX1_rotate_84 (fun M H locs w hM => ?_)
          refine lv_aload_n hx hb dX1_rotate_87 rfl (lv_at hl 2 rfl) ?_
          refine lv_iconst (v := (0 : Int32)) hx hb dX1_rotate_88 (by decide) ?_
          refine mx_aload_nQ hx hb dX1_rotate_89 rfl (lv_at hl 0 rfl) ?_
          rw [eo_68]
          refine st_getPN (v := .int (nI ((cf_fresh f (tN (f 4))).getD 0))) X w hM (k := ((cf_fresh f (tN (f 4))).getD 0)) (by first | omega | assumption) 0 (by decide) q584 rfl dX1_rotate_90 ?_
          refine mx_bv w (va_runV (As := [.int (0 : Int32), .int (nI ((cf_fresh f (tN (f 4))).getD 0))]) (rest := []) X (ct_tell l G A ad np ng M0 (upd f_76 4 (nI ((cf_fresh f (tN (f 4))).getD 0))) (0 : Int32) (nI ((cf_fresh f (tN (f 4))).getD 0))  (by rw [pk_un (by decide), ef_76]; exact pstart_19 hS.ne)) (cwV 2 X.2.2.2.2 (lw_V q855 q857 qs9 q97 q858) rfl rfl rfl (by decide +kernel) ⟨by rw [hRf]; decide, by rw [hRl]; decide⟩) (mx_preV w hM hM.st rfl) rfl rfl hl.1 rfl (lv_room (Nat.le_of_ble_eq_true rfl)) dX1_rotate_93 ⟨Nat.zero_le _, Nat.zero_le _⟩) (fun M H locs hM w => ?_)
          rw [cf_crotate_c93] at E
          obtain ⟨f_93, ef_93⟩ : ∃ y, y = (cf_tell (upd f_76 4 (nI ((cf_fresh f (tN (f 4))).getD 0))) (0 : Int32) (nI ((cf_fresh f (tN (f 4))).getD 0))) := ⟨_, rfl⟩
          rw [← ef_93] at E hM
          refine lv_aload_n hx hb dX1_rotate_96 rfl (lv_at hl 2 rfl) ?_
          refine lv_bipush (v := (7 : Int32)) hx hb dX1_rotate_97 (by decide) ?_
          refine mx_aload_nQ hx hb dX1_rotate_99 rfl (lv_at hl 0 rfl) ?_
          rw [eo_68]
          refine st_getPN (v := .int (nI ((cf_fresh f (tN (f 4))).getD 0))) X w hM (k := ((cf_fresh f (tN (f 4))).getD 0)) (by first | omega | assumption) 0 (by decide) q584 rfl dX1_rotate_100 ?_
          refine mx_bv w (va_runV (As := [.int (7 : Int32), .int (nI ((cf_fresh f (tN (f 4))).getD 0))]) (rest := []) X (ct_tell l G A ad np ng M0 f_93 (7 : Int32) (nI ((cf_fresh f (tN (f 4))).getD 0))  (by rw [ef_93]; exact tell_rg (by rw [pk_un (by decide), ef_76]; exact pstart_19 hS.ne) _ _)) (cwV 2 X.2.2.2.2 (lw_V q855 q857 qs9 q97 q858) rfl rfl rfl (by decide +kernel) ⟨by rw [hRf]; decide, by rw [hRl]; decide⟩) (mx_preV w hM hM.st rfl) rfl rfl hl.1 rfl (lv_room (Nat.le_of_ble_eq_true rfl)) dX1_rotate_103 ⟨Nat.zero_le _, Nat.zero_le _⟩) (fun M H locs hM w => ?_)
          rw [cf_crotate_c103] at E
          obtain ⟨f_103, ef_103⟩ : ∃ y, y = (cf_tell f_93 (7 : Int32) (nI ((cf_fresh f (tN (f 4))).getD 0))) := ⟨_, rfl⟩
          rw [← ef_103] at E hM
          refine lv_aload_n hx hb dX1_rotate_106 rfl (lv_at hl 2 rfl) ?_
          refine lv_aload_n hx hb dX1_rotate_107 rfl (lv_at hl 1 rfl) ?_
          refine mx_bv w (va_runV (As := [.ref (ad (20 + (tN (f 4))))]) (rest := []) X (ct_cstop l G A ad np ng M0 f_103 (tN (f 4))  (hj2) (by rw [ef_103]; exact tell_rg (by rw [ef_93]; exact tell_rg (by rw [pk_un (by decide), ef_76]; exact pstart_19 hS.ne) _ _) _ _)) (cwV 1 X.2.2.2.2 (lw_V q844 q845 q846 q97 q847) rfl rfl rfl (by decide +kernel) ⟨by rw [hRf]; decide, by rw [hRl]; decide⟩) (mx_preV w hM hM.st rfl) rfl rfl hl.1 rfl (lv_room (Nat.le_of_ble_eq_true rfl)) dX1_rotate_108 ⟨Nat.zero_le _, Nat.zero_le _⟩) (fun M H locs hM w => ?_)
          rw [cf_crotate_c108] at E
          obtain ⟨f_108, ef_108⟩ : ∃ y, y = (cf_cstop f_103 (tN (f 4))) := ⟨_, rfl⟩
          rw [← ef_108] at E hM
          exact J111 f_108 M H locs ls E (lv_sub hl [] rfl) w hM
      · rw [if_neg c_42] at E
        exact J45  M H locs ls E (lv_sub hl [] rfl) w hM
