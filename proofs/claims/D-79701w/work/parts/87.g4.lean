set_option maxRecDepth 100000
/-! G4: the night's flow -/
def n4 (f : Nat → Int32) : Int32 := f 0 - f 0 / (1440 : Int32) * (1440 : Int32) - f 35 + (1440 : Int32) - (f 0 - f 0 / (1440 : Int32) * (1440 : Int32) - f 35 + (1440 : Int32)) / (1440 : Int32) * (1440 : Int32)
def f4 (f : Nat → Int32) : Nat → Int32 := upd f 8 (f 8 + if n4 f < f 36 then f 3 else (0 : Int32))
def Go4 (f : Nat → Int32) (nn : Nat) (g : Nat → Int32) : Prop := if n4 f = f 36 - (1 : Int32) then NightG (f4 f) nn g else g = f4 f
theorem f4_of {f g : Nat → Int32} (h : (n4 f < f 36 ∧ g = upd f 8 (f 8 + f 3)) ∨ (¬ n4 f < f 36 ∧ g = upd f 8 (f 8 + (0 : Int32)))) : f4 f = g := by
  rcases h with ⟨h, rfl⟩ | ⟨h, rfl⟩
  · unfold f4; rw [if_pos h]
  · unfold f4; rw [if_neg h]
set_option maxHeartbeats 4000000 in
set_option maxRecDepth 100000 in
theorem ct_go4 (l : Launch) (G : mg) (A : Nat → Prop) (ad : Nat → Nat) (np ng : Nat) (M0 : mh) (f : Nat → Int32) (nn : Nat) (h18 : f 18 = nI nn) (hn7 : nn ≤ 7) (he : rg (f 19) 12) (mc ms : Nat) (hcost : n4 f = f 36 - (1 : Int32) → mc = 66 ∧ ms = 171) : Met l yX14_go (ws_ yX14_go cX14_go 3 (none)) ({ frames := 9, cells := mc, slots := ms, locals := 203 }) (va_Pc [.ref (G.2 (10 + 3)), .ref (ad 0)] (mU G A (fun M => Sta G ad np ng M0 M f))) (mQv G A (fun M => ∃ g, Go4 f nn g ∧ Sta G ad np ng M0 M g)) mc ms A := by
  refine mx_ofv (by decide) (Nat.le_of_ble_eq_true rfl) ?_
  intro p e R s m av below meth c M H Q ls X hRf hRl hRc hRs hin hPre w fin hl
  have X : CallFix p m c cX14_go 3 s av lw_all "FieldPumps$Stage$4" := X
  have hx := X.1
  have hb := X.2.1
  have hl : lv_has ls 3 [(0, .ref (G.2 (10 + 3))), (1, .ref (ad 0))] := hl
  have hRf : R.frames = 9 := hRf
  have hRl : R.locals = 203 := hRl
  have hRc : R.cells = mc := hRc
  have hRs : R.slots = ms := hRs
  generalize ([] : List Loc) = locs at w ⊢
  have hM := hPre
  refine lv_aload_n hx hb dX14_go_0 rfl (lv_at hl 1 rfl) ?_
  refine mx_getN (T := TX1) (v := .int (f 0)) X w in_X1 (ci := 1) rfl 18 (by decide) (w.tblB q324 rfl rfl) (fun _ h => h) hM.st rfl dX14_go_1 ?_
  refine lv_sipush (v := (1440 : Int32)) hx hb dX14_go_4 (by decide) ?_
  refine lv_irem hx hb dX14_go_7 (by decide) ?_
  refine lv_aload_n hx hb dX14_go_8 rfl (lv_at hl 1 rfl) ?_
  refine mx_getN (T := TX1) (v := .ref (ad 13)) X w in_X1 (ci := 1) rfl 10 (by decide) (w.tblB q309 rfl rfl) (fun _ h => h) hM.st rfl dX14_go_9 ?_
  refine lv_bipush (v := (15 : Int32)) hx hb dX14_go_12 (by decide) ?_
  refine mx_iald2 X w hM.a13 15 (show 15 < 19 by decide) (by decide) (x := f 35) (if_pos (show 15 < 19 by decide)) dX14_go_14 ?_
  refine lv_isub hx hb dX14_go_15 ?_
  refine lv_sipush (v := (1440 : Int32)) hx hb dX14_go_16 (by decide) ?_
  refine lv_iadd hx hb dX14_go_19 ?_
  refine lv_sipush (v := (1440 : Int32)) hx hb dX14_go_20 (by decide) ?_
  refine lv_irem hx hb dX14_go_23 (by decide) ?_
  refine lv_istore_n (lv' := [(2, .int (((((f 0) - (f 0) / (1440 : Int32) * (1440 : Int32)) - (f 35)) + (1440 : Int32)) - ((((f 0) - (f 0) / (1440 : Int32) * (1440 : Int32)) - (f 35)) + (1440 : Int32)) / (1440 : Int32) * (1440 : Int32))), (0, .ref (G.2 (10 + 3))), (1, .ref (ad 0))]) hx hb dX14_go_24 rfl hl (by decide) rfl (fun ls hl => ?_)
  refine lv_aload_n hx hb dX14_go_25 rfl (lv_at hl 2 rfl) ?_
  refine lv_dup hx hb dX14_go_26 rfl ?_
  refine mx_getN (T := TX1) (v := .int (f 8)) X w in_X1 (ci := 1) rfl 25 (by decide) (w.tblB q346 rfl rfl) (fun _ h => h) hM.st rfl dX14_go_27 ?_
  refine lv_iload_n hx hb dX14_go_30 rfl (lv_at hl 0 rfl) ?_
  refine lv_aload_n hx hb dX14_go_31 rfl (lv_at hl 2 rfl) ?_
  refine mx_getN (T := TX1) (v := .ref (ad 13)) X w in_X1 (ci := 1) rfl 10 (by decide) (w.tblB q309 rfl rfl) (fun _ h => h) hM.st rfl dX14_go_32 ?_
  refine lv_bipush (v := (16 : Int32)) hx hb dX14_go_35 (by decide) ?_
  refine mx_iald2 X w hM.a13 16 (show 16 < 19 by decide) (by decide) (x := f 36) (if_pos (show 16 < 19 by decide)) dX14_go_37 ?_
  refine lv_icmp_ge (tgt := 48) hx hb dX14_go_38 (by decide) (fun c_38 => ?_) (fun c_38 => ?_)
  · skip
    have c38 : ¬ n4 f < f 36 := Int32.not_lt.mpr c_38
    refine lv_iconst (v := (0 : Int32)) hx hb dX14_go_48 (by decide) ?_
    refine lv_iadd hx hb dX14_go_49 ?_
    refine st_putN (x := ((f 8) + (0 : Int32))) X w hM 25 8 (w.tblB q346 rfl rfl) rfl rfl rfl rfl rfl (stOk_lit rfl) dX14_go_50 (fun M H locs w hM => ?_)
    have e4 : f4 f = (upd f 8 ((f 8) + (0 : Int32))) := f4_of (by first | exact Or.inl ⟨c38, rfl⟩ | exact Or.inr ⟨c38, rfl⟩)
    refine lv_iload_n hx hb dX14_go_53 rfl (lv_at hl 0 rfl) ?_
    refine lv_aload_n hx hb dX14_go_54 rfl (lv_at hl 2 rfl) ?_
    refine mx_getN (T := TX1) (v := .ref (ad 13)) X w in_X1 (ci := 1) rfl 10 (by decide) (w.tblB q309 rfl rfl) (fun _ h => h) hM.st rfl dX14_go_55 ?_
    refine lv_bipush (v := (16 : Int32)) hx hb dX14_go_58 (by decide) ?_
    refine mx_iald2 X w hM.a13 16 (show 16 < 19 by decide) (by decide) (x := f 36) ((if_pos (show 16 < 19 by decide)).trans (pk_un (by decide))) dX14_go_60 ?_
    refine lv_iconst (v := (1 : Int32)) hx hb dX14_go_61 (by decide) ?_
    refine lv_isub hx hb dX14_go_62 ?_
    refine lv_icmp_ne (tgt := 70) hx hb dX14_go_63 (by decide) (fun c_63 => ?_) (fun c_63 => ?_)
    · skip
      have hG : Go4 f nn (f4 f) := by unfold Go4; rw [if_neg (show ¬ n4 f = f 36 - 1 from c_63)]
      rw [e4] at hG
      refine W.widen (k := mc) (n := ms) (by omega) (by omega) ?_
      exact fin _ H locs ls 70 dX14_go_70 (⟨_, hG, hM⟩) w
    · skip
      have c63 : n4 f = f 36 - 1 := c_63
      obtain ⟨hmc, hms⟩ := hcost c63
      refine lv_aload_n hx hb dX14_go_66 rfl (lv_at hl 2 rfl) ?_
      refine mx_bv w (va_runVN (As := []) (rest := []) X (ct_noteNight l G A ad np ng M0 (upd f 8 ((f 8) + (0 : Int32))) nn ((pk_un (by decide)).trans h18) hn7 (by rw [pk_un (by decide)]; exact he)) ⟨va_cnB 0 X.2.2.2.2 (lw_meth q912) rfl rfl rfl (w.tbl q909 rfl) (X.2.2.2.2 _ q97) (by decide +kernel) ⟨by rw [hRf]; decide, by rw [hRl]; decide⟩, X.2.2.2.2 _ q911, X.2.2.2.2 _ qs11⟩ (mx_preV w hM hM.st rfl) rfl rfl hl.1 rfl (lv_room (Nat.le_of_ble_eq_true rfl)) dX14_go_67 ⟨by rw [hRc]; omega, by rw [hRs]; omega⟩) (fun M H locs hp w => ?_)
      obtain ⟨g, hg, hM⟩ := hp
      have hG : Go4 f nn g := by unfold Go4; rw [if_pos c63, e4]; exact hg
      refine W.widen (k := mc) (n := ms) (by omega) (by omega) ?_
      exact fin _ H locs ls 70 dX14_go_70 (⟨_, hG, hM⟩) w
  · skip
    have c38 : n4 f < f 36 := Int32.not_le.mp c_38
    refine lv_aload_n hx hb dX14_go_41 rfl (lv_at hl 2 rfl) ?_
    refine mx_getN (T := TX1) (v := .int (f 3)) X w in_X1 (ci := 1) rfl 23 (by decide) (w.tblB q340 rfl rfl) (fun _ h => h) hM.st rfl dX14_go_42 ?_
    refine lv_goto (tgt := 49) hx hb dX14_go_45 (by decide) ?_
    refine lv_iadd hx hb dX14_go_49 ?_
    refine st_putN (x := ((f 8) + (f 3))) X w hM 25 8 (w.tblB q346 rfl rfl) rfl rfl rfl rfl rfl (stOk_lit rfl) dX14_go_50 (fun M H locs w hM => ?_)
    have e4 : f4 f = (upd f 8 ((f 8) + (f 3))) := f4_of (by first | exact Or.inl ⟨c38, rfl⟩ | exact Or.inr ⟨c38, rfl⟩)
    refine lv_iload_n hx hb dX14_go_53 rfl (lv_at hl 0 rfl) ?_
    refine lv_aload_n hx hb dX14_go_54 rfl (lv_at hl 2 rfl) ?_
    refine mx_getN (T := TX1) (v := .ref (ad 13)) X w in_X1 (ci := 1) rfl 10 (by decide) (w.tblB q309 rfl rfl) (fun _ h => h) hM.st rfl dX14_go_55 ?_
    refine lv_bipush (v := (16 : Int32)) hx hb dX14_go_58 (by decide) ?_
    refine mx_iald2 X w hM.a13 16 (show 16 < 19 by decide) (by decide) (x := f 36) ((if_pos (show 16 < 19 by decide)).trans (pk_un (by decide))) dX14_go_60 ?_
    refine lv_iconst (v := (1 : Int32)) hx hb dX14_go_61 (by decide) ?_
    refine lv_isub hx hb dX14_go_62 ?_
    refine lv_icmp_ne (tgt := 70) hx hb dX14_go_63 (by decide) (fun c_63 => ?_) (fun c_63 => ?_)
    · skip
      have hG : Go4 f nn (f4 f) := by unfold Go4; rw [if_neg (show ¬ n4 f = f 36 - 1 from c_63)]
      rw [e4] at hG
      refine W.widen (k := mc) (n := ms) (by omega) (by omega) ?_
      exact fin _ H locs ls 70 dX14_go_70 (⟨_, hG, hM⟩) w
    · skip
      have c63 : n4 f = f 36 - 1 := c_63
      obtain ⟨hmc, hms⟩ := hcost c63
      refine lv_aload_n hx hb dX14_go_66 rfl (lv_at hl 2 rfl) ?_
      refine mx_bv w (va_runVN (As := []) (rest := []) X (ct_noteNight l G A ad np ng M0 (upd f 8 ((f 8) + (f 3))) nn ((pk_un (by decide)).trans h18) hn7 (by rw [pk_un (by decide)]; exact he)) ⟨va_cnB 0 X.2.2.2.2 (lw_meth q912) rfl rfl rfl (w.tbl q909 rfl) (X.2.2.2.2 _ q97) (by decide +kernel) ⟨by rw [hRf]; decide, by rw [hRl]; decide⟩, X.2.2.2.2 _ q911, X.2.2.2.2 _ qs11⟩ (mx_preV w hM hM.st rfl) rfl rfl hl.1 rfl (lv_room (Nat.le_of_ble_eq_true rfl)) dX14_go_67 ⟨by rw [hRc]; omega, by rw [hRs]; omega⟩) (fun M H locs hp w => ?_)
      obtain ⟨g, hg, hM⟩ := hp
      have hG : Go4 f nn g := by unfold Go4; rw [if_pos c63, e4]; exact hg
      refine W.widen (k := mc) (n := ms) (by omega) (by omega) ?_
      exact fin _ H locs ls 70 dX14_go_70 (⟨_, hG, hM⟩) w
