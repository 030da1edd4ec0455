set_option maxRecDepth 100000
/-! C6 -/
def cf_ready_79 (f : (Nat → Int32)) (bs0_13 : Bool) (f_20 : (Nat → Int32)) (rc_25 : Nat → (Nat → Int32) → (Nat → Int32)) (n1_25 : Nat) (f_25 : (Nat → Int32)) (bs0_79 : Bool) (f_79 : (Nat → Int32)) : (Nat → Int32) := ( rc_25 (n1_25 + 1) f_79)
def cf_ready_78 (f : (Nat → Int32)) (bs0_13 : Bool) (f_20 : (Nat → Int32)) (rc_25 : Nat → (Nat → Int32) → (Nat → Int32)) (n1_25 : Nat) (f_25 : (Nat → Int32)) (f_78 : (Nat → Int32)) : (Nat → Int32) := (cf_ready_79 f bs0_13 f_20 rc_25 n1_25 f_25 false f_78)
def cf_ready_c68 (f : (Nat → Int32)) (bs0_13 : Bool) (f_20 : (Nat → Int32)) (rc_25 : Nat → (Nat → Int32) → (Nat → Int32)) (n1_25 : Nat) (f_25 : (Nat → Int32)) (f_68 : (Nat → Int32)) (r_68 : Bool) : (Nat → Int32) := (if r_68 = true then (cf_ready_79 f bs0_13 f_20 rc_25 n1_25 f_25 true f_68) else (cf_ready_78 f bs0_13 f_20 rc_25 n1_25 f_25 f_68))
def cf_ready_25 (f : (Nat → Int32)) (bs0_13 : Bool) (f_20 : (Nat → Int32)) : Nat → Nat → (Nat → Int32) → (Nat → Int32)
  | 0, _, f_25 => f_25
  | n_25 + 1, n1_25, f_25 => (if (nC f_25 14) ≤ n1_25 then f_25 else (if (cf_isReady f_25 n1_25) = true then (cf_ready_c68 f bs0_13 f_20 (cf_ready_25 f bs0_13 f_20 n_25) n1_25 f_25 ((cf_qadd f_25 n1_25).2) ((cf_qadd f_25 n1_25).1)) else (cf_ready_78 f bs0_13 f_20 (cf_ready_25 f bs0_13 f_20 n_25) n1_25 f_25 f_25)))
def cf_ready_c20 (f : (Nat → Int32)) (bs0_13 : Bool) (f_20 : (Nat → Int32)) : (Nat → Int32) := (cf_ready_25 f bs0_13 f_20 7 0 f_20)
def cf_ready_13 (f : (Nat → Int32)) (bs0_13 : Bool) : (Nat → Int32) := (cf_ready_c20 f bs0_13 (cf_qclear (upd f 171 (bI bs0_13)) ))
def cf_ready (f : (Nat → Int32)) : (Nat → Int32) := (if (cf_running f ) = 0 then (cf_ready_13 f true) else (cf_ready_13 f false))
set_option maxHeartbeats 4000000 in
set_option maxRecDepth 100000 in
theorem ct_ready (l : Launch) (G : mg) (A : Nat → Prop) (ad : Nat → Nat) (np ng : Nat) (M0 : mh) (f : Nat → Int32)   (hQ : rg (f 176) 6) : Met l yX1_ready (ws_ yX1_ready cX1_ready 3 (some (.object "java/util/PriorityQueue"))) ({ frames := 7, cells := 0, slots := 0, locals := 157 }) (va_Pc [.ref (ad 0)] (mU G A (fun M => Sta G ad np ng M0 M f))) (mQq G A (fun r M => r = some (ad 17) ∧ Sta G ad np ng M0 M (cf_ready f))) 0 0 A := by
  refine mx_ofq (Or.inl ⟨_, rfl⟩) (by decide) (Nat.le_of_ble_eq_true rfl) ?_
  intro p e R s m av below meth c M H Q ls X hRf hRl hRc hRs hin hM w fin hl
  have X : CallFix p m c cX1_ready 3 s av lw_all "FieldPumps$Station" := X
  have hx := X.1
  have hb := X.2.1
  have hl : lv_has ls 3 [(0, .ref (ad 0))] := hl
  have hRf : R.frames = 7 := hRf
  have hRl : R.locals = 157 := hRl
  have hRc : R.cells = 0 := hRc
  have hRs : R.slots = 0 := hRs
  have hcp := hM.cnp
  have hn6 := hM.n6
  have hg8 := hM.g8
  generalize ([] : List Loc) = locs at w ⊢
  generalize E : cf_ready f = z at fin
  rw [cf_ready] at E
  refine lv_aload_n hx hb dX1_ready_0 rfl (lv_at hl 0 rfl) ?_
  refine lv_aload_n hx hb dX1_ready_1 rfl (lv_at hl 0 rfl) ?_
  refine mx_bi w (va_runV (As := []) (rest := [.ref (ad 0)]) X (ct_running l G A ad np ng M0 M f  hM ) (cwV 0 X.2.2.2.2 (lw_V q270 q271 q272 q97 q273) rfl rfl rfl (by decide +kernel) ⟨by rw [hRf]; decide, by rw [hRl]; decide⟩) (mx_preV w rfl hM.st rfl) rfl rfl hl.1 rfl (lv_room (Nat.le_of_ble_eq_true rfl)) dX1_ready_2 ⟨Nat.zero_le _, Nat.zero_le _⟩) (fun r M9 H locs hp w => ?_)
  obtain ⟨rfl, eM⟩ := hp; subst M9
  have J13 : ∀ (bs0_13 : Bool) (M : mh) (H : Heap) (locs : List Loc) (ls : Array Slot), cf_ready_13 f bs0_13 = z → lv_has ls 3 [(0, .ref (ad 0))] → mW G A s M H locs → Sta G ad np ng M0 M f → W p l e R s m av below meth c H locs 0 0 Q (F0 m 13 ls [.int (bI bs0_13), .ref (ad 0)]) := by
    intro bs0_13 M H locs ls  E hl w hM
    have hcp := hM.cnp
    rw [cf_ready_13] at E
    refine st_put (x := (bI bs0_13)) X w hM 14 171 q318 rfl (bI_z _) (bI_f _) rfl rfl (stOk_lit rfl) dX1_ready_13 (fun M H locs w hM => ?_)
    refine lv_aload_n hx hb dX1_ready_16 rfl (lv_at hl 0 rfl) ?_
    refine mx_get (v := .ref (ad 17)) X w in_X1 (ci := 1) rfl 15 (by decide) q319 (fun _ h => h) hM.st rfl dX1_ready_17 ?_
    obtain ⟨hA, hB⟩ : (upd f 171 (bI bs0_13)) 176 = nI (nC (upd f 171 (bI bs0_13)) 176) ∧ nC (upd f 171 (bI bs0_13)) 176 ≤ 6 := rg_nC (by rw [pk_un (by decide)]; exact hQ) (by decide)
    refine mx_bv w (va_runV (As := []) (rest := []) X (ct_qclear l G A ad np ng M0 (upd f 171 (bI bs0_13))  (nC (upd f 171 (bI bs0_13)) 176) (by assumption) (by assumption)) (cwV 0 X.2.2.2.2 (lw_V q1465 q1466 q1467 q104 q1468) rfl rfl rfl (by decide +kernel) ⟨by rw [hRf]; decide, by rw [hRl]; decide⟩) (mx_preV w hM hM.q17 rfl) rfl rfl hl.1 rfl (lv_room (Nat.le_of_ble_eq_true rfl)) dX1_ready_20 ⟨Nat.zero_le _, Nat.zero_le _⟩) (fun M H locs hM w => ?_)
    rw [cf_ready_c20] at E
    obtain ⟨f_20, ef_20⟩ : ∃ y, y = (cf_qclear (upd f 171 (bI bs0_13)) ) := ⟨_, rfl⟩
    rw [← ef_20] at E hM
    refine lv_iconst (v := (0 : Int32)) hx hb dX1_ready_23 (by decide) ?_
    refine lv_istore_n (lv' := [(1, .int (0 : Int32)), (0, .ref (ad 0))]) hx hb dX1_ready_24 rfl hl (by decide) rfl (fun ls hl => ?_)
    have L25 : ∀ (n_25 : Nat) (n1_25 : Nat) (f_25 : (Nat → Int32)) (M : mh) (H : Heap) (locs : List Loc) (ls : Array Slot), (hq : rq np f_25 n1_25) → (hi : n1_25 ≤ np) → (hm : np < n1_25 + n_25) → cf_ready_25 f bs0_13 f_20 n_25 n1_25 f_25 = z → lv_has ls 3 [(0, .ref (ad 0)), (1, .int (nI n1_25))] → mW G A s M H locs → Sta G ad np ng M0 M f_25 → W p l e R s m av below meth c H locs 0 0 Q (F0 m 25 ls []) := by
      intro n_25
      induction n_25 with
      | zero =>
        intro n1_25 f_25 M H locs ls hq hi hm E hl w hM
        have hcp := hM.cnp
        exfalso; omega
      | succ n_25 ih_25 =>
        intro n1_25 f_25 M H locs ls hq hi hm E hl w hM
        have hcp := hM.cnp
        rw [cf_ready_25] at E
        refine lv_iload_n hx hb dX1_ready_25 rfl (lv_at hl 1 rfl) ?_
        refine lv_aload_n hx hb dX1_ready_26 rfl (lv_at hl 0 rfl) ?_
        refine mx_get (v := .ref (ad 1)) X w in_X1 (ci := 1) rfl 0 (by decide) q286 (fun _ h => h) hM.st rfl dX1_ready_27 ?_
        refine mx_bi w (va_runV (As := []) (rest := [.int (nI n1_25)]) X (ct_psize l G A ad np ng M0 M f_25  hM ) (cwV 0 X.2.2.2.2 (lw_V q274 q275 q276 q100 q277) rfl rfl rfl (by decide +kernel) ⟨by rw [hRf]; decide, by rw [hRl]; decide⟩) (mx_preV w rfl hM.pl rfl) rfl rfl hl.1 rfl (lv_room (Nat.le_of_ble_eq_true rfl)) dX1_ready_30 ⟨Nat.zero_le _, Nat.zero_le _⟩) (fun r M9 H locs hp w => ?_)
        obtain ⟨rfl, eM⟩ := hp; subst M9
        refine mx_nge (u := n1_25) (v := (nC f_25 14)) (tgt := 86) hx hb rfl rfl (by omega) (by omega) dX1_ready_33 (by decide) (fun c_33 => ?_) (fun c_33 => ?_)
        · rw [if_pos c_33] at E
          refine lv_aload_n hx hb dX1_ready_86 rfl (lv_at hl 0 rfl) ?_
          refine mx_get (v := .ref (ad 17)) X w in_X1 (ci := 1) rfl 15 (by decide) q319 (fun _ h => h) hM.st rfl dX1_ready_87 ?_
          exact fin (some (ad 17)) M H locs ls 90 dX1_ready_90 ⟨rfl, by rw [← E]; exact hM⟩ w
        · rw [if_neg c_33] at E
          refine lv_aload_n hx hb dX1_ready_36 rfl (lv_at hl 0 rfl) ?_
          refine mx_get (v := .ref (ad 1)) X w in_X1 (ci := 1) rfl 0 (by decide) q286 (fun _ h => h) hM.st rfl dX1_ready_37 ?_
          refine lv_iload_n hx hb dX1_ready_40 rfl (lv_at hl 1 rfl) ?_
          refine mx_bq w (va_runV (As := [.int (nI n1_25)]) (rest := []) X (ct_pget l G A ad np ng M0 M f_25 n1_25 hM (by first | omega | assumption)) (cwV 1 X.2.2.2.2 (lw_V q247 q248 q249 q100 q250) rfl rfl rfl (by decide +kernel) ⟨by rw [hRf]; decide, by rw [hRl]; decide⟩) (mx_preV w rfl hM.pl rfl) rfl rfl hl.1 rfl (lv_room (Nat.le_of_ble_eq_true rfl)) dX1_ready_41 ⟨Nat.zero_le _, Nat.zero_le _⟩) (fun r M9 H locs hp w => ?_)
          obtain ⟨rfl, eM⟩ := hp; subst M9
          refine st_castP X w hM (by first | omega | assumption) q261 dX1_ready_44 ?_
          refine mx_bi w (st_callP (As := []) (rest := []) X w hM (by first | omega | assumption) (ct_isReady l G A ad np ng M0 M f_25 n1_25 hM (by first | omega | assumption)) (va_cwU 0 X.2.2.2.2 (lw_U q1453 q1455 q1456 q1454 q115 q1459) rfl rfl rfl rfl (by decide +kernel) ⟨by rw [hRf]; decide, by rw [hRl]; decide⟩) (va_cwU 0 X.2.2.2.2 (lw_U q1453 q1455 q1458 q1454 q115 q1459) rfl rfl rfl rfl (by decide +kernel) ⟨by rw [hRf]; decide, by rw [hRl]; decide⟩) (va_cwU 0 X.2.2.2.2 (lw_U q1453 q1455 q1457 q1454 q115 q1459) rfl rfl rfl rfl (by decide +kernel) ⟨by rw [hRf]; decide, by rw [hRl]; decide⟩) rfl rfl rfl hl.1 rfl (lv_room (Nat.le_of_ble_eq_true rfl)) dX1_ready_47 ⟨Nat.zero_le _, Nat.zero_le _⟩) (fun r M9 H locs hp w => ?_)
          obtain ⟨rfl, eM⟩ := hp; subst M9
          have J79 : ∀ (bs0_79 : Bool) (f_79 : (Nat → Int32)) (M : mh) (H : Heap) (locs : List Loc) (ls : Array Slot), (h79 : rq np f_79 (n1_25 + 1)) → cf_ready_79 f bs0_13 f_20 (cf_ready_25 f bs0_13 f_20 n_25) n1_25 f_25 bs0_79 f_79 = z → lv_has ls 3 [(0, .ref (ad 0)), (1, .int (nI n1_25))] → mW G A s M H locs → Sta G ad np ng M0 M f_79 → W p l e R s m av below meth c H locs 0 0 Q (F0 m 79 ls [.int (bI bs0_79)]) := by
            intro bs0_79 f_79 M H locs ls h79 E hl w hM
            have hcp := hM.cnp
            rw [cf_ready_79] at E
            refine lv_istore_n (lv' := [(2, .int (bI bs0_79)), (0, .ref (ad 0)), (1, .int (nI n1_25))]) hx hb dX1_ready_79 rfl hl (by decide) rfl (fun ls hl => ?_)
            refine lv_iinc (v := (nI (n1_25 + 1))) (lv' := [(1, .int (nI (n1_25 + 1))), (2, .int (bI bs0_79)), (0, .ref (ad 0))]) hx hb dX1_ready_80 hl (k := 2) rfl (nI_incr _ 1) (by decide) rfl (fun ls hl => ?_)
            refine lv_goto (tgt := 25) hx hb dX1_ready_83 (by decide) ?_
            exact ih_25 (n1_25 + 1) f_79 M H locs ls (by first | omega | assumption | exact h79) (by first | omega | assumption) (by first | omega | assumption) E (lv_sub hl [2, 0] rfl) w hM
          have J78 : ∀ (f_78 : (Nat → Int32)) (M : mh) (H : Heap) (locs : List Loc) (ls : Array Slot), (h78 : rq np f_78 (n1_25 + 1)) → cf_ready_78 f bs0_13 f_20 (cf_ready_25 f bs0_13 f_20 n_25) n1_25 f_25 f_78 = z → lv_has ls 3 [(0, .ref (ad 0)), (1, .int (nI n1_25))] → mW G A s M H locs → Sta G ad np ng M0 M f_78 → W p l e R s m av below meth c H locs 0 0 Q (F0 m 78 ls []) := by
            intro f_78 M H locs ls h78 E hl w hM
            have hcp := hM.cnp
            rw [cf_ready_78] at E
            refine lv_iconst (v := (0 : Int32)) hx hb dX1_ready_78 (by decide) ?_
            exact J79 false f_78 M H locs ls (by first | exact h78 | (rw [ef_68]; exact rq_add hq (by omega) (by omega) hn6)) E (lv_sub hl [0, 1] rfl) w hM
          refine mx_beq (tgt := 78) hx hb dX1_ready_50 (by decide) (fun c_50 => ?_) (fun c_50 => ?_)
          · rw [if_neg c_50] at E
            exact J78 f_25 M H locs ls (by first | exact rq_up hq | (rw [ef_68]; exact rq_add hq (by omega) (by omega) hn6)) E (lv_sub hl [0, 1] rfl) w hM
          · rw [if_pos c_50] at E
            refine lv_aload_n hx hb dX1_ready_53 rfl (lv_at hl 0 rfl) ?_
            refine mx_get (v := .ref (ad 17)) X w in_X1 (ci := 1) rfl 15 (by decide) q319 (fun _ h => h) hM.st rfl dX1_ready_54 ?_
            refine lv_aload_n hx hb dX1_ready_57 rfl (lv_at hl 0 rfl) ?_
            refine mx_get (v := .ref (ad 1)) X w in_X1 (ci := 1) rfl 0 (by decide) q286 (fun _ h => h) hM.st rfl dX1_ready_58 ?_
            refine lv_iload_n hx hb dX1_ready_61 rfl (lv_at hl 1 rfl) ?_
            refine mx_bq w (va_runV (As := [.int (nI n1_25)]) (rest := [.ref (ad 17)]) X (ct_pget l G A ad np ng M0 M f_25 n1_25 hM (by first | omega | assumption)) (cwV 1 X.2.2.2.2 (lw_V q247 q248 q249 q100 q250) rfl rfl rfl (by decide +kernel) ⟨by rw [hRf]; decide, by rw [hRl]; decide⟩) (mx_preV w rfl hM.pl rfl) rfl rfl hl.1 rfl (lv_room (Nat.le_of_ble_eq_true rfl)) dX1_ready_62 ⟨Nat.zero_le _, Nat.zero_le _⟩) (fun r M9 H locs hp w => ?_)
            obtain ⟨rfl, eM⟩ := hp; subst M9
            refine st_castP X w hM (by first | omega | assumption) q261 dX1_ready_65 ?_
            refine mx_bi w (va_runV (As := [.ref (ad (20 + n1_25))]) (rest := []) X (ct_qadd l G A ad np ng M0 f_25 n1_25 (nC f_25 176) (hq.2.1) (by have := hq.1; omega) (by omega) (hq.2.2)) (cwV 1 X.2.2.2.2 (lw_V q1469 q1470 q1471 q104 q1472) rfl rfl rfl (by decide +kernel) ⟨by rw [hRf]; decide, by rw [hRl]; decide⟩) (mx_preV w hM hM.q17 rfl) rfl rfl hl.1 rfl (lv_room (Nat.le_of_ble_eq_true rfl)) dX1_ready_68 ⟨Nat.zero_le _, Nat.zero_le _⟩) (fun r M H locs hp w => ?_)
            obtain ⟨rfl, hM⟩ := hp
            rw [cf_ready_c68] at E
            obtain ⟨f_68, ef_68⟩ : ∃ y, y = (cf_qadd f_25 n1_25).2 := ⟨_, rfl⟩
            obtain ⟨r_68, er_68⟩ : ∃ y, y = (cf_qadd f_25 n1_25).1 := ⟨_, rfl⟩
            rw [← ef_68] at E hM; (try rw [← er_68] at E); rw [← er_68]
            refine mx_beq (tgt := 78) hx hb dX1_ready_71 (by decide) (fun c_71 => ?_) (fun c_71 => ?_)
            · rw [if_neg c_71] at E
              exact J78 f_68 M H locs ls (by first | exact rq_up hq | (rw [ef_68]; exact rq_add hq (by omega) (by omega) hn6)) E (lv_sub hl [0, 1] rfl) w hM
            · rw [if_pos c_71] at E
              refine lv_iconst (v := (1 : Int32)) hx hb dX1_ready_74 (by decide) ?_
              refine lv_goto (tgt := 79) hx hb dX1_ready_75 (by decide) ?_
              exact J79 true f_68 M H locs ls (by first | exact h78 | (rw [ef_68]; exact rq_add hq (by omega) (by omega) hn6)) E (lv_sub hl [0, 1] rfl) w hM
    exact L25 7 0 f_20 M H locs ls (by first | omega | assumption | exact (by rw [ef_20]; exact rq_clear (by rw [pk_un (by decide)]; exact hQ))) (by first | omega | assumption) (by first | omega | assumption) E (lv_sub hl [1, 0] rfl) w hM
  refine lv_if_ne (tgt := 12) hx hb dX1_ready_5 (by decide) (fun c_5 => ?_) (fun c_5 => ?_)
  · rw [if_neg c_5] at E
    refine lv_iconst (v := (0 : Int32)) hx hb dX1_ready_12 (by decide) ?_
    exact J13 false M H locs ls E (lv_sub hl [0] rfl) w hM
  · rw [if_pos c_5] at E
    refine lv_iconst (v := (1 : Int32)) hx hb dX1_ready_8 (by decide) ?_
    refine lv_goto (tgt := 13) hx hb dX1_ready_9 (by decide) ?_
    exact J13 true M H locs ls E (lv_sub hl [0] rfl) w hM
