set_option maxRecDepth 100000
/-! NN: the night noted -/
theorem StaB.l8p {G : mg} {ad : Nat → Nat} {b9 : Nat} {bx : Nat → Nat} {np ng nn : Nat} {M0 M : mh} {f : Nat → Int32} (h : StaB G ad b9 bx np ng nn M0 M f) (h0 : nn ≠ 0) : M (ad 8) = some (.inr (9, [.int (f 174), .ref b9, .int (nI nn)])) := by
  have := h.l8
  rw [if_neg h0] at this
  exact this
theorem tell1_o {f : Nat → Int32} (he : rg (f 19) 12) (kind : Int32) {p : Nat} (hp : p < 134 ∨ (170 ≤ p ∧ p ≠ 177)) (h : p ≠ 19) : cf_tell1 f kind p = f p := tell_o he kind (-1 : Int32) hp h
def night1 (f : Nat → Int32) (nn : Nat) (mid : Int32) : Nat → Int32 := if 3 ≤ nn ∧ mid + f 37 < f 8 then cf_tell1 (upd f 9 (f 9 + 1)) (6 : Int32) else f
def nightT (f : Nat → Int32) (nn : Nat) : Nat → Int32 := upd (if 7 < nn + 1 then nRem (nAdd f nn (f 8)) 8 else nAdd f nn (f 8)) 8 (0 : Int32)
def nightF (f : Nat → Int32) (nn : Nat) (mid : Int32) : Nat → Int32 := nightT (night1 f nn mid) nn
def NightG (f : Nat → Int32) (nn : Nat) (g : Nat → Int32) : Prop := ∃ mid : Int32, (3 ≤ nn → MidOk (fun k => f (200 + k)) nn mid) ∧ g = nightF f nn mid
set_option maxHeartbeats 4000000 in
set_option maxRecDepth 100000 in
theorem ct_noteNight (l : Launch) (G : mg) (A : Nat → Prop) (ad : Nat → Nat) (np ng : Nat) (M0 : mh) (f : Nat → Int32) (nn : Nat) (h18 : f 18 = nI nn) (hn7 : nn ≤ 7) (he : rg (f 19) 12) : Met l yX1_noteNight (ws_ yX1_noteNight cX1_noteNight 2 (none)) ({ frames := 8, cells := 66, slots := 171, locals := 182 }) (va_Pc [.ref (ad 0)] (mU G A (fun M => Sta G ad np ng M0 M f))) (mQv G A (fun M => ∃ g, NightG f nn g ∧ Sta G ad np ng M0 M g)) 66 171 A := by
  refine mx_ofv (by decide) (Nat.le_of_ble_eq_true rfl) ?_
  intro p e R s m av below meth c M H Q ls X hRf hRl hRc hRs hin hPre w fin hl
  have X : CallFix p m c cX1_noteNight 2 s av lw_all "FieldPumps$Station" := X
  have hx := X.1
  have hb := X.2.1
  have hl : lv_has ls 2 [(0, .ref (ad 0))] := hl
  have hRf : R.frames = 8 := hRf
  have hRl : R.locals = 182 := hRl
  have hRc : R.cells = 66 := hRc
  have hRs : R.slots = 171 := hRs
  generalize ([] : List Loc) = locs at w ⊢
  obtain ⟨b9, bx, hB⟩ := hPre.toB h18 (by omega)
  refine lv_aload_n hx hb dX1_noteNight_0 rfl (lv_at hl 0 rfl) ?_
  refine mx_get (T := TX1) (v := .ref (ad 8)) X w in_X1 (ci := 1) rfl 6 (by decide) q299 (fun _ h => h) hB.sta.st rfl dX1_noteNight_1 ?_
  refine mx_bi w (va_runV (As := []) (rest := []) X (jt_al_size l G A _ (ad 8) _ _ nn hB.l8) (cwV 0 X.2.2.2.2 (lw_V q274 q275 q276 q100 q277) rfl rfl rfl (by decide +kernel) ⟨by rw [hRf]; decide, by rw [hRl]; decide⟩) (mx_preV w rfl hB.l8 rfl) rfl rfl hl.1 rfl (lv_room (Nat.le_of_ble_eq_true rfl)) dX1_noteNight_4 ⟨by rw [hRc]; omega, by rw [hRs]; omega⟩) (fun r M9 H locs hp w => ?_)
  obtain ⟨eR, eM⟩ := hp; subst M9; subst eR
  refine lv_iconst (v := (3 : Int32)) hx hb dX1_noteNight_7 (by decide) ?_
  refine mx_nlt (u := nn) (v := 3) (tgt := 46) hx hb rfl rfl (by omega) (by omega) dX1_noteNight_8 (by decide) (fun c_8 => ?_) (fun c_8 => ?_)
  · skip
    have hN : ∃ mid : Int32, (3 ≤ nn → MidOk (fun k => f (200 + k)) nn mid) ∧ night1 f nn mid = f := ⟨0, fun z => by omega, by unfold night1; exact if_neg (fun z => by have := z.1; omega)⟩
    refine lv_aload_n hx hb dX1_noteNight_46 rfl (lv_at hl 0 rfl) ?_
    refine mx_get (T := TX1) (v := .ref (ad 8)) X w in_X1 (ci := 1) rfl 6 (by decide) q299 (fun _ h => h) hB.sta.st rfl dX1_noteNight_47 ?_
    refine lv_aload_n hx hb dX1_noteNight_50 rfl (lv_at hl 0 rfl) ?_
    refine mx_get (T := TX1) (v := .int (f 8)) X w in_X1 (ci := 1) rfl 25 (by decide) q347 (fun _ h => h) hB.sta.st rfl dX1_noteNight_51 ?_
    refine mx_bq w (va_runS (As := [.int (f 8)]) (rest := [.ref (ad 8)]) X (ct_valueOf l G A _ (f 8)) (va_cwS 1 X.2.2.2.2 (lw_S q743 q744 q124 q745) rfl rfl rfl (by decide +kernel) ⟨by rw [hRf]; decide, by rw [hRl]; decide⟩) (mx_preS w rfl) rfl rfl hl.1 rfl (lv_room (Nat.le_of_ble_eq_true rfl)) dX1_noteNight_54 ⟨by rw [hRc]; omega, by rw [hRs]; omega⟩) (fun r M9 H locs hp w => ?_)
    obtain ⟨q54, eR, hb54, he54⟩ := hp; subst eR
    have hB := hB.ext he54
    refine mx_bi w (va_runV (As := [.ref q54]) (rest := []) X (ct_nadd l G A _ ad b9 bx np ng nn M0 f q54 (f 8) hB hn7 hb54) (cwV 1 X.2.2.2.2 (lw_V q664 q665 q666 q100 q667) rfl rfl rfl (by decide +kernel) ⟨by rw [hRf]; decide, by rw [hRl]; decide⟩) (mx_preV w rfl hB.l8 rfl) rfl rfl hl.1 rfl (lv_room (Nat.le_of_ble_eq_true rfl)) dX1_noteNight_57 ⟨by rw [hRc]; omega, by rw [hRs]; omega⟩) (fun r57 M H locs hp w => ?_)
    obtain ⟨b9, bx, hB⟩ := hp
    refine lv_pop hx hb dX1_noteNight_60 rfl ?_
    refine lv_aload_n hx hb dX1_noteNight_61 rfl (lv_at hl 0 rfl) ?_
    refine mx_get (T := TX1) (v := .ref (ad 8)) X w in_X1 (ci := 1) rfl 6 (by decide) q299 (fun _ h => h) hB.sta.st rfl dX1_noteNight_62 ?_
    refine mx_bi w (va_runV (As := []) (rest := []) X (jt_al_size l G A _ (ad 8) _ _ (nn + 1) hB.l8) (cwV 0 X.2.2.2.2 (lw_V q274 q275 q276 q100 q277) rfl rfl rfl (by decide +kernel) ⟨by rw [hRf]; decide, by rw [hRl]; decide⟩) (mx_preV w rfl hB.l8 rfl) rfl rfl hl.1 rfl (lv_room (Nat.le_of_ble_eq_true rfl)) dX1_noteNight_65 ⟨by rw [hRc]; omega, by rw [hRs]; omega⟩) (fun r M9 H locs hp w => ?_)
    obtain ⟨eR, eM⟩ := hp; subst M9; subst eR
    refine lv_bipush (v := (7 : Int32)) hx hb dX1_noteNight_68 (by decide) ?_
    refine mx_nle (u := (nn + 1)) (v := 7) (tgt := 88) hx hb rfl rfl (by omega) (by omega) dX1_noteNight_70 (by decide) (fun c_70 => ?_) (fun c_70 => ?_)
    · skip
      refine lv_aload_n hx hb dX1_noteNight_88 rfl (lv_at hl 0 rfl) ?_
      refine lv_iconst (v := (0 : Int32)) hx hb dX1_noteNight_89 (by decide) ?_
      refine st_put (x := (0 : Int32)) X w hB.sta 25 8 q347 rfl rfl rfl rfl rfl (stOk_lit rfl) dX1_noteNight_90 (fun M H locs w hM => ?_)
      refine W.widen (k := 66) (n := 171) (by omega) (by omega) ?_
      exact fin _ H locs ls 93 dX1_noteNight_93 (by obtain ⟨mid, hm, e1⟩ := hN; refine ⟨_, ⟨mid, hm, ?_⟩, hM⟩; unfold nightF nightT; rw [e1]; first | (rw [if_neg (show ¬ 7 < nn + 1 by omega)]; done) | rw [if_pos (show 7 < nn + 1 by omega)]) w
    · skip
      refine lv_aload_n hx hb dX1_noteNight_73 rfl (lv_at hl 0 rfl) ?_
      refine mx_get (T := TX1) (v := .ref (ad 8)) X w in_X1 (ci := 1) rfl 6 (by decide) q299 (fun _ h => h) hB.sta.st rfl dX1_noteNight_74 ?_
      refine lv_iconst (v := (0 : Int32)) hx hb dX1_noteNight_77 (by decide) ?_
      have hB8 : StaB G ad b9 bx np ng 8 M0 _ (nAdd f nn (f 8)) := Eq.mp (congrArg (fun z => StaB G ad b9 bx np ng z M0 _ (nAdd f nn (f 8))) (show nn + 1 = 8 by omega)) hB
      refine mx_bq w (va_runV (As := [.int (0 : Int32)]) (rest := []) X (ct_nrem l G A _ ad b9 bx np ng M0 (nAdd f nn (f 8)) hB8) (cwV 1 X.2.2.2.2 (lw_V q1409 q1410 q1411 q100 q1412) rfl rfl rfl (by decide +kernel) ⟨by rw [hRf]; decide, by rw [hRl]; decide⟩) (mx_preV w rfl hB.l8 rfl) rfl rfl hl.1 rfl (lv_room (Nat.le_of_ble_eq_true rfl)) dX1_noteNight_78 ⟨by rw [hRc]; omega, by rw [hRs]; omega⟩) (fun r M H locs hp w => ?_)
      obtain ⟨y78, eR, hb78, hB⟩ : ∃ y, r = some y ∧ boxAt G M y _ ∧ ∃ b9 bx, StaB G ad b9 bx np ng 7 M0 M _ := ⟨_, hp⟩
      obtain ⟨b9, bx, hB⟩ := hB
      subst eR
      refine mx_boxcast X w q738 hb78 dX1_noteNight_81 ?_
      refine mx_bi w (va_runV (As := []) (rest := []) X (ct_intV l G A _ y78 ((nAdd f nn (f 8)) 200) hb78) (cwV 0 X.2.2.2.2 (lw_V q739 q740 q741 q124 q742) rfl rfl rfl (by decide +kernel) ⟨by rw [hRf]; decide, by rw [hRl]; decide⟩) (mx_preVB w rfl hb78) rfl rfl hl.1 rfl (lv_room (Nat.le_of_ble_eq_true rfl)) dX1_noteNight_84 ⟨by rw [hRc]; omega, by rw [hRs]; omega⟩) (fun r M9 H locs hp w => ?_)
      obtain ⟨eR, eM⟩ := hp; subst M9
      have eR : r = ((nAdd f nn (f 8)) 200) := eR
      rw [eR]
      refine lv_istore_n (lv' := [(1, .int ((nAdd f nn (f 8)) 200)), (0, .ref (ad 0))]) hx hb dX1_noteNight_87 rfl hl (by decide) rfl (fun ls hl => ?_)
      refine lv_aload_n hx hb dX1_noteNight_88 rfl (lv_at hl 1 rfl) ?_
      refine lv_iconst (v := (0 : Int32)) hx hb dX1_noteNight_89 (by decide) ?_
      refine st_put (x := (0 : Int32)) X w hB.sta 25 8 q347 rfl rfl rfl rfl rfl (stOk_lit rfl) dX1_noteNight_90 (fun M H locs w hM => ?_)
      refine W.widen (k := 66) (n := 171) (by omega) (by omega) ?_
      exact fin _ H locs ls 93 dX1_noteNight_93 (by obtain ⟨mid, hm, e1⟩ := hN; refine ⟨_, ⟨mid, hm, ?_⟩, hM⟩; unfold nightF nightT; rw [e1]; first | (rw [if_neg (show ¬ 7 < nn + 1 by omega)]; done) | rw [if_pos (show 7 < nn + 1 by omega)]) w
  · skip
    refine lv_aload_n hx hb dX1_noteNight_11 rfl (lv_at hl 0 rfl) ?_
    refine mx_get (T := TX1) (v := .int (f 8)) X w in_X1 (ci := 1) rfl 25 (by decide) q347 (fun _ h => h) hB.sta.st rfl dX1_noteNight_12 ?_
    refine lv_aload_n hx hb dX1_noteNight_15 rfl (lv_at hl 0 rfl) ?_
    refine mx_bi w (va_runV (As := []) (rest := [.int (f 8)]) X (ct_middle l G A _ (ad 0) (ad 8) b9 nn (stF ad f) (f 174) _ (fun k => f (200 + k)) hB.sta.st rfl (hB.l8p (by omega)) (hB.a9 (by omega)) (by omega) (by omega) (fun k hk => ⟨bx k, if_pos hk, hB.2.2.2.2.2.1 k hk⟩)) (cwV 0 X.2.2.2.2 (lw_V q913 q915 qs12 q97 q916) rfl rfl rfl (by decide +kernel) ⟨by rw [hRf]; decide, by rw [hRl]; decide⟩) (mx_preV w rfl hB.sta.st rfl) rfl rfl hl.1 rfl (lv_room (Nat.le_of_ble_eq_true rfl)) dX1_noteNight_16 ⟨by rw [hRc]; omega, by rw [hRs]; omega⟩) (fun r16 M9 H locs hp w => ?_)
    obtain ⟨hm16, he16⟩ := hp
    have hB := hB.ext he16
    refine lv_aload_n hx hb dX1_noteNight_19 rfl (lv_at hl 0 rfl) ?_
    refine mx_get (T := TX1) (v := .ref (ad 13)) X w in_X1 (ci := 1) rfl 10 (by decide) q311 (fun _ h => h) hB.sta.st rfl dX1_noteNight_20 ?_
    refine lv_bipush (v := (17 : Int32)) hx hb dX1_noteNight_23 (by decide) ?_
    refine mx_iald2 X w hB.sta.a13 17 (show 17 < 19 by decide) (by decide) (if_pos (show 17 < 19 by decide)) dX1_noteNight_25 ?_
    refine lv_iadd hx hb dX1_noteNight_26 ?_
    refine lv_icmp_le (tgt := 46) hx hb dX1_noteNight_27 (by decide) (fun c_27 => ?_) (fun c_27 => ?_)
    · skip
      have hN : ∃ mid : Int32, (3 ≤ nn → MidOk (fun k => f (200 + k)) nn mid) ∧ night1 f nn mid = f := ⟨r16, fun _ => hm16, by unfold night1; exact if_neg (fun z => absurd z.2 (Int32.not_lt.mpr c_27))⟩
      refine lv_aload_n hx hb dX1_noteNight_46 rfl (lv_at hl 0 rfl) ?_
      refine mx_get (T := TX1) (v := .ref (ad 8)) X w in_X1 (ci := 1) rfl 6 (by decide) q299 (fun _ h => h) hB.sta.st rfl dX1_noteNight_47 ?_
      refine lv_aload_n hx hb dX1_noteNight_50 rfl (lv_at hl 0 rfl) ?_
      refine mx_get (T := TX1) (v := .int (f 8)) X w in_X1 (ci := 1) rfl 25 (by decide) q347 (fun _ h => h) hB.sta.st rfl dX1_noteNight_51 ?_
      refine mx_bq w (va_runS (As := [.int (f 8)]) (rest := [.ref (ad 8)]) X (ct_valueOf l G A _ (f 8)) (va_cwS 1 X.2.2.2.2 (lw_S q743 q744 q124 q745) rfl rfl rfl (by decide +kernel) ⟨by rw [hRf]; decide, by rw [hRl]; decide⟩) (mx_preS w rfl) rfl rfl hl.1 rfl (lv_room (Nat.le_of_ble_eq_true rfl)) dX1_noteNight_54 ⟨by rw [hRc]; omega, by rw [hRs]; omega⟩) (fun r M9 H locs hp w => ?_)
      obtain ⟨q54, eR, hb54, he54⟩ := hp; subst eR
      have hB := hB.ext he54
      refine mx_bi w (va_runV (As := [.ref q54]) (rest := []) X (ct_nadd l G A _ ad b9 bx np ng nn M0 f q54 (f 8) hB hn7 hb54) (cwV 1 X.2.2.2.2 (lw_V q664 q665 q666 q100 q667) rfl rfl rfl (by decide +kernel) ⟨by rw [hRf]; decide, by rw [hRl]; decide⟩) (mx_preV w rfl hB.l8 rfl) rfl rfl hl.1 rfl (lv_room (Nat.le_of_ble_eq_true rfl)) dX1_noteNight_57 ⟨by rw [hRc]; omega, by rw [hRs]; omega⟩) (fun r57 M H locs hp w => ?_)
      obtain ⟨b9, bx, hB⟩ := hp
      refine lv_pop hx hb dX1_noteNight_60 rfl ?_
      refine lv_aload_n hx hb dX1_noteNight_61 rfl (lv_at hl 0 rfl) ?_
      refine mx_get (T := TX1) (v := .ref (ad 8)) X w in_X1 (ci := 1) rfl 6 (by decide) q299 (fun _ h => h) hB.sta.st rfl dX1_noteNight_62 ?_
      refine mx_bi w (va_runV (As := []) (rest := []) X (jt_al_size l G A _ (ad 8) _ _ (nn + 1) hB.l8) (cwV 0 X.2.2.2.2 (lw_V q274 q275 q276 q100 q277) rfl rfl rfl (by decide +kernel) ⟨by rw [hRf]; decide, by rw [hRl]; decide⟩) (mx_preV w rfl hB.l8 rfl) rfl rfl hl.1 rfl (lv_room (Nat.le_of_ble_eq_true rfl)) dX1_noteNight_65 ⟨by rw [hRc]; omega, by rw [hRs]; omega⟩) (fun r M9 H locs hp w => ?_)
      obtain ⟨eR, eM⟩ := hp; subst M9; subst eR
      refine lv_bipush (v := (7 : Int32)) hx hb dX1_noteNight_68 (by decide) ?_
      refine mx_nle (u := (nn + 1)) (v := 7) (tgt := 88) hx hb rfl rfl (by omega) (by omega) dX1_noteNight_70 (by decide) (fun c_70 => ?_) (fun c_70 => ?_)
      · skip
        refine lv_aload_n hx hb dX1_noteNight_88 rfl (lv_at hl 0 rfl) ?_
        refine lv_iconst (v := (0 : Int32)) hx hb dX1_noteNight_89 (by decide) ?_
        refine st_put (x := (0 : Int32)) X w hB.sta 25 8 q347 rfl rfl rfl rfl rfl (stOk_lit rfl) dX1_noteNight_90 (fun M H locs w hM => ?_)
        refine W.widen (k := 66) (n := 171) (by omega) (by omega) ?_
        exact fin _ H locs ls 93 dX1_noteNight_93 (by obtain ⟨mid, hm, e1⟩ := hN; refine ⟨_, ⟨mid, hm, ?_⟩, hM⟩; unfold nightF nightT; rw [e1]; first | (rw [if_neg (show ¬ 7 < nn + 1 by omega)]; done) | rw [if_pos (show 7 < nn + 1 by omega)]) w
      · skip
        refine lv_aload_n hx hb dX1_noteNight_73 rfl (lv_at hl 0 rfl) ?_
        refine mx_get (T := TX1) (v := .ref (ad 8)) X w in_X1 (ci := 1) rfl 6 (by decide) q299 (fun _ h => h) hB.sta.st rfl dX1_noteNight_74 ?_
        refine lv_iconst (v := (0 : Int32)) hx hb dX1_noteNight_77 (by decide) ?_
        have hB8 : StaB G ad b9 bx np ng 8 M0 _ (nAdd f nn (f 8)) := Eq.mp (congrArg (fun z => StaB G ad b9 bx np ng z M0 _ (nAdd f nn (f 8))) (show nn + 1 = 8 by omega)) hB
        refine mx_bq w (va_runV (As := [.int (0 : Int32)]) (rest := []) X (ct_nrem l G A _ ad b9 bx np ng M0 (nAdd f nn (f 8)) hB8) (cwV 1 X.2.2.2.2 (lw_V q1409 q1410 q1411 q100 q1412) rfl rfl rfl (by decide +kernel) ⟨by rw [hRf]; decide, by rw [hRl]; decide⟩) (mx_preV w rfl hB.l8 rfl) rfl rfl hl.1 rfl (lv_room (Nat.le_of_ble_eq_true rfl)) dX1_noteNight_78 ⟨by rw [hRc]; omega, by rw [hRs]; omega⟩) (fun r M H locs hp w => ?_)
        obtain ⟨y78, eR, hb78, hB⟩ : ∃ y, r = some y ∧ boxAt G M y _ ∧ ∃ b9 bx, StaB G ad b9 bx np ng 7 M0 M _ := ⟨_, hp⟩
        obtain ⟨b9, bx, hB⟩ := hB
        subst eR
        refine mx_boxcast X w q738 hb78 dX1_noteNight_81 ?_
        refine mx_bi w (va_runV (As := []) (rest := []) X (ct_intV l G A _ y78 ((nAdd f nn (f 8)) 200) hb78) (cwV 0 X.2.2.2.2 (lw_V q739 q740 q741 q124 q742) rfl rfl rfl (by decide +kernel) ⟨by rw [hRf]; decide, by rw [hRl]; decide⟩) (mx_preVB w rfl hb78) rfl rfl hl.1 rfl (lv_room (Nat.le_of_ble_eq_true rfl)) dX1_noteNight_84 ⟨by rw [hRc]; omega, by rw [hRs]; omega⟩) (fun r M9 H locs hp w => ?_)
        obtain ⟨eR, eM⟩ := hp; subst M9
        have eR : r = ((nAdd f nn (f 8)) 200) := eR
        rw [eR]
        refine lv_istore_n (lv' := [(1, .int ((nAdd f nn (f 8)) 200)), (0, .ref (ad 0))]) hx hb dX1_noteNight_87 rfl hl (by decide) rfl (fun ls hl => ?_)
        refine lv_aload_n hx hb dX1_noteNight_88 rfl (lv_at hl 1 rfl) ?_
        refine lv_iconst (v := (0 : Int32)) hx hb dX1_noteNight_89 (by decide) ?_
        refine st_put (x := (0 : Int32)) X w hB.sta 25 8 q347 rfl rfl rfl rfl rfl (stOk_lit rfl) dX1_noteNight_90 (fun M H locs w hM => ?_)
        refine W.widen (k := 66) (n := 171) (by omega) (by omega) ?_
        exact fin _ H locs ls 93 dX1_noteNight_93 (by obtain ⟨mid, hm, e1⟩ := hN; refine ⟨_, ⟨mid, hm, ?_⟩, hM⟩; unfold nightF nightT; rw [e1]; first | (rw [if_neg (show ¬ 7 < nn + 1 by omega)]; done) | rw [if_pos (show 7 < nn + 1 by omega)]) w
    · skip
      have hN : ∃ mid : Int32, (3 ≤ nn → MidOk (fun k => f (200 + k)) nn mid) ∧ night1 f nn mid = cf_tell1 (upd f 9 (f 9 + 1)) (6 : Int32) := ⟨r16, fun _ => hm16, by unfold night1; exact if_pos ⟨by omega, Int32.not_le.mp c_27⟩⟩
      refine lv_aload_n hx hb dX1_noteNight_30 rfl (lv_at hl 0 rfl) ?_
      refine lv_dup hx hb dX1_noteNight_31 rfl ?_
      refine mx_get (T := TX1) (v := .int (f 9)) X w in_X1 (ci := 1) rfl 26 (by decide) q349 (fun _ h => h) hB.sta.st rfl dX1_noteNight_32 ?_
      refine lv_iconst (v := (1 : Int32)) hx hb dX1_noteNight_35 (by decide) ?_
      refine lv_iadd hx hb dX1_noteNight_36 ?_
      refine st_put (x := ((f 9) + (1 : Int32))) X w hB.sta 26 9 q349 rfl rfl rfl rfl rfl (stOk_lit rfl) dX1_noteNight_37 (fun M H locs w hM => ?_)
      obtain ⟨b9, bx, hB⟩ := hM.toB (nn := nn) ((pk_un (by decide)).trans h18) (by omega)
      refine lv_aload_n hx hb dX1_noteNight_40 rfl (lv_at hl 0 rfl) ?_
      refine lv_bipush (v := (6 : Int32)) hx hb dX1_noteNight_41 (by decide) ?_
      refine mx_bv w (va_runV (As := [.int (6 : Int32)]) (rest := []) X (ct_tell1 l G A ad np ng M0 (upd f 9 ((f 9) + (1 : Int32))) (6 : Int32) (by rw [pk_un (by decide)]; exact he)) (cwV 1 X.2.2.2.2 (lw_V q1405 q1407 qs22 q97 q1408) rfl rfl rfl (by decide +kernel) ⟨by rw [hRf]; decide, by rw [hRl]; decide⟩) (mx_preV w hB.sta hB.sta.st rfl) rfl rfl hl.1 rfl (lv_room (Nat.le_of_ble_eq_true rfl)) dX1_noteNight_43 ⟨by rw [hRc]; omega, by rw [hRs]; omega⟩) (fun M H locs hM w => ?_)
      obtain ⟨b9, bx, hB⟩ := hM.toB (nn := nn) ((tell1_o (by rw [pk_un (by decide)]; exact he) _ (Or.inl (by decide)) (by decide)).trans ((pk_un (by decide)).trans h18)) (by omega)
      refine lv_aload_n hx hb dX1_noteNight_46 rfl (lv_at hl 0 rfl) ?_
      refine mx_get (T := TX1) (v := .ref (ad 8)) X w in_X1 (ci := 1) rfl 6 (by decide) q299 (fun _ h => h) hB.sta.st rfl dX1_noteNight_47 ?_
      refine lv_aload_n hx hb dX1_noteNight_50 rfl (lv_at hl 0 rfl) ?_
      refine mx_get (T := TX1) (v := .int ((cf_tell1 (upd f 9 ((f 9) + (1 : Int32))) (6 : Int32)) 8)) X w in_X1 (ci := 1) rfl 25 (by decide) q347 (fun _ h => h) hB.sta.st rfl dX1_noteNight_51 ?_
      refine mx_bq w (va_runS (As := [.int ((cf_tell1 (upd f 9 ((f 9) + (1 : Int32))) (6 : Int32)) 8)]) (rest := [.ref (ad 8)]) X (ct_valueOf l G A _ ((cf_tell1 (upd f 9 ((f 9) + (1 : Int32))) (6 : Int32)) 8)) (va_cwS 1 X.2.2.2.2 (lw_S q743 q744 q124 q745) rfl rfl rfl (by decide +kernel) ⟨by rw [hRf]; decide, by rw [hRl]; decide⟩) (mx_preS w rfl) rfl rfl hl.1 rfl (lv_room (Nat.le_of_ble_eq_true rfl)) dX1_noteNight_54 ⟨by rw [hRc]; omega, by rw [hRs]; omega⟩) (fun r M9 H locs hp w => ?_)
      obtain ⟨q54, eR, hb54, he54⟩ := hp; subst eR
      have hB := hB.ext he54
      refine mx_bi w (va_runV (As := [.ref q54]) (rest := []) X (ct_nadd l G A _ ad b9 bx np ng nn M0 (cf_tell1 (upd f 9 ((f 9) + (1 : Int32))) (6 : Int32)) q54 ((cf_tell1 (upd f 9 ((f 9) + (1 : Int32))) (6 : Int32)) 8) hB hn7 hb54) (cwV 1 X.2.2.2.2 (lw_V q664 q665 q666 q100 q667) rfl rfl rfl (by decide +kernel) ⟨by rw [hRf]; decide, by rw [hRl]; decide⟩) (mx_preV w rfl hB.l8 rfl) rfl rfl hl.1 rfl (lv_room (Nat.le_of_ble_eq_true rfl)) dX1_noteNight_57 ⟨by rw [hRc]; omega, by rw [hRs]; omega⟩) (fun r57 M H locs hp w => ?_)
      obtain ⟨b9, bx, hB⟩ := hp
      refine lv_pop hx hb dX1_noteNight_60 rfl ?_
      refine lv_aload_n hx hb dX1_noteNight_61 rfl (lv_at hl 0 rfl) ?_
      refine mx_get (T := TX1) (v := .ref (ad 8)) X w in_X1 (ci := 1) rfl 6 (by decide) q299 (fun _ h => h) hB.sta.st rfl dX1_noteNight_62 ?_
      refine mx_bi w (va_runV (As := []) (rest := []) X (jt_al_size l G A _ (ad 8) _ _ (nn + 1) hB.l8) (cwV 0 X.2.2.2.2 (lw_V q274 q275 q276 q100 q277) rfl rfl rfl (by decide +kernel) ⟨by rw [hRf]; decide, by rw [hRl]; decide⟩) (mx_preV w rfl hB.l8 rfl) rfl rfl hl.1 rfl (lv_room (Nat.le_of_ble_eq_true rfl)) dX1_noteNight_65 ⟨by rw [hRc]; omega, by rw [hRs]; omega⟩) (fun r M9 H locs hp w => ?_)
      obtain ⟨eR, eM⟩ := hp; subst M9; subst eR
      refine lv_bipush (v := (7 : Int32)) hx hb dX1_noteNight_68 (by decide) ?_
      refine mx_nle (u := (nn + 1)) (v := 7) (tgt := 88) hx hb rfl rfl (by omega) (by omega) dX1_noteNight_70 (by decide) (fun c_70 => ?_) (fun c_70 => ?_)
      · skip
        refine lv_aload_n hx hb dX1_noteNight_88 rfl (lv_at hl 0 rfl) ?_
        refine lv_iconst (v := (0 : Int32)) hx hb dX1_noteNight_89 (by decide) ?_
        refine st_put (x := (0 : Int32)) X w hB.sta 25 8 q347 rfl rfl rfl rfl rfl (stOk_lit rfl) dX1_noteNight_90 (fun M H locs w hM => ?_)
        refine W.widen (k := 66) (n := 171) (by omega) (by omega) ?_
        exact fin _ H locs ls 93 dX1_noteNight_93 (by obtain ⟨mid, hm, e1⟩ := hN; refine ⟨_, ⟨mid, hm, ?_⟩, hM⟩; unfold nightF nightT; rw [e1]; first | (rw [if_neg (show ¬ 7 < nn + 1 by omega)]; done) | rw [if_pos (show 7 < nn + 1 by omega)]) w
      · skip
        refine lv_aload_n hx hb dX1_noteNight_73 rfl (lv_at hl 0 rfl) ?_
        refine mx_get (T := TX1) (v := .ref (ad 8)) X w in_X1 (ci := 1) rfl 6 (by decide) q299 (fun _ h => h) hB.sta.st rfl dX1_noteNight_74 ?_
        refine lv_iconst (v := (0 : Int32)) hx hb dX1_noteNight_77 (by decide) ?_
        have hB8 : StaB G ad b9 bx np ng 8 M0 _ (nAdd (cf_tell1 (upd f 9 ((f 9) + (1 : Int32))) (6 : Int32)) nn ((cf_tell1 (upd f 9 ((f 9) + (1 : Int32))) (6 : Int32)) 8)) := Eq.mp (congrArg (fun z => StaB G ad b9 bx np ng z M0 _ (nAdd (cf_tell1 (upd f 9 ((f 9) + (1 : Int32))) (6 : Int32)) nn ((cf_tell1 (upd f 9 ((f 9) + (1 : Int32))) (6 : Int32)) 8))) (show nn + 1 = 8 by omega)) hB
        refine mx_bq w (va_runV (As := [.int (0 : Int32)]) (rest := []) X (ct_nrem l G A _ ad b9 bx np ng M0 (nAdd (cf_tell1 (upd f 9 ((f 9) + (1 : Int32))) (6 : Int32)) nn ((cf_tell1 (upd f 9 ((f 9) + (1 : Int32))) (6 : Int32)) 8)) hB8) (cwV 1 X.2.2.2.2 (lw_V q1409 q1410 q1411 q100 q1412) rfl rfl rfl (by decide +kernel) ⟨by rw [hRf]; decide, by rw [hRl]; decide⟩) (mx_preV w rfl hB.l8 rfl) rfl rfl hl.1 rfl (lv_room (Nat.le_of_ble_eq_true rfl)) dX1_noteNight_78 ⟨by rw [hRc]; omega, by rw [hRs]; omega⟩) (fun r M H locs hp w => ?_)
        obtain ⟨y78, eR, hb78, hB⟩ : ∃ y, r = some y ∧ boxAt G M y _ ∧ ∃ b9 bx, StaB G ad b9 bx np ng 7 M0 M _ := ⟨_, hp⟩
        obtain ⟨b9, bx, hB⟩ := hB
        subst eR
        refine mx_boxcast X w q738 hb78 dX1_noteNight_81 ?_
        refine mx_bi w (va_runV (As := []) (rest := []) X (ct_intV l G A _ y78 ((nAdd (cf_tell1 (upd f 9 ((f 9) + (1 : Int32))) (6 : Int32)) nn ((cf_tell1 (upd f 9 ((f 9) + (1 : Int32))) (6 : Int32)) 8)) 200) hb78) (cwV 0 X.2.2.2.2 (lw_V q739 q740 q741 q124 q742) rfl rfl rfl (by decide +kernel) ⟨by rw [hRf]; decide, by rw [hRl]; decide⟩) (mx_preVB w rfl hb78) rfl rfl hl.1 rfl (lv_room (Nat.le_of_ble_eq_true rfl)) dX1_noteNight_84 ⟨by rw [hRc]; omega, by rw [hRs]; omega⟩) (fun r M9 H locs hp w => ?_)
        obtain ⟨eR, eM⟩ := hp; subst M9
        have eR : r = ((nAdd (cf_tell1 (upd f 9 ((f 9) + (1 : Int32))) (6 : Int32)) nn ((cf_tell1 (upd f 9 ((f 9) + (1 : Int32))) (6 : Int32)) 8)) 200) := eR
        rw [eR]
        refine lv_istore_n (lv' := [(1, .int ((nAdd (cf_tell1 (upd f 9 ((f 9) + (1 : Int32))) (6 : Int32)) nn ((cf_tell1 (upd f 9 ((f 9) + (1 : Int32))) (6 : Int32)) 8)) 200)), (0, .ref (ad 0))]) hx hb dX1_noteNight_87 rfl hl (by decide) rfl (fun ls hl => ?_)
        refine lv_aload_n hx hb dX1_noteNight_88 rfl (lv_at hl 1 rfl) ?_
        refine lv_iconst (v := (0 : Int32)) hx hb dX1_noteNight_89 (by decide) ?_
        refine st_put (x := (0 : Int32)) X w hB.sta 25 8 q347 rfl rfl rfl rfl rfl (stOk_lit rfl) dX1_noteNight_90 (fun M H locs w hM => ?_)
        refine W.widen (k := 66) (n := 171) (by omega) (by omega) ?_
        exact fin _ H locs ls 93 dX1_noteNight_93 (by obtain ⟨mid, hm, e1⟩ := hN; refine ⟨_, ⟨mid, hm, ?_⟩, hM⟩; unfold nightF nightT; rw [e1]; first | (rw [if_neg (show ¬ 7 < nn + 1 by omega)]; done) | rw [if_pos (show 7 < nn + 1 by omega)]) w
