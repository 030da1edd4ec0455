set_option maxRecDepth 100000
/-! T5: the repair after an insertion -/
theorem ct_rotLy (l : Launch) (G : mg) (A : Nat → Prop) (ad : Nat → Nat) (np : Nat) (M0 : mh) (f : tT) (o : Option Nat) (m : Nat) (ps : Nat → Nat) (S : Nat → Prop) (hY : TY np m f ps S) (h : hL S f o) : Met l yJ20_rotateLeft (ws_ yJ20_rotateLeft cJ20_rotateLeft 3 (none)) ({ frames := 0, cells := 0, slots := 0, locals := 0 }) (va_Pc [.ref (ad 0), va_rf (o.map fun k => ad (20 + k))] (mU G A (fun M => Tm G ad np M0 M f))) (mQv G A (fun M => Tm G ad np M0 M (cf_rotL f o))) 0 0 A := by
  obtain ⟨lo, hi, hX⟩ := hY
  exact ct_rotL l G A ad np M0 f o m lo hi ps hX.1 (fun i e => ⟨hX.s (h i e).1, (h i e).2⟩)
theorem ct_rotRy (l : Launch) (G : mg) (A : Nat → Prop) (ad : Nat → Nat) (np : Nat) (M0 : mh) (f : tT) (o : Option Nat) (m : Nat) (ps : Nat → Nat) (S : Nat → Prop) (hY : TY np m f ps S) (h : hR S f o) : Met l yJ20_rotateRight (ws_ yJ20_rotateRight cJ20_rotateRight 3 (none)) ({ frames := 0, cells := 0, slots := 0, locals := 0 }) (va_Pc [.ref (ad 0), va_rf (o.map fun k => ad (20 + k))] (mU G A (fun M => Tm G ad np M0 M f))) (mQv G A (fun M => Tm G ad np M0 M (cf_rotR f o))) 0 0 A := by
  obtain ⟨lo, hi, hX⟩ := hY
  exact ct_rotR l G A ad np M0 f o m lo hi ps hX.1 (fun i e => ⟨hX.s (h i e).1, (h i e).2⟩)
set_option maxHeartbeats 4000000 in
set_option maxRecDepth 100000 in
theorem ct_fixIns (l : Launch) (G : mg) (A : Nat → Prop) (ad : Nat → Nat) (np : Nat) (M0 : mh) (f : tT) (kx : Nat) (mm : Nat) (ps : Nat → Nat) (S : Nat → Prop) (hY0 : TY np mm f ps S) (hS0 : S kx) : Met l yJ20_fixAfterInsertion (ws_ yJ20_fixAfterInsertion cJ20_fixAfterInsertion 3 (none)) ({ frames := 1, cells := 0, slots := 0, locals := 22 }) (va_Pc [.ref (ad 0), .ref (ad (20 + kx))] (mU G A (fun M => Tm G ad np M0 M f))) (mQv G A (fun M => ∃ g, Tm G ad np M0 M g ∧ TY np mm g ps S ∧ KV f g)) 0 0 A := by
  refine mx_ofv (by decide) (Nat.le_of_ble_eq_true rfl) ?_
  intro p e R s m av below meth c M H Q ls X hRf hRl hRc hRs hin hM w fin hl
  have X : CallFix p m c cJ20_fixAfterInsertion 3 s av lw_all "java/util/TreeMap" := X
  have hx := X.1
  have hb := X.2.1
  have hl : lv_has ls 3 [(0, .ref (ad 0)), (1, .ref (ad (20 + kx)))] := hl
  have hRf : R.frames = 1 := hRf
  have hRl : R.locals = 22 := hRl
  have hRc : R.cells = 0 := hRc
  have hRs : R.slots = 0 := hRs
  generalize ([] : List Loc) = locs at w ⊢
  have hkx := hY0.lt hS0
  refine lv_aload_n hx hb dJ20_fixAfterInsertion_0 rfl (lv_at hl 1 rfl) ?_
  refine lv_iconst (v := (0 : Int32)) hx hb dJ20_fixAfterInsertion_1 (by decide) ?_
  refine tm_putC (b := false) X w hM (k := kx) (by first | omega | assumption) q1282 dJ20_fixAfterInsertion_2 (fun M H locs w hM => ?_)
  have hY2 : TY np mm (t2 f kx 3 (bO false)) ps S := hY0.c3 _ _
  have hK2 : KV f (t2 f kx 3 (bO false)) := KV.rf.c3
  have L5 : ∀ (n_5 : Nat) (P1_5 : Option Nat) (f_5 : tT) (M : mh) (H : Heap) (locs : List Loc) (ls : Array Slot), (hY5 : TY np mm f_5 ps S) → (hK5 : KV f f_5) → (hO5 : OS S P1_5) → (hN5 : FM np mm f_5 ps S P1_5 n_5) → lv_has ls 3 [(0, .ref (ad 0)), (1, va_rf (P1_5.map fun k => ad (20 + k)))] → mW G A s M H locs → Tm G ad np M0 M f_5 → W p l e R s m av below meth c H locs 0 0 Q (F0 m 5 ls []) := by
    intro n_5
    induction n_5 with
    | zero =>
      intro P1_5 f_5 M H locs ls hY5 hK5 hO5 hN5 hl w hM
      exact (hN5.zero hO5).elim
    | succ n_5 ih_5 =>
      intro P1_5 f_5 M H locs ls hY5 hK5 hO5 hN5 hl w hM
      refine mx_aload_nQ hx hb dJ20_fixAfterInsertion_5 rfl (lv_at hl 1 rfl) ?_
      refine mx_ifnullP (tgt := 258) hx hb dJ20_fixAfterInsertion_6 (by decide) (fun c_6 => ?_) (fun c_6 => ?_)
      · skip
        refine lv_aload_n hx hb dJ20_fixAfterInsertion_258 rfl (lv_at hl 0 rfl) ?_
        refine tm_root X w hM q927 dJ20_fixAfterInsertion_259 ?_
        have eo_259 : va_rf ((f_5 0 6).map fun k => ad (20 + k)) = .ref (ad (20 + ((f_5 0 6).getD 0))) := P_ref (hY5.rot hS0)
        rw [eo_259]
        have hk259 := hY5.lt (OS.rt hY5 _ (P_some (hY5.rot hS0)))
        refine lv_iconst (v := (1 : Int32)) hx hb dJ20_fixAfterInsertion_262 (by decide) ?_
        refine tm_putC (b := true) X w hM (k := ((f_5 0 6).getD 0)) (by first | omega | assumption) q1282 dJ20_fixAfterInsertion_263 (fun M H locs w hM => ?_)
        have hY263 : TY np mm (t2 f_5 ((f_5 0 6).getD 0) 3 (bO true)) ps S := hY5.c3 _ _
        have hK263 : KV f (t2 f_5 ((f_5 0 6).getD 0) 3 (bO true)) := hK5.c3
        exact fin M H locs ls 266 dJ20_fixAfterInsertion_266 ⟨(t2 f_5 ((f_5 0 6).getD 0) 3 (bO true)), hM, ⟨by assumption, by assumption⟩⟩ w
      · skip
        have eo_6 : va_rf (P1_5.map fun k => ad (20 + k)) = .ref (ad (20 + (P1_5.getD 0))) := P_ref c_6
        have hx6 := P_some c_6
        have hs6 : S (P1_5.getD 0) := hO5 _ hx6
        have hk6 := hY5.lt hs6
        refine mx_aload_nQ hx hb dJ20_fixAfterInsertion_9 rfl (lv_at hl 1 rfl) ?_
        rw [eo_6]
        refine lv_aload_n hx hb dJ20_fixAfterInsertion_10 rfl (lv_at hl 0 rfl) ?_
        refine tm_root X w hM q927 dJ20_fixAfterInsertion_11 ?_
        refine tm_acmp_eq hM (rx := some (P1_5.getD 0)) (ry := (f_5 0 6)) (tgt := 258) hx hb dJ20_fixAfterInsertion_14 (by decide) (fun c_14 => ?_) (fun c_14 => ?_)
        · skip
          refine lv_aload_n hx hb dJ20_fixAfterInsertion_258 rfl (lv_at hl 0 rfl) ?_
          refine tm_root X w hM q927 dJ20_fixAfterInsertion_259 ?_
          have eo_259 : va_rf ((f_5 0 6).map fun k => ad (20 + k)) = .ref (ad (20 + ((f_5 0 6).getD 0))) := P_ref (hY5.rot hS0)
          rw [eo_259]
          have hk259 := hY5.lt (OS.rt hY5 _ (P_some (hY5.rot hS0)))
          refine lv_iconst (v := (1 : Int32)) hx hb dJ20_fixAfterInsertion_262 (by decide) ?_
          refine tm_putC (b := true) X w hM (k := ((f_5 0 6).getD 0)) (by first | omega | assumption) q1282 dJ20_fixAfterInsertion_263 (fun M H locs w hM => ?_)
          have hY263 : TY np mm (t2 f_5 ((f_5 0 6).getD 0) 3 (bO true)) ps S := hY5.c3 _ _
          have hK263 : KV f (t2 f_5 ((f_5 0 6).getD 0) 3 (bO true)) := hK5.c3
          exact fin M H locs ls 266 dJ20_fixAfterInsertion_266 ⟨(t2 f_5 ((f_5 0 6).getD 0) 3 (bO true)), hM, ⟨by assumption, by assumption⟩⟩ w
        · skip
          have hp14 := hY5.up hs6 c_14
          have hs14 : S ((f_5 (P1_5.getD 0) 2).getD 0) := OS.par hY5 (OS.some hs6) _ (by rw [tpar_s]; exact P_some hp14)
          have hk14 := hY5.lt hs14
          refine mx_aload_nQ hx hb dJ20_fixAfterInsertion_17 rfl (lv_at hl 1 rfl) ?_
          rw [eo_6]
          refine tm_get (v := va_rf ((f_5 (P1_5.getD 0) 2).map fun k => ad (20 + k))) X w hM (k := (P1_5.getD 0)) (by first | omega | assumption) 4 (by decide) q1280 rfl dJ20_fixAfterInsertion_18 ?_
          have eo_18 : va_rf ((f_5 (P1_5.getD 0) 2).map fun k => ad (20 + k)) = .ref (ad (20 + ((f_5 (P1_5.getD 0) 2).getD 0))) := P_ref (hp14)
          rw [eo_18]
          refine tm_get (v := .int (bI ((f_5 ((f_5 (P1_5.getD 0) 2).getD 0) 3).isSome))) X w hM (k := ((f_5 (P1_5.getD 0) 2).getD 0)) (by first | omega | assumption) 5 (by decide) q1282 rfl dJ20_fixAfterInsertion_21 ?_
          refine mx_bne (tgt := 258) hx hb dJ20_fixAfterInsertion_24 (by decide) (fun c_24 => ?_) (fun c_24 => ?_)
          · skip
            refine lv_aload_n hx hb dJ20_fixAfterInsertion_258 rfl (lv_at hl 0 rfl) ?_
            refine tm_root X w hM q927 dJ20_fixAfterInsertion_259 ?_
            have eo_259 : va_rf ((f_5 0 6).map fun k => ad (20 + k)) = .ref (ad (20 + ((f_5 0 6).getD 0))) := P_ref (hY5.rot hS0)
            rw [eo_259]
            have hk259 := hY5.lt (OS.rt hY5 _ (P_some (hY5.rot hS0)))
            refine lv_iconst (v := (1 : Int32)) hx hb dJ20_fixAfterInsertion_262 (by decide) ?_
            refine tm_putC (b := true) X w hM (k := ((f_5 0 6).getD 0)) (by first | omega | assumption) q1282 dJ20_fixAfterInsertion_263 (fun M H locs w hM => ?_)
            have hY263 : TY np mm (t2 f_5 ((f_5 0 6).getD 0) 3 (bO true)) ps S := hY5.c3 _ _
            have hK263 : KV f (t2 f_5 ((f_5 0 6).getD 0) 3 (bO true)) := hK5.c3
            exact fin M H locs ls 266 dJ20_fixAfterInsertion_266 ⟨(t2 f_5 ((f_5 0 6).getD 0) 3 (bO true)), hM, ⟨by assumption, by assumption⟩⟩ w
          · skip
            obtain ⟨lo9, hi9, hX9, hs9, hm9, hn9⟩ := hN5.red hO5 hx6 c_24
            refine mx_aload_nQ hx hb dJ20_fixAfterInsertion_27 rfl (lv_at hl 1 rfl) ?_
            rw [eo_6]
            refine mx_bq w (va_runS (As := [va_rf ((some (P1_5.getD 0)).map fun k => ad (20 + k))]) (rest := []) X (ct_tpar l G A ad np M0 M f_5 (some (P1_5.getD 0)) hM (OS.lt (by assumption) (OS.some (by assumption)))) (va_cwS 1 X.2.2.2.2 (lw_S q1304 q1305 q127 q1306) rfl rfl rfl (by decide +kernel) ⟨by rw [hRf]; decide, by rw [hRl]; decide⟩) (mx_preS w rfl) rfl rfl hl.1 rfl (lv_room (Nat.le_of_ble_eq_true rfl)) dJ20_fixAfterInsertion_28 ⟨Nat.zero_le _, Nat.zero_le _⟩) (fun r M9 H locs hp w => ?_)
            obtain ⟨rfl, eM⟩ := hp; subst M9
            refine mx_aload_nQ hx hb dJ20_fixAfterInsertion_31 rfl (lv_at hl 1 rfl) ?_
            rw [eo_6]
            refine mx_bq w (va_runS (As := [va_rf ((some (P1_5.getD 0)).map fun k => ad (20 + k))]) (rest := [va_rf ((cf_tpar f_5 (some (P1_5.getD 0))).map fun k => ad (20 + k))]) X (ct_tpar l G A ad np M0 M f_5 (some (P1_5.getD 0)) hM (OS.lt (by assumption) (OS.some (by assumption)))) (va_cwS 1 X.2.2.2.2 (lw_S q1304 q1305 q127 q1306) rfl rfl rfl (by decide +kernel) ⟨by rw [hRf]; decide, by rw [hRl]; decide⟩) (mx_preS w rfl) rfl rfl hl.1 rfl (lv_room (by simp only [List.map_cons, List.map_nil, va_rf_cat]; exact Nat.le_of_ble_eq_true rfl)) dJ20_fixAfterInsertion_32 ⟨Nat.zero_le _, Nat.zero_le _⟩) (fun r M9 H locs hp w => ?_)
            obtain ⟨rfl, eM⟩ := hp; subst M9
            refine mx_bq w (va_runS (As := [va_rf ((cf_tpar f_5 (some (P1_5.getD 0))).map fun k => ad (20 + k))]) (rest := [va_rf ((cf_tpar f_5 (some (P1_5.getD 0))).map fun k => ad (20 + k))]) X (ct_tpar l G A ad np M0 M f_5 (cf_tpar f_5 (some (P1_5.getD 0))) hM (OS.lt (by assumption) (OS.par (by assumption) (OS.some (by assumption))))) (va_cwS 1 X.2.2.2.2 (lw_S q1304 q1305 q127 q1306) rfl rfl rfl (by decide +kernel) ⟨by rw [hRf]; decide, by rw [hRl]; decide⟩) (mx_preS w rfl) rfl rfl hl.1 rfl (lv_room (by simp only [List.map_cons, List.map_nil, va_rf_cat]; exact Nat.le_of_ble_eq_true rfl)) dJ20_fixAfterInsertion_35 ⟨Nat.zero_le _, Nat.zero_le _⟩) (fun r M9 H locs hp w => ?_)
            obtain ⟨rfl, eM⟩ := hp; subst M9
            refine mx_bq w (va_runS (As := [va_rf ((cf_tpar f_5 (cf_tpar f_5 (some (P1_5.getD 0)))).map fun k => ad (20 + k))]) (rest := [va_rf ((cf_tpar f_5 (some (P1_5.getD 0))).map fun k => ad (20 + k))]) X (ct_tlef l G A ad np M0 M f_5 (cf_tpar f_5 (cf_tpar f_5 (some (P1_5.getD 0)))) hM (OS.lt (by assumption) (OS.par (by assumption) (OS.par (by assumption) (OS.some (by assumption)))))) (va_cwS 1 X.2.2.2.2 (lw_S q1307 q1308 q127 q1309) rfl rfl rfl (by decide +kernel) ⟨by rw [hRf]; decide, by rw [hRl]; decide⟩) (mx_preS w rfl) rfl rfl hl.1 rfl (lv_room (by simp only [List.map_cons, List.map_nil, va_rf_cat]; exact Nat.le_of_ble_eq_true rfl)) dJ20_fixAfterInsertion_38 ⟨Nat.zero_le _, Nat.zero_le _⟩) (fun r M9 H locs hp w => ?_)
            obtain ⟨rfl, eM⟩ := hp; subst M9
            refine tm_acmp_ne hM (rx := (cf_tpar f_5 (some (P1_5.getD 0)))) (ry := (cf_tlef f_5 (cf_tpar f_5 (cf_tpar f_5 (some (P1_5.getD 0)))))) (tgt := 151) hx hb dJ20_fixAfterInsertion_41 (by decide) (fun c_41 => ?_) (fun c_41 => ?_)
            · skip
              have hA41 := shA_r hY5 hs6 hp14 c_41
              refine mx_aload_nQ hx hb dJ20_fixAfterInsertion_151 rfl (lv_at hl 1 rfl) ?_
              rw [eo_6]
              refine mx_bq w (va_runS (As := [va_rf ((some (P1_5.getD 0)).map fun k => ad (20 + k))]) (rest := []) X (ct_tpar l G A ad np M0 M f_5 (some (P1_5.getD 0)) hM (OS.lt (by assumption) (OS.some (by assumption)))) (va_cwS 1 X.2.2.2.2 (lw_S q1304 q1305 q127 q1306) rfl rfl rfl (by decide +kernel) ⟨by rw [hRf]; decide, by rw [hRl]; decide⟩) (mx_preS w rfl) rfl rfl hl.1 rfl (lv_room (Nat.le_of_ble_eq_true rfl)) dJ20_fixAfterInsertion_152 ⟨Nat.zero_le _, Nat.zero_le _⟩) (fun r M9 H locs hp w => ?_)
              obtain ⟨rfl, eM⟩ := hp; subst M9
              refine mx_bq w (va_runS (As := [va_rf ((cf_tpar f_5 (some (P1_5.getD 0))).map fun k => ad (20 + k))]) (rest := []) X (ct_tpar l G A ad np M0 M f_5 (cf_tpar f_5 (some (P1_5.getD 0))) hM (OS.lt (by assumption) (OS.par (by assumption) (OS.some (by assumption))))) (va_cwS 1 X.2.2.2.2 (lw_S q1304 q1305 q127 q1306) rfl rfl rfl (by decide +kernel) ⟨by rw [hRf]; decide, by rw [hRl]; decide⟩) (mx_preS w rfl) rfl rfl hl.1 rfl (lv_room (Nat.le_of_ble_eq_true rfl)) dJ20_fixAfterInsertion_155 ⟨Nat.zero_le _, Nat.zero_le _⟩) (fun r M9 H locs hp w => ?_)
              obtain ⟨rfl, eM⟩ := hp; subst M9
              refine mx_bq w (va_runS (As := [va_rf ((cf_tpar f_5 (cf_tpar f_5 (some (P1_5.getD 0)))).map fun k => ad (20 + k))]) (rest := []) X (ct_tlef l G A ad np M0 M f_5 (cf_tpar f_5 (cf_tpar f_5 (some (P1_5.getD 0)))) hM (OS.lt (by assumption) (OS.par (by assumption) (OS.par (by assumption) (OS.some (by assumption)))))) (va_cwS 1 X.2.2.2.2 (lw_S q1307 q1308 q127 q1309) rfl rfl rfl (by decide +kernel) ⟨by rw [hRf]; decide, by rw [hRl]; decide⟩) (mx_preS w rfl) rfl rfl hl.1 rfl (lv_room (Nat.le_of_ble_eq_true rfl)) dJ20_fixAfterInsertion_158 ⟨Nat.zero_le _, Nat.zero_le _⟩) (fun r M9 H locs hp w => ?_)
              obtain ⟨rfl, eM⟩ := hp; subst M9
              refine mx_astore_nQ (lv' := [(2, va_rf ((cf_tlef f_5 (cf_tpar f_5 (cf_tpar f_5 (some (P1_5.getD 0))))).map fun k => ad (20 + k))), (0, .ref (ad 0)), (1, va_rf (P1_5.map fun k => ad (20 + k)))]) hx hb dJ20_fixAfterInsertion_161 rfl hl (by decide) (by first | rfl | (simp only [List.filter, va_rf_cat]; rfl)) (fun ls hl => ?_)
              refine mx_aload_nQ hx hb dJ20_fixAfterInsertion_162 rfl (lv_at hl 0 rfl) ?_
              refine mx_bi w (va_runS (As := [va_rf ((cf_tlef f_5 (cf_tpar f_5 (cf_tpar f_5 (some (P1_5.getD 0))))).map fun k => ad (20 + k))]) (rest := []) X (ct_tcol l G A ad np M0 M f_5 (cf_tlef f_5 (cf_tpar f_5 (cf_tpar f_5 (some (P1_5.getD 0))))) hM (OS.lt (by assumption) (OS.lef (by assumption) (OS.par (by assumption) (OS.par (by assumption) (OS.some (by assumption))))))) (va_cwS 1 X.2.2.2.2 (lw_S q1313 q1314 q127 q1315) rfl rfl rfl (by decide +kernel) ⟨by rw [hRf]; decide, by rw [hRl]; decide⟩) (mx_preS w rfl) rfl rfl hl.1 rfl (lv_room (Nat.le_of_ble_eq_true rfl)) dJ20_fixAfterInsertion_163 ⟨Nat.zero_le _, Nat.zero_le _⟩) (fun r M9 H locs hp w => ?_)
              obtain ⟨rfl, eM⟩ := hp; subst M9
              refine mx_bne (tgt := 204) hx hb dJ20_fixAfterInsertion_166 (by decide) (fun c_166 => ?_) (fun c_166 => ?_)
              · skip
                refine mx_aload_nQ hx hb dJ20_fixAfterInsertion_204 rfl (lv_at hl 2 rfl) ?_
                rw [eo_6]
                refine mx_aload_nQ hx hb dJ20_fixAfterInsertion_205 rfl (lv_at hl 2 rfl) ?_
                rw [eo_6]
                refine mx_bq w (va_runS (As := [va_rf ((some (P1_5.getD 0)).map fun k => ad (20 + k))]) (rest := [.ref (ad (20 + (P1_5.getD 0)))]) X (ct_tpar l G A ad np M0 M f_5 (some (P1_5.getD 0)) hM (OS.lt (by assumption) (OS.some (by assumption)))) (va_cwS 1 X.2.2.2.2 (lw_S q1304 q1305 q127 q1306) rfl rfl rfl (by decide +kernel) ⟨by rw [hRf]; decide, by rw [hRl]; decide⟩) (mx_preS w rfl) rfl rfl hl.1 rfl (lv_room (Nat.le_of_ble_eq_true rfl)) dJ20_fixAfterInsertion_206 ⟨Nat.zero_le _, Nat.zero_le _⟩) (fun r M9 H locs hp w => ?_)
                obtain ⟨rfl, eM⟩ := hp; subst M9
                refine mx_bq w (va_runS (As := [va_rf ((cf_tpar f_5 (some (P1_5.getD 0))).map fun k => ad (20 + k))]) (rest := [.ref (ad (20 + (P1_5.getD 0)))]) X (ct_tlef l G A ad np M0 M f_5 (cf_tpar f_5 (some (P1_5.getD 0))) hM (OS.lt (by assumption) (OS.par (by assumption) (OS.some (by assumption))))) (va_cwS 1 X.2.2.2.2 (lw_S q1307 q1308 q127 q1309) rfl rfl rfl (by decide +kernel) ⟨by rw [hRf]; decide, by rw [hRl]; decide⟩) (mx_preS w rfl) rfl rfl hl.1 rfl (lv_room (Nat.le_of_ble_eq_true rfl)) dJ20_fixAfterInsertion_209 ⟨Nat.zero_le _, Nat.zero_le _⟩) (fun r M9 H locs hp w => ?_)
                obtain ⟨rfl, eM⟩ := hp; subst M9
                have J225 : ∀ (P1_225 : Option Nat) (f_225 : tT) (M : mh) (H : Heap) (locs : List Loc) (ls : Array Slot), (hY225 : TY np mm f_225 ps S) → (hK225 : KV f f_225) → (hO225 : OS S P1_225) → (hh225 : ShR f_225 P1_225) → lv_has ls 3 [(0, .ref (ad 0)), (1, va_rf (P1_225.map fun k => ad (20 + k)))] → mW G A s M H locs → Tm G ad np M0 M f_225 → W p l e R s m av below meth c H locs 0 0 Q (F0 m 225 ls []) := by
                  intro P1_225 f_225 M H locs ls hY225 hK225 hO225 hh225 hl w hM
                  refine mx_aload_nQ hx hb dJ20_fixAfterInsertion_225 rfl (lv_at hl 1 rfl) ?_
                  refine mx_bq w (va_runS (As := [va_rf (P1_225.map fun k => ad (20 + k))]) (rest := []) X (ct_tpar l G A ad np M0 M f_225 P1_225 hM (OS.lt (by assumption) (by assumption))) (va_cwS 1 X.2.2.2.2 (lw_S q1304 q1305 q127 q1306) rfl rfl rfl (by decide +kernel) ⟨by rw [hRf]; decide, by rw [hRl]; decide⟩) (mx_preS w rfl) rfl rfl hl.1 rfl (lv_room (Nat.le_of_ble_eq_true rfl)) dJ20_fixAfterInsertion_226 ⟨Nat.zero_le _, Nat.zero_le _⟩) (fun r M9 H locs hp w => ?_)
                  obtain ⟨rfl, eM⟩ := hp; subst M9
                  refine lv_iconst (v := (1 : Int32)) hx hb dJ20_fixAfterInsertion_229 (by decide) ?_
                  refine mx_bv w (va_runS (As := [va_rf ((cf_tpar f_225 P1_225).map fun k => ad (20 + k)), .int (bI true)]) (rest := []) X (ct_tset l G A ad np M0 f_225 (cf_tpar f_225 P1_225) true  (OS.lt (by assumption) (OS.par (by assumption) (by assumption)))) (va_cwS 2 X.2.2.2.2 (lw_S q1316 q1317 q127 q1318) rfl rfl rfl (by decide +kernel) ⟨by rw [hRf]; decide, by rw [hRl]; decide⟩) (mx_preS w hM) rfl rfl hl.1 rfl (lv_room (Nat.le_of_ble_eq_true rfl)) dJ20_fixAfterInsertion_230 ⟨Nat.zero_le _, Nat.zero_le _⟩) (fun M H locs hM w => ?_)
                  obtain ⟨f_230, ef_230⟩ : ∃ y, y = (cf_tset f_225 (cf_tpar f_225 P1_225) true) := ⟨_, rfl⟩
                  rw [← ef_230] at hM
                  have hY230 : TY np mm f_230 ps S := by rw [ef_230]; exact TY.tset (by assumption) _ _
                  have hK230 : KV f f_230 := by rw [ef_230]; exact KV.tset (by assumption)
                  refine mx_aload_nQ hx hb dJ20_fixAfterInsertion_233 rfl (lv_at hl 1 rfl) ?_
                  refine mx_bq w (va_runS (As := [va_rf (P1_225.map fun k => ad (20 + k))]) (rest := []) X (ct_tpar l G A ad np M0 M f_230 P1_225 hM (OS.lt (by assumption) (by assumption))) (va_cwS 1 X.2.2.2.2 (lw_S q1304 q1305 q127 q1306) rfl rfl rfl (by decide +kernel) ⟨by rw [hRf]; decide, by rw [hRl]; decide⟩) (mx_preS w rfl) rfl rfl hl.1 rfl (lv_room (Nat.le_of_ble_eq_true rfl)) dJ20_fixAfterInsertion_234 ⟨Nat.zero_le _, Nat.zero_le _⟩) (fun r M9 H locs hp w => ?_)
                  obtain ⟨rfl, eM⟩ := hp; subst M9
                  refine mx_bq w (va_runS (As := [va_rf ((cf_tpar f_230 P1_225).map fun k => ad (20 + k))]) (rest := []) X (ct_tpar l G A ad np M0 M f_230 (cf_tpar f_230 P1_225) hM (OS.lt (by assumption) (OS.par (by assumption) (by assumption)))) (va_cwS 1 X.2.2.2.2 (lw_S q1304 q1305 q127 q1306) rfl rfl rfl (by decide +kernel) ⟨by rw [hRf]; decide, by rw [hRl]; decide⟩) (mx_preS w rfl) rfl rfl hl.1 rfl (lv_room (Nat.le_of_ble_eq_true rfl)) dJ20_fixAfterInsertion_237 ⟨Nat.zero_le _, Nat.zero_le _⟩) (fun r M9 H locs hp w => ?_)
                  obtain ⟨rfl, eM⟩ := hp; subst M9
                  refine lv_iconst (v := (0 : Int32)) hx hb dJ20_fixAfterInsertion_240 (by decide) ?_
                  refine mx_bv w (va_runS (As := [va_rf ((cf_tpar f_230 (cf_tpar f_230 P1_225)).map fun k => ad (20 + k)), .int (bI false)]) (rest := []) X (ct_tset l G A ad np M0 f_230 (cf_tpar f_230 (cf_tpar f_230 P1_225)) false  (OS.lt (by assumption) (OS.par (by assumption) (OS.par (by assumption) (by assumption))))) (va_cwS 2 X.2.2.2.2 (lw_S q1316 q1317 q127 q1318) rfl rfl rfl (by decide +kernel) ⟨by rw [hRf]; decide, by rw [hRl]; decide⟩) (mx_preS w hM) rfl rfl hl.1 rfl (lv_room (Nat.le_of_ble_eq_true rfl)) dJ20_fixAfterInsertion_241 ⟨Nat.zero_le _, Nat.zero_le _⟩) (fun M H locs hM w => ?_)
                  obtain ⟨f_241, ef_241⟩ : ∃ y, y = (cf_tset f_230 (cf_tpar f_230 (cf_tpar f_230 P1_225)) false) := ⟨_, rfl⟩
                  rw [← ef_241] at hM
                  have hY241 : TY np mm f_241 ps S := by rw [ef_241]; exact TY.tset (by assumption) _ _
                  have hK241 : KV f f_241 := by rw [ef_241]; exact KV.tset (by assumption)
                  refine lv_aload_n hx hb dJ20_fixAfterInsertion_244 rfl (lv_at hl 0 rfl) ?_
                  refine mx_aload_nQ hx hb dJ20_fixAfterInsertion_245 rfl (lv_at hl 1 rfl) ?_
                  refine mx_bq w (va_runS (As := [va_rf (P1_225.map fun k => ad (20 + k))]) (rest := [.ref (ad 0)]) X (ct_tpar l G A ad np M0 M f_241 P1_225 hM (OS.lt (by assumption) (by assumption))) (va_cwS 1 X.2.2.2.2 (lw_S q1304 q1305 q127 q1306) rfl rfl rfl (by decide +kernel) ⟨by rw [hRf]; decide, by rw [hRl]; decide⟩) (mx_preS w rfl) rfl rfl hl.1 rfl (lv_room (Nat.le_of_ble_eq_true rfl)) dJ20_fixAfterInsertion_246 ⟨Nat.zero_le _, Nat.zero_le _⟩) (fun r M9 H locs hp w => ?_)
                  obtain ⟨rfl, eM⟩ := hp; subst M9
                  refine mx_bq w (va_runS (As := [va_rf ((cf_tpar f_241 P1_225).map fun k => ad (20 + k))]) (rest := [.ref (ad 0)]) X (ct_tpar l G A ad np M0 M f_241 (cf_tpar f_241 P1_225) hM (OS.lt (by assumption) (OS.par (by assumption) (by assumption)))) (va_cwS 1 X.2.2.2.2 (lw_S q1304 q1305 q127 q1306) rfl rfl rfl (by decide +kernel) ⟨by rw [hRf]; decide, by rw [hRl]; decide⟩) (mx_preS w rfl) rfl rfl hl.1 rfl (lv_room (Nat.le_of_ble_eq_true rfl)) dJ20_fixAfterInsertion_249 ⟨Nat.zero_le _, Nat.zero_le _⟩) (fun r M9 H locs hp w => ?_)
                  obtain ⟨rfl, eM⟩ := hp; subst M9
                  refine mx_bv w (va_runV (As := [va_rf ((cf_tpar f_241 (cf_tpar f_241 P1_225)).map fun k => ad (20 + k))]) (rest := []) X (ct_rotLy l G A ad np M0 f_241 (cf_tpar f_241 (cf_tpar f_241 P1_225)) mm ps S (by assumption) (hh225.h hY225 hO225 ef_230 ef_241)) (cwV 1 X.2.2.2.2 (lw_V q1319 q1321 qs18 q127 q1322) rfl rfl rfl (by decide +kernel) ⟨by rw [hRf]; decide, by rw [hRl]; decide⟩) (mx_preV w hM hM.st rfl) rfl rfl hl.1 rfl (lv_room (Nat.le_of_ble_eq_true rfl)) dJ20_fixAfterInsertion_252 ⟨Nat.zero_le _, Nat.zero_le _⟩) (fun M H locs hM w => ?_)
                  obtain ⟨f_252, ef_252⟩ : ∃ y, y = (cf_rotL f_241 (cf_tpar f_241 (cf_tpar f_241 P1_225))) := ⟨_, rfl⟩
                  rw [← ef_252] at hM
                  have hH252 := hh225.h hY225 hO225 ef_230 ef_241
                  have hY252 : TY np mm f_252 ps S := by rw [ef_252]; exact TY.rotL (by assumption) hH252
                  have hK252 : KV f f_252 := by rw [ef_252]; exact KV.rotL (by assumption) hH252 (by assumption)
                  have hN252 : FM np mm f_252 ps S P1_225 n_5 := hh225.fm hY225 hO225 ef_230 ef_241 ef_252 hn9
                  refine lv_goto (tgt := 5) hx hb dJ20_fixAfterInsertion_255 (by decide) ?_
                  exact ih_5 P1_225 f_252 M H locs ls (by first | omega | assumption) (by first | omega | assumption) (by first | omega | assumption | exact hO90) (by first | omega | assumption | exact hN90) (lv_sub hl [0, 1] rfl) w hM
                refine tm_acmp_ne hM (rx := some (P1_5.getD 0)) (ry := (cf_tlef f_5 (cf_tpar f_5 (some (P1_5.getD 0))))) (tgt := 225) hx hb dJ20_fixAfterInsertion_212 (by decide) (fun c_212 => ?_) (fun c_212 => ?_)
                · skip
                  exact J225 P1_5 f_5 M H locs ls (by assumption) (by assumption) (by first | exact hO5 | exact OS.par hY5 (OS.some hs6)) (by first | exact ShR.rot hY5 hs6 hp14 hA41 c_212 ef_222 | (rw [hx6]; exact ShR.no hp14 hA41 c_212)) (lv_sub hl [1, 2] rfl) w hM
                · skip
                  refine mx_aload_nQ hx hb dJ20_fixAfterInsertion_215 rfl (lv_at hl 2 rfl) ?_
                  rw [eo_6]
                  refine mx_bq w (va_runS (As := [va_rf ((some (P1_5.getD 0)).map fun k => ad (20 + k))]) (rest := []) X (ct_tpar l G A ad np M0 M f_5 (some (P1_5.getD 0)) hM (OS.lt (by assumption) (OS.some (by assumption)))) (va_cwS 1 X.2.2.2.2 (lw_S q1304 q1305 q127 q1306) rfl rfl rfl (by decide +kernel) ⟨by rw [hRf]; decide, by rw [hRl]; decide⟩) (mx_preS w rfl) rfl rfl hl.1 rfl (lv_room (Nat.le_of_ble_eq_true rfl)) dJ20_fixAfterInsertion_216 ⟨Nat.zero_le _, Nat.zero_le _⟩) (fun r M9 H locs hp w => ?_)
                  obtain ⟨rfl, eM⟩ := hp; subst M9
                  refine mx_astore_nQ (lv' := [(1, va_rf ((cf_tpar f_5 (some (P1_5.getD 0))).map fun k => ad (20 + k))), (2, va_rf ((cf_tlef f_5 (cf_tpar f_5 (cf_tpar f_5 (some (P1_5.getD 0))))).map fun k => ad (20 + k))), (0, .ref (ad 0))]) hx hb dJ20_fixAfterInsertion_219 rfl hl (by decide) (by first | rfl | (simp only [List.filter, va_rf_cat]; rfl)) (fun ls hl => ?_)
                  refine lv_aload_n hx hb dJ20_fixAfterInsertion_220 rfl (lv_at hl 2 rfl) ?_
                  refine mx_aload_nQ hx hb dJ20_fixAfterInsertion_221 rfl (lv_at hl 0 rfl) ?_
                  refine mx_bv w (va_runV (As := [va_rf ((cf_tpar f_5 (some (P1_5.getD 0))).map fun k => ad (20 + k))]) (rest := []) X (ct_rotRy l G A ad np M0 f_5 (cf_tpar f_5 (some (P1_5.getD 0))) mm ps S (by assumption) (rotR_rot_h hY5 hs6 c_212)) (cwV 1 X.2.2.2.2 (lw_V q1323 q1325 qs19 q127 q1326) rfl rfl rfl (by decide +kernel) ⟨by rw [hRf]; decide, by rw [hRl]; decide⟩) (mx_preV w hM hM.st rfl) rfl rfl hl.1 rfl (lv_room (Nat.le_of_ble_eq_true rfl)) dJ20_fixAfterInsertion_222 ⟨Nat.zero_le _, Nat.zero_le _⟩) (fun M H locs hM w => ?_)
                  obtain ⟨f_222, ef_222⟩ : ∃ y, y = (cf_rotR f_5 (cf_tpar f_5 (some (P1_5.getD 0)))) := ⟨_, rfl⟩
                  rw [← ef_222] at hM
                  have hH222 := rotR_rot_h hY5 hs6 c_212
                  have hY222 : TY np mm f_222 ps S := by rw [ef_222]; exact TY.rotR (by assumption) hH222
                  have hK222 : KV f f_222 := by rw [ef_222]; exact KV.rotR (by assumption) hH222 (by assumption)
                  exact J225 (cf_tpar f_5 (some (P1_5.getD 0))) f_222 M H locs ls (by assumption) (by assumption) (by first | exact hO5 | exact OS.par hY5 (OS.some hs6)) (by first | exact ShR.rot hY5 hs6 hp14 hA41 c_212 ef_222 | (rw [hx6]; exact ShR.no hp14 hA41 c_212)) (lv_sub hl [2, 0] rfl) w hM
              · skip
                have hg166 := notnone_l c_166
                refine mx_aload_nQ hx hb dJ20_fixAfterInsertion_169 rfl (lv_at hl 2 rfl) ?_
                rw [eo_6]
                refine mx_bq w (va_runS (As := [va_rf ((some (P1_5.getD 0)).map fun k => ad (20 + k))]) (rest := []) X (ct_tpar l G A ad np M0 M f_5 (some (P1_5.getD 0)) hM (OS.lt (by assumption) (OS.some (by assumption)))) (va_cwS 1 X.2.2.2.2 (lw_S q1304 q1305 q127 q1306) rfl rfl rfl (by decide +kernel) ⟨by rw [hRf]; decide, by rw [hRl]; decide⟩) (mx_preS w rfl) rfl rfl hl.1 rfl (lv_room (Nat.le_of_ble_eq_true rfl)) dJ20_fixAfterInsertion_170 ⟨Nat.zero_le _, Nat.zero_le _⟩) (fun r M9 H locs hp w => ?_)
                obtain ⟨rfl, eM⟩ := hp; subst M9
                refine lv_iconst (v := (1 : Int32)) hx hb dJ20_fixAfterInsertion_173 (by decide) ?_
                refine mx_bv w (va_runS (As := [va_rf ((cf_tpar f_5 (some (P1_5.getD 0))).map fun k => ad (20 + k)), .int (bI true)]) (rest := []) X (ct_tset l G A ad np M0 f_5 (cf_tpar f_5 (some (P1_5.getD 0))) true  (OS.lt (by assumption) (OS.par (by assumption) (OS.some (by assumption))))) (va_cwS 2 X.2.2.2.2 (lw_S q1316 q1317 q127 q1318) rfl rfl rfl (by decide +kernel) ⟨by rw [hRf]; decide, by rw [hRl]; decide⟩) (mx_preS w hM) rfl rfl hl.1 rfl (lv_room (Nat.le_of_ble_eq_true rfl)) dJ20_fixAfterInsertion_174 ⟨Nat.zero_le _, Nat.zero_le _⟩) (fun M H locs hM w => ?_)
                obtain ⟨f_174, ef_174⟩ : ∃ y, y = (cf_tset f_5 (cf_tpar f_5 (some (P1_5.getD 0))) true) := ⟨_, rfl⟩
                rw [← ef_174] at hM
                have hY174 : TY np mm f_174 ps S := by rw [ef_174]; exact TY.tset (by assumption) _ _
                have hK174 : KV f f_174 := by rw [ef_174]; exact KV.tset (by assumption)
                refine mx_aload_nQ hx hb dJ20_fixAfterInsertion_177 rfl (lv_at hl 0 rfl) ?_
                refine lv_iconst (v := (1 : Int32)) hx hb dJ20_fixAfterInsertion_178 (by decide) ?_
                refine mx_bv w (va_runS (As := [va_rf ((cf_tlef f_5 (cf_tpar f_5 (cf_tpar f_5 (some (P1_5.getD 0))))).map fun k => ad (20 + k)), .int (bI true)]) (rest := []) X (ct_tset l G A ad np M0 f_174 (cf_tlef f_5 (cf_tpar f_5 (cf_tpar f_5 (some (P1_5.getD 0))))) true  (OS.lt (by assumption) (OS.lef (by assumption) (OS.par (by assumption) (OS.par (by assumption) (OS.some (by assumption))))))) (va_cwS 2 X.2.2.2.2 (lw_S q1316 q1317 q127 q1318) rfl rfl rfl (by decide +kernel) ⟨by rw [hRf]; decide, by rw [hRl]; decide⟩) (mx_preS w hM) rfl rfl hl.1 rfl (lv_room (Nat.le_of_ble_eq_true rfl)) dJ20_fixAfterInsertion_179 ⟨Nat.zero_le _, Nat.zero_le _⟩) (fun M H locs hM w => ?_)
                obtain ⟨f_179, ef_179⟩ : ∃ y, y = (cf_tset f_174 (cf_tlef f_5 (cf_tpar f_5 (cf_tpar f_5 (some (P1_5.getD 0))))) true) := ⟨_, rfl⟩
                rw [← ef_179] at hM
                have hY179 : TY np mm f_179 ps S := by rw [ef_179]; exact TY.tset (by assumption) _ _
                have hK179 : KV f f_179 := by rw [ef_179]; exact KV.tset (by assumption)
                refine mx_aload_nQ hx hb dJ20_fixAfterInsertion_182 rfl (lv_at hl 2 rfl) ?_
                rw [eo_6]
                refine mx_bq w (va_runS (As := [va_rf ((some (P1_5.getD 0)).map fun k => ad (20 + k))]) (rest := []) X (ct_tpar l G A ad np M0 M f_179 (some (P1_5.getD 0)) hM (OS.lt (by assumption) (OS.some (by assumption)))) (va_cwS 1 X.2.2.2.2 (lw_S q1304 q1305 q127 q1306) rfl rfl rfl (by decide +kernel) ⟨by rw [hRf]; decide, by rw [hRl]; decide⟩) (mx_preS w rfl) rfl rfl hl.1 rfl (lv_room (Nat.le_of_ble_eq_true rfl)) dJ20_fixAfterInsertion_183 ⟨Nat.zero_le _, Nat.zero_le _⟩) (fun r M9 H locs hp w => ?_)
                obtain ⟨rfl, eM⟩ := hp; subst M9
                refine mx_bq w (va_runS (As := [va_rf ((cf_tpar f_179 (some (P1_5.getD 0))).map fun k => ad (20 + k))]) (rest := []) X (ct_tpar l G A ad np M0 M f_179 (cf_tpar f_179 (some (P1_5.getD 0))) hM (OS.lt (by assumption) (OS.par (by assumption) (OS.some (by assumption))))) (va_cwS 1 X.2.2.2.2 (lw_S q1304 q1305 q127 q1306) rfl rfl rfl (by decide +kernel) ⟨by rw [hRf]; decide, by rw [hRl]; decide⟩) (mx_preS w rfl) rfl rfl hl.1 rfl (lv_room (Nat.le_of_ble_eq_true rfl)) dJ20_fixAfterInsertion_186 ⟨Nat.zero_le _, Nat.zero_le _⟩) (fun r M9 H locs hp w => ?_)
                obtain ⟨rfl, eM⟩ := hp; subst M9
                refine lv_iconst (v := (0 : Int32)) hx hb dJ20_fixAfterInsertion_189 (by decide) ?_
                refine mx_bv w (va_runS (As := [va_rf ((cf_tpar f_179 (cf_tpar f_179 (some (P1_5.getD 0)))).map fun k => ad (20 + k)), .int (bI false)]) (rest := []) X (ct_tset l G A ad np M0 f_179 (cf_tpar f_179 (cf_tpar f_179 (some (P1_5.getD 0)))) false  (OS.lt (by assumption) (OS.par (by assumption) (OS.par (by assumption) (OS.some (by assumption)))))) (va_cwS 2 X.2.2.2.2 (lw_S q1316 q1317 q127 q1318) rfl rfl rfl (by decide +kernel) ⟨by rw [hRf]; decide, by rw [hRl]; decide⟩) (mx_preS w hM) rfl rfl hl.1 rfl (lv_room (Nat.le_of_ble_eq_true rfl)) dJ20_fixAfterInsertion_190 ⟨Nat.zero_le _, Nat.zero_le _⟩) (fun M H locs hM w => ?_)
                obtain ⟨f_190, ef_190⟩ : ∃ y, y = (cf_tset f_179 (cf_tpar f_179 (cf_tpar f_179 (some (P1_5.getD 0)))) false) := ⟨_, rfl⟩
                rw [← ef_190] at hM
                have hY190 : TY np mm f_190 ps S := by rw [ef_190]; exact TY.tset (by assumption) _ _
                have hK190 : KV f f_190 := by rw [ef_190]; exact KV.tset (by assumption)
                refine mx_aload_nQ hx hb dJ20_fixAfterInsertion_193 rfl (lv_at hl 2 rfl) ?_
                rw [eo_6]
                refine mx_bq w (va_runS (As := [va_rf ((some (P1_5.getD 0)).map fun k => ad (20 + k))]) (rest := []) X (ct_tpar l G A ad np M0 M f_190 (some (P1_5.getD 0)) hM (OS.lt (by assumption) (OS.some (by assumption)))) (va_cwS 1 X.2.2.2.2 (lw_S q1304 q1305 q127 q1306) rfl rfl rfl (by decide +kernel) ⟨by rw [hRf]; decide, by rw [hRl]; decide⟩) (mx_preS w rfl) rfl rfl hl.1 rfl (lv_room (Nat.le_of_ble_eq_true rfl)) dJ20_fixAfterInsertion_194 ⟨Nat.zero_le _, Nat.zero_le _⟩) (fun r M9 H locs hp w => ?_)
                obtain ⟨rfl, eM⟩ := hp; subst M9
                refine mx_bq w (va_runS (As := [va_rf ((cf_tpar f_190 (some (P1_5.getD 0))).map fun k => ad (20 + k))]) (rest := []) X (ct_tpar l G A ad np M0 M f_190 (cf_tpar f_190 (some (P1_5.getD 0))) hM (OS.lt (by assumption) (OS.par (by assumption) (OS.some (by assumption))))) (va_cwS 1 X.2.2.2.2 (lw_S q1304 q1305 q127 q1306) rfl rfl rfl (by decide +kernel) ⟨by rw [hRf]; decide, by rw [hRl]; decide⟩) (mx_preS w rfl) rfl rfl hl.1 rfl (lv_room (Nat.le_of_ble_eq_true rfl)) dJ20_fixAfterInsertion_197 ⟨Nat.zero_le _, Nat.zero_le _⟩) (fun r M9 H locs hp w => ?_)
                obtain ⟨rfl, eM⟩ := hp; subst M9
                have hN197 : FM np mm f_190 ps S (cf_tpar f_190 (cf_tpar f_190 (some (P1_5.getD 0)))) n_5 := hN5.up hO5 hx6 c_24 ef_174 ef_179 ef_190 hg166
                have hO197 : OS S (cf_tpar f_190 (cf_tpar f_190 (some (P1_5.getD 0)))) := OS.par hY190 (OS.par hY190 (OS.some hs6))
                refine mx_astore_nQ (lv' := [(1, va_rf ((cf_tpar f_190 (cf_tpar f_190 (some (P1_5.getD 0)))).map fun k => ad (20 + k))), (2, va_rf ((cf_tlef f_5 (cf_tpar f_5 (cf_tpar f_5 (some (P1_5.getD 0))))).map fun k => ad (20 + k))), (0, .ref (ad 0))]) hx hb dJ20_fixAfterInsertion_200 rfl hl (by decide) (by first | rfl | (simp only [List.filter, va_rf_cat]; rfl)) (fun ls hl => ?_)
                refine lv_goto (tgt := 255) hx hb dJ20_fixAfterInsertion_201 (by decide) ?_
                refine lv_goto (tgt := 5) hx hb dJ20_fixAfterInsertion_255 (by decide) ?_
                exact ih_5 (cf_tpar f_190 (cf_tpar f_190 (some (P1_5.getD 0)))) f_190 M H locs ls (by first | omega | assumption) (by first | omega | assumption) (by first | omega | assumption | exact hO90) (by first | omega | assumption | exact hN90) (lv_sub hl [2, 0] rfl) w hM
            · skip
              have hA41 := shA_l hp14 c_41
              refine mx_aload_nQ hx hb dJ20_fixAfterInsertion_44 rfl (lv_at hl 1 rfl) ?_
              rw [eo_6]
              refine mx_bq w (va_runS (As := [va_rf ((some (P1_5.getD 0)).map fun k => ad (20 + k))]) (rest := []) X (ct_tpar l G A ad np M0 M f_5 (some (P1_5.getD 0)) hM (OS.lt (by assumption) (OS.some (by assumption)))) (va_cwS 1 X.2.2.2.2 (lw_S q1304 q1305 q127 q1306) rfl rfl rfl (by decide +kernel) ⟨by rw [hRf]; decide, by rw [hRl]; decide⟩) (mx_preS w rfl) rfl rfl hl.1 rfl (lv_room (Nat.le_of_ble_eq_true rfl)) dJ20_fixAfterInsertion_45 ⟨Nat.zero_le _, Nat.zero_le _⟩) (fun r M9 H locs hp w => ?_)
              obtain ⟨rfl, eM⟩ := hp; subst M9
              refine mx_bq w (va_runS (As := [va_rf ((cf_tpar f_5 (some (P1_5.getD 0))).map fun k => ad (20 + k))]) (rest := []) X (ct_tpar l G A ad np M0 M f_5 (cf_tpar f_5 (some (P1_5.getD 0))) hM (OS.lt (by assumption) (OS.par (by assumption) (OS.some (by assumption))))) (va_cwS 1 X.2.2.2.2 (lw_S q1304 q1305 q127 q1306) rfl rfl rfl (by decide +kernel) ⟨by rw [hRf]; decide, by rw [hRl]; decide⟩) (mx_preS w rfl) rfl rfl hl.1 rfl (lv_room (Nat.le_of_ble_eq_true rfl)) dJ20_fixAfterInsertion_48 ⟨Nat.zero_le _, Nat.zero_le _⟩) (fun r M9 H locs hp w => ?_)
              obtain ⟨rfl, eM⟩ := hp; subst M9
              refine mx_bq w (va_runS (As := [va_rf ((cf_tpar f_5 (cf_tpar f_5 (some (P1_5.getD 0)))).map fun k => ad (20 + k))]) (rest := []) X (ct_trig l G A ad np M0 M f_5 (cf_tpar f_5 (cf_tpar f_5 (some (P1_5.getD 0)))) hM (OS.lt (by assumption) (OS.par (by assumption) (OS.par (by assumption) (OS.some (by assumption)))))) (va_cwS 1 X.2.2.2.2 (lw_S q1310 q1311 q127 q1312) rfl rfl rfl (by decide +kernel) ⟨by rw [hRf]; decide, by rw [hRl]; decide⟩) (mx_preS w rfl) rfl rfl hl.1 rfl (lv_room (Nat.le_of_ble_eq_true rfl)) dJ20_fixAfterInsertion_51 ⟨Nat.zero_le _, Nat.zero_le _⟩) (fun r M9 H locs hp w => ?_)
              obtain ⟨rfl, eM⟩ := hp; subst M9
              refine mx_astore_nQ (lv' := [(2, va_rf ((cf_trig f_5 (cf_tpar f_5 (cf_tpar f_5 (some (P1_5.getD 0))))).map fun k => ad (20 + k))), (0, .ref (ad 0)), (1, va_rf (P1_5.map fun k => ad (20 + k)))]) hx hb dJ20_fixAfterInsertion_54 rfl hl (by decide) (by first | rfl | (simp only [List.filter, va_rf_cat]; rfl)) (fun ls hl => ?_)
              refine mx_aload_nQ hx hb dJ20_fixAfterInsertion_55 rfl (lv_at hl 0 rfl) ?_
              refine mx_bi w (va_runS (As := [va_rf ((cf_trig f_5 (cf_tpar f_5 (cf_tpar f_5 (some (P1_5.getD 0))))).map fun k => ad (20 + k))]) (rest := []) X (ct_tcol l G A ad np M0 M f_5 (cf_trig f_5 (cf_tpar f_5 (cf_tpar f_5 (some (P1_5.getD 0))))) hM (OS.lt (by assumption) (OS.rig (by assumption) (OS.par (by assumption) (OS.par (by assumption) (OS.some (by assumption))))))) (va_cwS 1 X.2.2.2.2 (lw_S q1313 q1314 q127 q1315) rfl rfl rfl (by decide +kernel) ⟨by rw [hRf]; decide, by rw [hRl]; decide⟩) (mx_preS w rfl) rfl rfl hl.1 rfl (lv_room (Nat.le_of_ble_eq_true rfl)) dJ20_fixAfterInsertion_56 ⟨Nat.zero_le _, Nat.zero_le _⟩) (fun r M9 H locs hp w => ?_)
              obtain ⟨rfl, eM⟩ := hp; subst M9
              refine mx_bne (tgt := 97) hx hb dJ20_fixAfterInsertion_59 (by decide) (fun c_59 => ?_) (fun c_59 => ?_)
              · skip
                refine mx_aload_nQ hx hb dJ20_fixAfterInsertion_97 rfl (lv_at hl 2 rfl) ?_
                rw [eo_6]
                refine mx_aload_nQ hx hb dJ20_fixAfterInsertion_98 rfl (lv_at hl 2 rfl) ?_
                rw [eo_6]
                refine mx_bq w (va_runS (As := [va_rf ((some (P1_5.getD 0)).map fun k => ad (20 + k))]) (rest := [.ref (ad (20 + (P1_5.getD 0)))]) X (ct_tpar l G A ad np M0 M f_5 (some (P1_5.getD 0)) hM (OS.lt (by assumption) (OS.some (by assumption)))) (va_cwS 1 X.2.2.2.2 (lw_S q1304 q1305 q127 q1306) rfl rfl rfl (by decide +kernel) ⟨by rw [hRf]; decide, by rw [hRl]; decide⟩) (mx_preS w rfl) rfl rfl hl.1 rfl (lv_room (Nat.le_of_ble_eq_true rfl)) dJ20_fixAfterInsertion_99 ⟨Nat.zero_le _, Nat.zero_le _⟩) (fun r M9 H locs hp w => ?_)
                obtain ⟨rfl, eM⟩ := hp; subst M9
                refine mx_bq w (va_runS (As := [va_rf ((cf_tpar f_5 (some (P1_5.getD 0))).map fun k => ad (20 + k))]) (rest := [.ref (ad (20 + (P1_5.getD 0)))]) X (ct_trig l G A ad np M0 M f_5 (cf_tpar f_5 (some (P1_5.getD 0))) hM (OS.lt (by assumption) (OS.par (by assumption) (OS.some (by assumption))))) (va_cwS 1 X.2.2.2.2 (lw_S q1310 q1311 q127 q1312) rfl rfl rfl (by decide +kernel) ⟨by rw [hRf]; decide, by rw [hRl]; decide⟩) (mx_preS w rfl) rfl rfl hl.1 rfl (lv_room (Nat.le_of_ble_eq_true rfl)) dJ20_fixAfterInsertion_102 ⟨Nat.zero_le _, Nat.zero_le _⟩) (fun r M9 H locs hp w => ?_)
                obtain ⟨rfl, eM⟩ := hp; subst M9
                have J118 : ∀ (P1_118 : Option Nat) (f_118 : tT) (M : mh) (H : Heap) (locs : List Loc) (ls : Array Slot), (hY118 : TY np mm f_118 ps S) → (hK118 : KV f f_118) → (hO118 : OS S P1_118) → (hh118 : ShL f_118 P1_118) → lv_has ls 3 [(0, .ref (ad 0)), (1, va_rf (P1_118.map fun k => ad (20 + k)))] → mW G A s M H locs → Tm G ad np M0 M f_118 → W p l e R s m av below meth c H locs 0 0 Q (F0 m 118 ls []) := by
                  intro P1_118 f_118 M H locs ls hY118 hK118 hO118 hh118 hl w hM
                  refine mx_aload_nQ hx hb dJ20_fixAfterInsertion_118 rfl (lv_at hl 1 rfl) ?_
                  refine mx_bq w (va_runS (As := [va_rf (P1_118.map fun k => ad (20 + k))]) (rest := []) X (ct_tpar l G A ad np M0 M f_118 P1_118 hM (OS.lt (by assumption) (by assumption))) (va_cwS 1 X.2.2.2.2 (lw_S q1304 q1305 q127 q1306) rfl rfl rfl (by decide +kernel) ⟨by rw [hRf]; decide, by rw [hRl]; decide⟩) (mx_preS w rfl) rfl rfl hl.1 rfl (lv_room (Nat.le_of_ble_eq_true rfl)) dJ20_fixAfterInsertion_119 ⟨Nat.zero_le _, Nat.zero_le _⟩) (fun r M9 H locs hp w => ?_)
                  obtain ⟨rfl, eM⟩ := hp; subst M9
                  refine lv_iconst (v := (1 : Int32)) hx hb dJ20_fixAfterInsertion_122 (by decide) ?_
                  refine mx_bv w (va_runS (As := [va_rf ((cf_tpar f_118 P1_118).map fun k => ad (20 + k)), .int (bI true)]) (rest := []) X (ct_tset l G A ad np M0 f_118 (cf_tpar f_118 P1_118) true  (OS.lt (by assumption) (OS.par (by assumption) (by assumption)))) (va_cwS 2 X.2.2.2.2 (lw_S q1316 q1317 q127 q1318) rfl rfl rfl (by decide +kernel) ⟨by rw [hRf]; decide, by rw [hRl]; decide⟩) (mx_preS w hM) rfl rfl hl.1 rfl (lv_room (Nat.le_of_ble_eq_true rfl)) dJ20_fixAfterInsertion_123 ⟨Nat.zero_le _, Nat.zero_le _⟩) (fun M H locs hM w => ?_)
                  obtain ⟨f_123, ef_123⟩ : ∃ y, y = (cf_tset f_118 (cf_tpar f_118 P1_118) true) := ⟨_, rfl⟩
                  rw [← ef_123] at hM
                  have hY123 : TY np mm f_123 ps S := by rw [ef_123]; exact TY.tset (by assumption) _ _
                  have hK123 : KV f f_123 := by rw [ef_123]; exact KV.tset (by assumption)
                  refine mx_aload_nQ hx hb dJ20_fixAfterInsertion_126 rfl (lv_at hl 1 rfl) ?_
                  refine mx_bq w (va_runS (As := [va_rf (P1_118.map fun k => ad (20 + k))]) (rest := []) X (ct_tpar l G A ad np M0 M f_123 P1_118 hM (OS.lt (by assumption) (by assumption))) (va_cwS 1 X.2.2.2.2 (lw_S q1304 q1305 q127 q1306) rfl rfl rfl (by decide +kernel) ⟨by rw [hRf]; decide, by rw [hRl]; decide⟩) (mx_preS w rfl) rfl rfl hl.1 rfl (lv_room (Nat.le_of_ble_eq_true rfl)) dJ20_fixAfterInsertion_127 ⟨Nat.zero_le _, Nat.zero_le _⟩) (fun r M9 H locs hp w => ?_)
                  obtain ⟨rfl, eM⟩ := hp; subst M9
                  refine mx_bq w (va_runS (As := [va_rf ((cf_tpar f_123 P1_118).map fun k => ad (20 + k))]) (rest := []) X (ct_tpar l G A ad np M0 M f_123 (cf_tpar f_123 P1_118) hM (OS.lt (by assumption) (OS.par (by assumption) (by assumption)))) (va_cwS 1 X.2.2.2.2 (lw_S q1304 q1305 q127 q1306) rfl rfl rfl (by decide +kernel) ⟨by rw [hRf]; decide, by rw [hRl]; decide⟩) (mx_preS w rfl) rfl rfl hl.1 rfl (lv_room (Nat.le_of_ble_eq_true rfl)) dJ20_fixAfterInsertion_130 ⟨Nat.zero_le _, Nat.zero_le _⟩) (fun r M9 H locs hp w => ?_)
                  obtain ⟨rfl, eM⟩ := hp; subst M9
                  refine lv_iconst (v := (0 : Int32)) hx hb dJ20_fixAfterInsertion_133 (by decide) ?_
                  refine mx_bv w (va_runS (As := [va_rf ((cf_tpar f_123 (cf_tpar f_123 P1_118)).map fun k => ad (20 + k)), .int (bI false)]) (rest := []) X (ct_tset l G A ad np M0 f_123 (cf_tpar f_123 (cf_tpar f_123 P1_118)) false  (OS.lt (by assumption) (OS.par (by assumption) (OS.par (by assumption) (by assumption))))) (va_cwS 2 X.2.2.2.2 (lw_S q1316 q1317 q127 q1318) rfl rfl rfl (by decide +kernel) ⟨by rw [hRf]; decide, by rw [hRl]; decide⟩) (mx_preS w hM) rfl rfl hl.1 rfl (lv_room (Nat.le_of_ble_eq_true rfl)) dJ20_fixAfterInsertion_134 ⟨Nat.zero_le _, Nat.zero_le _⟩) (fun M H locs hM w => ?_)
                  obtain ⟨f_134, ef_134⟩ : ∃ y, y = (cf_tset f_123 (cf_tpar f_123 (cf_tpar f_123 P1_118)) false) := ⟨_, rfl⟩
                  rw [← ef_134] at hM
                  have hY134 : TY np mm f_134 ps S := by rw [ef_134]; exact TY.tset (by assumption) _ _
                  have hK134 : KV f f_134 := by rw [ef_134]; exact KV.tset (by assumption)
                  refine lv_aload_n hx hb dJ20_fixAfterInsertion_137 rfl (lv_at hl 0 rfl) ?_
                  refine mx_aload_nQ hx hb dJ20_fixAfterInsertion_138 rfl (lv_at hl 1 rfl) ?_
                  refine mx_bq w (va_runS (As := [va_rf (P1_118.map fun k => ad (20 + k))]) (rest := [.ref (ad 0)]) X (ct_tpar l G A ad np M0 M f_134 P1_118 hM (OS.lt (by assumption) (by assumption))) (va_cwS 1 X.2.2.2.2 (lw_S q1304 q1305 q127 q1306) rfl rfl rfl (by decide +kernel) ⟨by rw [hRf]; decide, by rw [hRl]; decide⟩) (mx_preS w rfl) rfl rfl hl.1 rfl (lv_room (Nat.le_of_ble_eq_true rfl)) dJ20_fixAfterInsertion_139 ⟨Nat.zero_le _, Nat.zero_le _⟩) (fun r M9 H locs hp w => ?_)
                  obtain ⟨rfl, eM⟩ := hp; subst M9
                  refine mx_bq w (va_runS (As := [va_rf ((cf_tpar f_134 P1_118).map fun k => ad (20 + k))]) (rest := [.ref (ad 0)]) X (ct_tpar l G A ad np M0 M f_134 (cf_tpar f_134 P1_118) hM (OS.lt (by assumption) (OS.par (by assumption) (by assumption)))) (va_cwS 1 X.2.2.2.2 (lw_S q1304 q1305 q127 q1306) rfl rfl rfl (by decide +kernel) ⟨by rw [hRf]; decide, by rw [hRl]; decide⟩) (mx_preS w rfl) rfl rfl hl.1 rfl (lv_room (Nat.le_of_ble_eq_true rfl)) dJ20_fixAfterInsertion_142 ⟨Nat.zero_le _, Nat.zero_le _⟩) (fun r M9 H locs hp w => ?_)
                  obtain ⟨rfl, eM⟩ := hp; subst M9
                  refine mx_bv w (va_runV (As := [va_rf ((cf_tpar f_134 (cf_tpar f_134 P1_118)).map fun k => ad (20 + k))]) (rest := []) X (ct_rotRy l G A ad np M0 f_134 (cf_tpar f_134 (cf_tpar f_134 P1_118)) mm ps S (by assumption) (hh118.h hY118 hO118 ef_123 ef_134)) (cwV 1 X.2.2.2.2 (lw_V q1323 q1325 qs19 q127 q1326) rfl rfl rfl (by decide +kernel) ⟨by rw [hRf]; decide, by rw [hRl]; decide⟩) (mx_preV w hM hM.st rfl) rfl rfl hl.1 rfl (lv_room (Nat.le_of_ble_eq_true rfl)) dJ20_fixAfterInsertion_145 ⟨Nat.zero_le _, Nat.zero_le _⟩) (fun M H locs hM w => ?_)
                  obtain ⟨f_145, ef_145⟩ : ∃ y, y = (cf_rotR f_134 (cf_tpar f_134 (cf_tpar f_134 P1_118))) := ⟨_, rfl⟩
                  rw [← ef_145] at hM
                  have hH145 := hh118.h hY118 hO118 ef_123 ef_134
                  have hY145 : TY np mm f_145 ps S := by rw [ef_145]; exact TY.rotR (by assumption) hH145
                  have hK145 : KV f f_145 := by rw [ef_145]; exact KV.rotR (by assumption) hH145 (by assumption)
                  have hN145 : FM np mm f_145 ps S P1_118 n_5 := hh118.fm hY118 hO118 ef_123 ef_134 ef_145 hn9
                  refine lv_goto (tgt := 5) hx hb dJ20_fixAfterInsertion_148 (by decide) ?_
                  exact ih_5 P1_118 f_145 M H locs ls (by first | omega | assumption) (by first | omega | assumption) (by first | omega | assumption | exact hO90) (by first | omega | assumption | exact hN90) (lv_sub hl [0, 1] rfl) w hM
                refine tm_acmp_ne hM (rx := some (P1_5.getD 0)) (ry := (cf_trig f_5 (cf_tpar f_5 (some (P1_5.getD 0))))) (tgt := 118) hx hb dJ20_fixAfterInsertion_105 (by decide) (fun c_105 => ?_) (fun c_105 => ?_)
                · skip
                  exact J118 P1_5 f_5 M H locs ls (by assumption) (by assumption) (by first | exact hO5 | exact OS.par hY5 (OS.some hs6)) (by first | exact ShL.rot hY5 hs6 hp14 hA41 c_105 ef_115 | (rw [hx6]; exact ShL.no hp14 hA41 c_105)) (lv_sub hl [1, 2] rfl) w hM
                · skip
                  refine mx_aload_nQ hx hb dJ20_fixAfterInsertion_108 rfl (lv_at hl 2 rfl) ?_
                  rw [eo_6]
                  refine mx_bq w (va_runS (As := [va_rf ((some (P1_5.getD 0)).map fun k => ad (20 + k))]) (rest := []) X (ct_tpar l G A ad np M0 M f_5 (some (P1_5.getD 0)) hM (OS.lt (by assumption) (OS.some (by assumption)))) (va_cwS 1 X.2.2.2.2 (lw_S q1304 q1305 q127 q1306) rfl rfl rfl (by decide +kernel) ⟨by rw [hRf]; decide, by rw [hRl]; decide⟩) (mx_preS w rfl) rfl rfl hl.1 rfl (lv_room (Nat.le_of_ble_eq_true rfl)) dJ20_fixAfterInsertion_109 ⟨Nat.zero_le _, Nat.zero_le _⟩) (fun r M9 H locs hp w => ?_)
                  obtain ⟨rfl, eM⟩ := hp; subst M9
                  refine mx_astore_nQ (lv' := [(1, va_rf ((cf_tpar f_5 (some (P1_5.getD 0))).map fun k => ad (20 + k))), (2, va_rf ((cf_trig f_5 (cf_tpar f_5 (cf_tpar f_5 (some (P1_5.getD 0))))).map fun k => ad (20 + k))), (0, .ref (ad 0))]) hx hb dJ20_fixAfterInsertion_112 rfl hl (by decide) (by first | rfl | (simp only [List.filter, va_rf_cat]; rfl)) (fun ls hl => ?_)
                  refine lv_aload_n hx hb dJ20_fixAfterInsertion_113 rfl (lv_at hl 2 rfl) ?_
                  refine mx_aload_nQ hx hb dJ20_fixAfterInsertion_114 rfl (lv_at hl 0 rfl) ?_
                  refine mx_bv w (va_runV (As := [va_rf ((cf_tpar f_5 (some (P1_5.getD 0))).map fun k => ad (20 + k))]) (rest := []) X (ct_rotLy l G A ad np M0 f_5 (cf_tpar f_5 (some (P1_5.getD 0))) mm ps S (by assumption) (rotL_rot_h hY5 hs6 c_105)) (cwV 1 X.2.2.2.2 (lw_V q1319 q1321 qs18 q127 q1322) rfl rfl rfl (by decide +kernel) ⟨by rw [hRf]; decide, by rw [hRl]; decide⟩) (mx_preV w hM hM.st rfl) rfl rfl hl.1 rfl (lv_room (Nat.le_of_ble_eq_true rfl)) dJ20_fixAfterInsertion_115 ⟨Nat.zero_le _, Nat.zero_le _⟩) (fun M H locs hM w => ?_)
                  obtain ⟨f_115, ef_115⟩ : ∃ y, y = (cf_rotL f_5 (cf_tpar f_5 (some (P1_5.getD 0)))) := ⟨_, rfl⟩
                  rw [← ef_115] at hM
                  have hH115 := rotL_rot_h hY5 hs6 c_105
                  have hY115 : TY np mm f_115 ps S := by rw [ef_115]; exact TY.rotL (by assumption) hH115
                  have hK115 : KV f f_115 := by rw [ef_115]; exact KV.rotL (by assumption) hH115 (by assumption)
                  exact J118 (cf_tpar f_5 (some (P1_5.getD 0))) f_115 M H locs ls (by assumption) (by assumption) (by first | exact hO5 | exact OS.par hY5 (OS.some hs6)) (by first | exact ShL.rot hY5 hs6 hp14 hA41 c_105 ef_115 | (rw [hx6]; exact ShL.no hp14 hA41 c_105)) (lv_sub hl [2, 0] rfl) w hM
              · skip
                have hg59 := notnone_r c_59
                refine mx_aload_nQ hx hb dJ20_fixAfterInsertion_62 rfl (lv_at hl 2 rfl) ?_
                rw [eo_6]
                refine mx_bq w (va_runS (As := [va_rf ((some (P1_5.getD 0)).map fun k => ad (20 + k))]) (rest := []) X (ct_tpar l G A ad np M0 M f_5 (some (P1_5.getD 0)) hM (OS.lt (by assumption) (OS.some (by assumption)))) (va_cwS 1 X.2.2.2.2 (lw_S q1304 q1305 q127 q1306) rfl rfl rfl (by decide +kernel) ⟨by rw [hRf]; decide, by rw [hRl]; decide⟩) (mx_preS w rfl) rfl rfl hl.1 rfl (lv_room (Nat.le_of_ble_eq_true rfl)) dJ20_fixAfterInsertion_63 ⟨Nat.zero_le _, Nat.zero_le _⟩) (fun r M9 H locs hp w => ?_)
                obtain ⟨rfl, eM⟩ := hp; subst M9
                refine lv_iconst (v := (1 : Int32)) hx hb dJ20_fixAfterInsertion_66 (by decide) ?_
                refine mx_bv w (va_runS (As := [va_rf ((cf_tpar f_5 (some (P1_5.getD 0))).map fun k => ad (20 + k)), .int (bI true)]) (rest := []) X (ct_tset l G A ad np M0 f_5 (cf_tpar f_5 (some (P1_5.getD 0))) true  (OS.lt (by assumption) (OS.par (by assumption) (OS.some (by assumption))))) (va_cwS 2 X.2.2.2.2 (lw_S q1316 q1317 q127 q1318) rfl rfl rfl (by decide +kernel) ⟨by rw [hRf]; decide, by rw [hRl]; decide⟩) (mx_preS w hM) rfl rfl hl.1 rfl (lv_room (Nat.le_of_ble_eq_true rfl)) dJ20_fixAfterInsertion_67 ⟨Nat.zero_le _, Nat.zero_le _⟩) (fun M H locs hM w => ?_)
                obtain ⟨f_67, ef_67⟩ : ∃ y, y = (cf_tset f_5 (cf_tpar f_5 (some (P1_5.getD 0))) true) := ⟨_, rfl⟩
                rw [← ef_67] at hM
                have hY67 : TY np mm f_67 ps S := by rw [ef_67]; exact TY.tset (by assumption) _ _
                have hK67 : KV f f_67 := by rw [ef_67]; exact KV.tset (by assumption)
                refine mx_aload_nQ hx hb dJ20_fixAfterInsertion_70 rfl (lv_at hl 0 rfl) ?_
                refine lv_iconst (v := (1 : Int32)) hx hb dJ20_fixAfterInsertion_71 (by decide) ?_
                refine mx_bv w (va_runS (As := [va_rf ((cf_trig f_5 (cf_tpar f_5 (cf_tpar f_5 (some (P1_5.getD 0))))).map fun k => ad (20 + k)), .int (bI true)]) (rest := []) X (ct_tset l G A ad np M0 f_67 (cf_trig f_5 (cf_tpar f_5 (cf_tpar f_5 (some (P1_5.getD 0))))) true  (OS.lt (by assumption) (OS.rig (by assumption) (OS.par (by assumption) (OS.par (by assumption) (OS.some (by assumption))))))) (va_cwS 2 X.2.2.2.2 (lw_S q1316 q1317 q127 q1318) rfl rfl rfl (by decide +kernel) ⟨by rw [hRf]; decide, by rw [hRl]; decide⟩) (mx_preS w hM) rfl rfl hl.1 rfl (lv_room (Nat.le_of_ble_eq_true rfl)) dJ20_fixAfterInsertion_72 ⟨Nat.zero_le _, Nat.zero_le _⟩) (fun M H locs hM w => ?_)
                obtain ⟨f_72, ef_72⟩ : ∃ y, y = (cf_tset f_67 (cf_trig f_5 (cf_tpar f_5 (cf_tpar f_5 (some (P1_5.getD 0))))) true) := ⟨_, rfl⟩
                rw [← ef_72] at hM
                have hY72 : TY np mm f_72 ps S := by rw [ef_72]; exact TY.tset (by assumption) _ _
                have hK72 : KV f f_72 := by rw [ef_72]; exact KV.tset (by assumption)
                refine mx_aload_nQ hx hb dJ20_fixAfterInsertion_75 rfl (lv_at hl 2 rfl) ?_
                rw [eo_6]
                refine mx_bq w (va_runS (As := [va_rf ((some (P1_5.getD 0)).map fun k => ad (20 + k))]) (rest := []) X (ct_tpar l G A ad np M0 M f_72 (some (P1_5.getD 0)) hM (OS.lt (by assumption) (OS.some (by assumption)))) (va_cwS 1 X.2.2.2.2 (lw_S q1304 q1305 q127 q1306) rfl rfl rfl (by decide +kernel) ⟨by rw [hRf]; decide, by rw [hRl]; decide⟩) (mx_preS w rfl) rfl rfl hl.1 rfl (lv_room (Nat.le_of_ble_eq_true rfl)) dJ20_fixAfterInsertion_76 ⟨Nat.zero_le _, Nat.zero_le _⟩) (fun r M9 H locs hp w => ?_)
                obtain ⟨rfl, eM⟩ := hp; subst M9
                refine mx_bq w (va_runS (As := [va_rf ((cf_tpar f_72 (some (P1_5.getD 0))).map fun k => ad (20 + k))]) (rest := []) X (ct_tpar l G A ad np M0 M f_72 (cf_tpar f_72 (some (P1_5.getD 0))) hM (OS.lt (by assumption) (OS.par (by assumption) (OS.some (by assumption))))) (va_cwS 1 X.2.2.2.2 (lw_S q1304 q1305 q127 q1306) rfl rfl rfl (by decide +kernel) ⟨by rw [hRf]; decide, by rw [hRl]; decide⟩) (mx_preS w rfl) rfl rfl hl.1 rfl (lv_room (Nat.le_of_ble_eq_true rfl)) dJ20_fixAfterInsertion_79 ⟨Nat.zero_le _, Nat.zero_le _⟩) (fun r M9 H locs hp w => ?_)
                obtain ⟨rfl, eM⟩ := hp; subst M9
                refine lv_iconst (v := (0 : Int32)) hx hb dJ20_fixAfterInsertion_82 (by decide) ?_
                refine mx_bv w (va_runS (As := [va_rf ((cf_tpar f_72 (cf_tpar f_72 (some (P1_5.getD 0)))).map fun k => ad (20 + k)), .int (bI false)]) (rest := []) X (ct_tset l G A ad np M0 f_72 (cf_tpar f_72 (cf_tpar f_72 (some (P1_5.getD 0)))) false  (OS.lt (by assumption) (OS.par (by assumption) (OS.par (by assumption) (OS.some (by assumption)))))) (va_cwS 2 X.2.2.2.2 (lw_S q1316 q1317 q127 q1318) rfl rfl rfl (by decide +kernel) ⟨by rw [hRf]; decide, by rw [hRl]; decide⟩) (mx_preS w hM) rfl rfl hl.1 rfl (lv_room (Nat.le_of_ble_eq_true rfl)) dJ20_fixAfterInsertion_83 ⟨Nat.zero_le _, Nat.zero_le _⟩) (fun M H locs hM w => ?_)
                obtain ⟨f_83, ef_83⟩ : ∃ y, y = (cf_tset f_72 (cf_tpar f_72 (cf_tpar f_72 (some (P1_5.getD 0)))) false) := ⟨_, rfl⟩
                rw [← ef_83] at hM
                have hY83 : TY np mm f_83 ps S := by rw [ef_83]; exact TY.tset (by assumption) _ _
                have hK83 : KV f f_83 := by rw [ef_83]; exact KV.tset (by assumption)
                refine mx_aload_nQ hx hb dJ20_fixAfterInsertion_86 rfl (lv_at hl 2 rfl) ?_
                rw [eo_6]
                refine mx_bq w (va_runS (As := [va_rf ((some (P1_5.getD 0)).map fun k => ad (20 + k))]) (rest := []) X (ct_tpar l G A ad np M0 M f_83 (some (P1_5.getD 0)) hM (OS.lt (by assumption) (OS.some (by assumption)))) (va_cwS 1 X.2.2.2.2 (lw_S q1304 q1305 q127 q1306) rfl rfl rfl (by decide +kernel) ⟨by rw [hRf]; decide, by rw [hRl]; decide⟩) (mx_preS w rfl) rfl rfl hl.1 rfl (lv_room (Nat.le_of_ble_eq_true rfl)) dJ20_fixAfterInsertion_87 ⟨Nat.zero_le _, Nat.zero_le _⟩) (fun r M9 H locs hp w => ?_)
                obtain ⟨rfl, eM⟩ := hp; subst M9
                refine mx_bq w (va_runS (As := [va_rf ((cf_tpar f_83 (some (P1_5.getD 0))).map fun k => ad (20 + k))]) (rest := []) X (ct_tpar l G A ad np M0 M f_83 (cf_tpar f_83 (some (P1_5.getD 0))) hM (OS.lt (by assumption) (OS.par (by assumption) (OS.some (by assumption))))) (va_cwS 1 X.2.2.2.2 (lw_S q1304 q1305 q127 q1306) rfl rfl rfl (by decide +kernel) ⟨by rw [hRf]; decide, by rw [hRl]; decide⟩) (mx_preS w rfl) rfl rfl hl.1 rfl (lv_room (Nat.le_of_ble_eq_true rfl)) dJ20_fixAfterInsertion_90 ⟨Nat.zero_le _, Nat.zero_le _⟩) (fun r M9 H locs hp w => ?_)
                obtain ⟨rfl, eM⟩ := hp; subst M9
                have hN90 : FM np mm f_83 ps S (cf_tpar f_83 (cf_tpar f_83 (some (P1_5.getD 0)))) n_5 := hN5.up hO5 hx6 c_24 ef_67 ef_72 ef_83 hg59
                have hO90 : OS S (cf_tpar f_83 (cf_tpar f_83 (some (P1_5.getD 0)))) := OS.par hY83 (OS.par hY83 (OS.some hs6))
                refine mx_astore_nQ (lv' := [(1, va_rf ((cf_tpar f_83 (cf_tpar f_83 (some (P1_5.getD 0)))).map fun k => ad (20 + k))), (2, va_rf ((cf_trig f_5 (cf_tpar f_5 (cf_tpar f_5 (some (P1_5.getD 0))))).map fun k => ad (20 + k))), (0, .ref (ad 0))]) hx hb dJ20_fixAfterInsertion_93 rfl hl (by decide) (by first | rfl | (simp only [List.filter, va_rf_cat]; rfl)) (fun ls hl => ?_)
                refine lv_goto (tgt := 148) hx hb dJ20_fixAfterInsertion_94 (by decide) ?_
                refine lv_goto (tgt := 5) hx hb dJ20_fixAfterInsertion_148 (by decide) ?_
                exact ih_5 (cf_tpar f_83 (cf_tpar f_83 (some (P1_5.getD 0)))) f_83 M H locs ls (by first | omega | assumption) (by first | omega | assumption) (by first | omega | assumption | exact hO90) (by first | omega | assumption | exact hN90) (lv_sub hl [2, 0] rfl) w hM
  exact L5 (mm + 3) (some kx) (t2 f kx 3 (bO false)) M H locs ls (by first | omega | assumption) (by first | omega | assumption) (by first | omega | assumption | exact OS.some hS0) (by first | omega | assumption | exact FM.init hY2) (lv_sub hl [0, 1] rfl) w hM
