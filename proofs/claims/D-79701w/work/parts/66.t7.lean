set_option maxRecDepth 100000
/-! T7: the repair after a deletion -/
set_option maxHeartbeats 4000000 in
set_option maxRecDepth 100000 in
theorem ct_fixDel (l : Launch) (G : mg) (A : Nat → Prop) (ad : Nat → Nat) (np : Nat) (M0 : mh) (f : tT) (kx : Nat) (mm : Nat) (ps : Nat → Nat) (S : Nat → Prop) (hYi : TY np mm f ps S) (hSi : S kx) (hDi : DM np mm f ps S (some kx) (mm + 3)) : Met l yJ20_fixAfterDeletion (ws_ yJ20_fixAfterDeletion cJ20_fixAfterDeletion 3 (none)) ({ frames := 1, cells := 0, slots := 0, locals := 22 }) (va_Pc [.ref (ad 0), .ref (ad (20 + kx))] (mU G A (fun M => Tm G ad np M0 M f))) (mQv G A (fun M => ∃ g, Tm G ad np M0 M g ∧ TY np mm g ps S ∧ KV f g ∧ LV S ps f g)) 0 0 A := by
  refine mx_ofv (by decide) (Nat.le_of_ble_eq_true rfl) ?_
  intro p e R s m av below meth c M H Q ls X hRf hRl hRc hRs hin hM w fin hl
  have X : CallFix p m c cJ20_fixAfterDeletion 3 s av lw_all "java/util/TreeMap" := X
  have hx := X.1
  have hb := X.2.1
  have hl : lv_has ls 3 [(0, .ref (ad 0)), (1, .ref (ad (20 + kx)))] := hl
  have hRf : R.frames = 1 := hRf
  have hRl : R.locals = 22 := hRl
  have hRc : R.cells = 0 := hRc
  have hRs : R.slots = 0 := hRs
  generalize ([] : List Loc) = locs at w ⊢
  have L0 : ∀ (n_0 : Nat) (P1_0 : Option Nat) (f_0 : tT) (M : mh) (H : Heap) (locs : List Loc) (ls : Array Slot), (hY0 : TY np mm f_0 ps S) → (hK0 : KV f f_0) → (hV0 : LV S ps f f_0) → (hD0 : DM np mm f_0 ps S P1_0 n_0) → lv_has ls 3 [(0, .ref (ad 0)), (1, va_rf (P1_0.map fun k => ad (20 + k)))] → mW G A s M H locs → Tm G ad np M0 M f_0 → W p l e R s m av below meth c H locs 0 0 Q (F0 m 0 ls []) := by
    intro n_0
    induction n_0 with
    | zero =>
      intro P1_0 f_0 M H locs ls hY0 hK0 hV0 hD0 hl w hM
      exact hD0.zero.elim
    | succ n_0 ih_0 =>
      intro P1_0 f_0 M H locs ls hY0 hK0 hV0 hD0 hl w hM
      have hO0 : OS S P1_0 := hD0.os
      refine mx_aload_nQ hx hb dJ20_fixAfterDeletion_0 rfl (lv_at hl 1 rfl) ?_
      refine lv_aload_n hx hb dJ20_fixAfterDeletion_1 rfl (lv_at hl 0 rfl) ?_
      refine tm_root X w hM q927 dJ20_fixAfterDeletion_2 ?_
      refine tm_acmp_eq hM (rx := P1_0) (ry := (f_0 0 6)) (tgt := 345) hx hb dJ20_fixAfterDeletion_5 (by decide) (fun c_5 => ?_) (fun c_5 => ?_)
      · skip
        refine mx_aload_nQ hx hb dJ20_fixAfterDeletion_345 rfl (lv_at hl 1 rfl) ?_
        refine lv_iconst (v := (1 : Int32)) hx hb dJ20_fixAfterDeletion_346 (by decide) ?_
        refine mx_bv w (va_runS (As := [va_rf (P1_0.map fun k => ad (20 + k)), .int (bI true)]) (rest := []) X (ct_tset l G A ad np M0 f_0 P1_0 true  (OS.lt (by assumption) (by assumption))) (va_cwS 2 X.2.2.2.2 (lw_S q1316 q1317 q127 q1318) rfl rfl rfl (by decide +kernel) ⟨by rw [hRf]; decide, by rw [hRl]; decide⟩) (mx_preS w hM) rfl rfl hl.1 rfl (lv_room (Nat.le_of_ble_eq_true rfl)) dJ20_fixAfterDeletion_347 ⟨Nat.zero_le _, Nat.zero_le _⟩) (fun M H locs hM w => ?_)
        obtain ⟨f_347, ef_347⟩ : ∃ y, y = (cf_tset f_0 P1_0 true) := ⟨_, rfl⟩
        rw [← ef_347] at hM
        have hY347 : TY np mm f_347 ps S := by rw [ef_347]; exact TY.tset (by assumption) _ _
        have hK347 : KV f f_347 := by rw [ef_347]; exact KV.tset (by assumption)
        have hV347 : LV S ps f f_347 := by rw [ef_347]; exact LV.tset (by assumption)
        exact fin M H locs ls 350 dJ20_fixAfterDeletion_350 ⟨f_347, hM, ⟨by assumption, by assumption, by assumption⟩⟩ w
      · skip
        refine mx_aload_nQ hx hb dJ20_fixAfterDeletion_8 rfl (lv_at hl 1 rfl) ?_
        refine mx_bi w (va_runS (As := [va_rf (P1_0.map fun k => ad (20 + k))]) (rest := []) X (ct_tcol l G A ad np M0 M f_0 P1_0 hM (OS.lt (by assumption) (by assumption))) (va_cwS 1 X.2.2.2.2 (lw_S q1313 q1314 q127 q1315) rfl rfl rfl (by decide +kernel) ⟨by rw [hRf]; decide, by rw [hRl]; decide⟩) (mx_preS w rfl) rfl rfl hl.1 rfl (lv_room (Nat.le_of_ble_eq_true rfl)) dJ20_fixAfterDeletion_9 ⟨Nat.zero_le _, Nat.zero_le _⟩) (fun r M9 H locs hp w => ?_)
        obtain ⟨rfl, eM⟩ := hp; subst M9
        refine lv_iconst (v := (1 : Int32)) hx hb dJ20_fixAfterDeletion_12 (by decide) ?_
        refine lv_icmp_ne (tgt := 345) hx hb dJ20_fixAfterDeletion_13 (by decide) (fun c_13 => ?_) (fun c_13 => ?_)
        · skip
          refine mx_aload_nQ hx hb dJ20_fixAfterDeletion_345 rfl (lv_at hl 1 rfl) ?_
          refine lv_iconst (v := (1 : Int32)) hx hb dJ20_fixAfterDeletion_346 (by decide) ?_
          refine mx_bv w (va_runS (As := [va_rf (P1_0.map fun k => ad (20 + k)), .int (bI true)]) (rest := []) X (ct_tset l G A ad np M0 f_0 P1_0 true  (OS.lt (by assumption) (by assumption))) (va_cwS 2 X.2.2.2.2 (lw_S q1316 q1317 q127 q1318) rfl rfl rfl (by decide +kernel) ⟨by rw [hRf]; decide, by rw [hRl]; decide⟩) (mx_preS w hM) rfl rfl hl.1 rfl (lv_room (Nat.le_of_ble_eq_true rfl)) dJ20_fixAfterDeletion_347 ⟨Nat.zero_le _, Nat.zero_le _⟩) (fun M H locs hM w => ?_)
          obtain ⟨f_347, ef_347⟩ : ∃ y, y = (cf_tset f_0 P1_0 true) := ⟨_, rfl⟩
          rw [← ef_347] at hM
          have hY347 : TY np mm f_347 ps S := by rw [ef_347]; exact TY.tset (by assumption) _ _
          have hK347 : KV f f_347 := by rw [ef_347]; exact KV.tset (by assumption)
          have hV347 : LV S ps f f_347 := by rw [ef_347]; exact LV.tset (by assumption)
          exact fin M H locs ls 350 dJ20_fixAfterDeletion_350 ⟨f_347, hM, ⟨by assumption, by assumption, by assumption⟩⟩ w
        · skip
          obtain ⟨h13, hl13⟩ := hD0.go c_5 c_13
          refine mx_aload_nQ hx hb dJ20_fixAfterDeletion_16 rfl (lv_at hl 1 rfl) ?_
          refine mx_aload_nQ hx hb dJ20_fixAfterDeletion_17 rfl (lv_at hl 1 rfl) ?_
          refine mx_bq w (va_runS (As := [va_rf (P1_0.map fun k => ad (20 + k))]) (rest := [va_rf (P1_0.map fun k => ad (20 + k))]) X (ct_tpar l G A ad np M0 M f_0 P1_0 hM (OS.lt (by assumption) (by assumption))) (va_cwS 1 X.2.2.2.2 (lw_S q1304 q1305 q127 q1306) rfl rfl rfl (by decide +kernel) ⟨by rw [hRf]; decide, by rw [hRl]; decide⟩) (mx_preS w rfl) rfl rfl hl.1 rfl (lv_room (by simp only [List.map_cons, List.map_nil, va_rf_cat]; exact Nat.le_of_ble_eq_true rfl)) dJ20_fixAfterDeletion_18 ⟨Nat.zero_le _, Nat.zero_le _⟩) (fun r M9 H locs hp w => ?_)
          obtain ⟨rfl, eM⟩ := hp; subst M9
          refine mx_bq w (va_runS (As := [va_rf ((cf_tpar f_0 P1_0).map fun k => ad (20 + k))]) (rest := [va_rf (P1_0.map fun k => ad (20 + k))]) X (ct_tlef l G A ad np M0 M f_0 (cf_tpar f_0 P1_0) hM (OS.lt (by assumption) (OS.par (by assumption) (by assumption)))) (va_cwS 1 X.2.2.2.2 (lw_S q1307 q1308 q127 q1309) rfl rfl rfl (by decide +kernel) ⟨by rw [hRf]; decide, by rw [hRl]; decide⟩) (mx_preS w rfl) rfl rfl hl.1 rfl (lv_room (by simp only [List.map_cons, List.map_nil, va_rf_cat]; exact Nat.le_of_ble_eq_true rfl)) dJ20_fixAfterDeletion_21 ⟨Nat.zero_le _, Nat.zero_le _⟩) (fun r M9 H locs hp w => ?_)
          obtain ⟨rfl, eM⟩ := hp; subst M9
          refine tm_acmp_ne hM (rx := P1_0) (ry := (cf_tlef f_0 (cf_tpar f_0 P1_0))) (tgt := 186) hx hb dJ20_fixAfterDeletion_24 (by decide) (fun c_24 => absurd (hl13) c_24) (fun c_24 => ?_)
          refine mx_aload_nQ hx hb dJ20_fixAfterDeletion_27 rfl (lv_at hl 1 rfl) ?_
          refine mx_bq w (va_runS (As := [va_rf (P1_0.map fun k => ad (20 + k))]) (rest := []) X (ct_tpar l G A ad np M0 M f_0 P1_0 hM (OS.lt (by assumption) (by assumption))) (va_cwS 1 X.2.2.2.2 (lw_S q1304 q1305 q127 q1306) rfl rfl rfl (by decide +kernel) ⟨by rw [hRf]; decide, by rw [hRl]; decide⟩) (mx_preS w rfl) rfl rfl hl.1 rfl (lv_room (Nat.le_of_ble_eq_true rfl)) dJ20_fixAfterDeletion_28 ⟨Nat.zero_le _, Nat.zero_le _⟩) (fun r M9 H locs hp w => ?_)
          obtain ⟨rfl, eM⟩ := hp; subst M9
          refine mx_bq w (va_runS (As := [va_rf ((cf_tpar f_0 P1_0).map fun k => ad (20 + k))]) (rest := []) X (ct_trig l G A ad np M0 M f_0 (cf_tpar f_0 P1_0) hM (OS.lt (by assumption) (OS.par (by assumption) (by assumption)))) (va_cwS 1 X.2.2.2.2 (lw_S q1310 q1311 q127 q1312) rfl rfl rfl (by decide +kernel) ⟨by rw [hRf]; decide, by rw [hRl]; decide⟩) (mx_preS w rfl) rfl rfl hl.1 rfl (lv_room (Nat.le_of_ble_eq_true rfl)) dJ20_fixAfterDeletion_31 ⟨Nat.zero_le _, Nat.zero_le _⟩) (fun r M9 H locs hp w => ?_)
          obtain ⟨rfl, eM⟩ := hp; subst M9
          refine mx_astore_nQ (lv' := [(2, va_rf ((cf_trig f_0 (cf_tpar f_0 P1_0)).map fun k => ad (20 + k))), (0, .ref (ad 0)), (1, va_rf (P1_0.map fun k => ad (20 + k)))]) hx hb dJ20_fixAfterDeletion_34 rfl hl (by decide) (by first | rfl | (simp only [List.filter, va_rf_cat]; rfl)) (fun ls hl => ?_)
          refine mx_aload_nQ hx hb dJ20_fixAfterDeletion_35 rfl (lv_at hl 0 rfl) ?_
          refine mx_bi w (va_runS (As := [va_rf ((cf_trig f_0 (cf_tpar f_0 P1_0)).map fun k => ad (20 + k))]) (rest := []) X (ct_tcol l G A ad np M0 M f_0 (cf_trig f_0 (cf_tpar f_0 P1_0)) hM (OS.lt (by assumption) (OS.rig (by assumption) (OS.par (by assumption) (by assumption))))) (va_cwS 1 X.2.2.2.2 (lw_S q1313 q1314 q127 q1315) rfl rfl rfl (by decide +kernel) ⟨by rw [hRf]; decide, by rw [hRl]; decide⟩) (mx_preS w rfl) rfl rfl hl.1 rfl (lv_room (Nat.le_of_ble_eq_true rfl)) dJ20_fixAfterDeletion_36 ⟨Nat.zero_le _, Nat.zero_le _⟩) (fun r M9 H locs hp w => ?_)
          obtain ⟨rfl, eM⟩ := hp; subst M9
          have J71 : ∀ (P2_71 : Option Nat) (f_71 : tT) (M : mh) (H : Heap) (locs : List Loc) (ls : Array Slot), (hY71 : TY np mm f_71 ps S) → (hK71 : KV f f_71) → (hV71 : LV S ps f f_71) → (h71 : DS np mm f_71 ps S P1_0 P2_71 n_0) → lv_has ls 3 [(0, .ref (ad 0)), (1, va_rf (P1_0.map fun k => ad (20 + k))), (2, va_rf (P2_71.map fun k => ad (20 + k)))] → mW G A s M H locs → Tm G ad np M0 M f_71 → W p l e R s m av below meth c H locs 0 0 Q (F0 m 71 ls []) := by
            intro P2_71 f_71 M H locs ls hY71 hK71 hV71 h71 hl w hM
            have hO71 : OS S P2_71 := h71.os
            refine mx_aload_nQ hx hb dJ20_fixAfterDeletion_71 rfl (lv_at hl 2 rfl) ?_
            refine mx_bq w (va_runS (As := [va_rf (P2_71.map fun k => ad (20 + k))]) (rest := []) X (ct_tlef l G A ad np M0 M f_71 P2_71 hM (OS.lt (by assumption) (by assumption))) (va_cwS 1 X.2.2.2.2 (lw_S q1307 q1308 q127 q1309) rfl rfl rfl (by decide +kernel) ⟨by rw [hRf]; decide, by rw [hRl]; decide⟩) (mx_preS w rfl) rfl rfl hl.1 rfl (lv_room (Nat.le_of_ble_eq_true rfl)) dJ20_fixAfterDeletion_72 ⟨Nat.zero_le _, Nat.zero_le _⟩) (fun r M9 H locs hp w => ?_)
            obtain ⟨rfl, eM⟩ := hp; subst M9
            refine mx_bi w (va_runS (As := [va_rf ((cf_tlef f_71 P2_71).map fun k => ad (20 + k))]) (rest := []) X (ct_tcol l G A ad np M0 M f_71 (cf_tlef f_71 P2_71) hM (OS.lt (by assumption) (OS.lef (by assumption) (by assumption)))) (va_cwS 1 X.2.2.2.2 (lw_S q1313 q1314 q127 q1315) rfl rfl rfl (by decide +kernel) ⟨by rw [hRf]; decide, by rw [hRl]; decide⟩) (mx_preS w rfl) rfl rfl hl.1 rfl (lv_room (Nat.le_of_ble_eq_true rfl)) dJ20_fixAfterDeletion_75 ⟨Nat.zero_le _, Nat.zero_le _⟩) (fun r M9 H locs hp w => ?_)
            obtain ⟨rfl, eM⟩ := hp; subst M9
            refine lv_iconst (v := (1 : Int32)) hx hb dJ20_fixAfterDeletion_78 (by decide) ?_
            have J106 : ∀  (M : mh) (H : Heap) (locs : List Loc) (ls : Array Slot), (h106 : ¬ (bI (cf_tcol f_71 (cf_tlef f_71 P2_71)) = 1 ∧ bI (cf_tcol f_71 (cf_trig f_71 P2_71)) = 1)) → lv_has ls 3 [(0, .ref (ad 0)), (1, va_rf (P1_0.map fun k => ad (20 + k))), (2, va_rf (P2_71.map fun k => ad (20 + k)))] → mW G A s M H locs → Tm G ad np M0 M f_71 → W p l e R s m av below meth c H locs 0 0 Q (F0 m 106 ls []) := by
              intro  M H locs ls h106 hl w hM
              refine mx_aload_nQ hx hb dJ20_fixAfterDeletion_106 rfl (lv_at hl 2 rfl) ?_
              refine mx_bq w (va_runS (As := [va_rf (P2_71.map fun k => ad (20 + k))]) (rest := []) X (ct_trig l G A ad np M0 M f_71 P2_71 hM (OS.lt (by assumption) (by assumption))) (va_cwS 1 X.2.2.2.2 (lw_S q1310 q1311 q127 q1312) rfl rfl rfl (by decide +kernel) ⟨by rw [hRf]; decide, by rw [hRl]; decide⟩) (mx_preS w rfl) rfl rfl hl.1 rfl (lv_room (Nat.le_of_ble_eq_true rfl)) dJ20_fixAfterDeletion_107 ⟨Nat.zero_le _, Nat.zero_le _⟩) (fun r M9 H locs hp w => ?_)
              obtain ⟨rfl, eM⟩ := hp; subst M9
              refine mx_bi w (va_runS (As := [va_rf ((cf_trig f_71 P2_71).map fun k => ad (20 + k))]) (rest := []) X (ct_tcol l G A ad np M0 M f_71 (cf_trig f_71 P2_71) hM (OS.lt (by assumption) (OS.rig (by assumption) (by assumption)))) (va_cwS 1 X.2.2.2.2 (lw_S q1313 q1314 q127 q1315) rfl rfl rfl (by decide +kernel) ⟨by rw [hRf]; decide, by rw [hRl]; decide⟩) (mx_preS w rfl) rfl rfl hl.1 rfl (lv_room (Nat.le_of_ble_eq_true rfl)) dJ20_fixAfterDeletion_110 ⟨Nat.zero_le _, Nat.zero_le _⟩) (fun r M9 H locs hp w => ?_)
              obtain ⟨rfl, eM⟩ := hp; subst M9
              refine lv_iconst (v := (1 : Int32)) hx hb dJ20_fixAfterDeletion_113 (by decide) ?_
              have J143 : ∀ (P2_143 : Option Nat) (f_143 : tT) (M : mh) (H : Heap) (locs : List Loc) (ls : Array Slot), (hY143 : TY np mm f_143 ps S) → (hK143 : KV f f_143) → (hV143 : LV S ps f f_143) → (hO143 : OS S P2_143) → (h143 : DE f_143 S P1_0 P2_143 n_0) → lv_has ls 3 [(0, .ref (ad 0)), (1, va_rf (P1_0.map fun k => ad (20 + k))), (2, va_rf (P2_143.map fun k => ad (20 + k)))] → mW G A s M H locs → Tm G ad np M0 M f_143 → W p l e R s m av below meth c H locs 0 0 Q (F0 m 143 ls []) := by
                intro P2_143 f_143 M H locs ls hY143 hK143 hV143 hO143 h143 hl w hM
                refine mx_aload_nQ hx hb dJ20_fixAfterDeletion_143 rfl (lv_at hl 2 rfl) ?_
                refine mx_aload_nQ hx hb dJ20_fixAfterDeletion_144 rfl (lv_at hl 1 rfl) ?_
                refine mx_bq w (va_runS (As := [va_rf (P1_0.map fun k => ad (20 + k))]) (rest := [va_rf (P2_143.map fun k => ad (20 + k))]) X (ct_tpar l G A ad np M0 M f_143 P1_0 hM (OS.lt (by assumption) (by assumption))) (va_cwS 1 X.2.2.2.2 (lw_S q1304 q1305 q127 q1306) rfl rfl rfl (by decide +kernel) ⟨by rw [hRf]; decide, by rw [hRl]; decide⟩) (mx_preS w rfl) rfl rfl hl.1 rfl (lv_room (by simp only [List.map_cons, List.map_nil, va_rf_cat]; exact Nat.le_of_ble_eq_true rfl)) dJ20_fixAfterDeletion_145 ⟨Nat.zero_le _, Nat.zero_le _⟩) (fun r M9 H locs hp w => ?_)
                obtain ⟨rfl, eM⟩ := hp; subst M9
                refine mx_bi w (va_runS (As := [va_rf ((cf_tpar f_143 P1_0).map fun k => ad (20 + k))]) (rest := [va_rf (P2_143.map fun k => ad (20 + k))]) X (ct_tcol l G A ad np M0 M f_143 (cf_tpar f_143 P1_0) hM (OS.lt (by assumption) (OS.par (by assumption) (by assumption)))) (va_cwS 1 X.2.2.2.2 (lw_S q1313 q1314 q127 q1315) rfl rfl rfl (by decide +kernel) ⟨by rw [hRf]; decide, by rw [hRl]; decide⟩) (mx_preS w rfl) rfl rfl hl.1 rfl (lv_room (by simp only [List.map_cons, List.map_nil, va_rf_cat]; exact Nat.le_of_ble_eq_true rfl)) dJ20_fixAfterDeletion_148 ⟨Nat.zero_le _, Nat.zero_le _⟩) (fun r M9 H locs hp w => ?_)
                obtain ⟨rfl, eM⟩ := hp; subst M9
                refine mx_bv w (va_runS (As := [va_rf (P2_143.map fun k => ad (20 + k)), .int (bI (cf_tcol f_143 (cf_tpar f_143 P1_0)))]) (rest := []) X (ct_tset l G A ad np M0 f_143 P2_143 (cf_tcol f_143 (cf_tpar f_143 P1_0))  (OS.lt (by assumption) (by assumption))) (va_cwS 2 X.2.2.2.2 (lw_S q1316 q1317 q127 q1318) rfl rfl rfl (by decide +kernel) ⟨by rw [hRf]; decide, by rw [hRl]; decide⟩) (mx_preS w hM) rfl rfl hl.1 rfl (lv_room (Nat.le_of_ble_eq_true rfl)) dJ20_fixAfterDeletion_151 ⟨Nat.zero_le _, Nat.zero_le _⟩) (fun M H locs hM w => ?_)
                obtain ⟨f_151, ef_151⟩ : ∃ y, y = (cf_tset f_143 P2_143 (cf_tcol f_143 (cf_tpar f_143 P1_0))) := ⟨_, rfl⟩
                rw [← ef_151] at hM
                have hY151 : TY np mm f_151 ps S := by rw [ef_151]; exact TY.tset (by assumption) _ _
                have hK151 : KV f f_151 := by rw [ef_151]; exact KV.tset (by assumption)
                have hV151 : LV S ps f f_151 := by rw [ef_151]; exact LV.tset (by assumption)
                refine mx_aload_nQ hx hb dJ20_fixAfterDeletion_154 rfl (lv_at hl 1 rfl) ?_
                refine mx_bq w (va_runS (As := [va_rf (P1_0.map fun k => ad (20 + k))]) (rest := []) X (ct_tpar l G A ad np M0 M f_151 P1_0 hM (OS.lt (by assumption) (by assumption))) (va_cwS 1 X.2.2.2.2 (lw_S q1304 q1305 q127 q1306) rfl rfl rfl (by decide +kernel) ⟨by rw [hRf]; decide, by rw [hRl]; decide⟩) (mx_preS w rfl) rfl rfl hl.1 rfl (lv_room (Nat.le_of_ble_eq_true rfl)) dJ20_fixAfterDeletion_155 ⟨Nat.zero_le _, Nat.zero_le _⟩) (fun r M9 H locs hp w => ?_)
                obtain ⟨rfl, eM⟩ := hp; subst M9
                refine lv_iconst (v := (1 : Int32)) hx hb dJ20_fixAfterDeletion_158 (by decide) ?_
                refine mx_bv w (va_runS (As := [va_rf ((cf_tpar f_151 P1_0).map fun k => ad (20 + k)), .int (bI true)]) (rest := []) X (ct_tset l G A ad np M0 f_151 (cf_tpar f_151 P1_0) true  (OS.lt (by assumption) (OS.par (by assumption) (by assumption)))) (va_cwS 2 X.2.2.2.2 (lw_S q1316 q1317 q127 q1318) rfl rfl rfl (by decide +kernel) ⟨by rw [hRf]; decide, by rw [hRl]; decide⟩) (mx_preS w hM) rfl rfl hl.1 rfl (lv_room (Nat.le_of_ble_eq_true rfl)) dJ20_fixAfterDeletion_159 ⟨Nat.zero_le _, Nat.zero_le _⟩) (fun M H locs hM w => ?_)
                obtain ⟨f_159, ef_159⟩ : ∃ y, y = (cf_tset f_151 (cf_tpar f_151 P1_0) true) := ⟨_, rfl⟩
                rw [← ef_159] at hM
                have hY159 : TY np mm f_159 ps S := by rw [ef_159]; exact TY.tset (by assumption) _ _
                have hK159 : KV f f_159 := by rw [ef_159]; exact KV.tset (by assumption)
                have hV159 : LV S ps f f_159 := by rw [ef_159]; exact LV.tset (by assumption)
                refine mx_aload_nQ hx hb dJ20_fixAfterDeletion_162 rfl (lv_at hl 2 rfl) ?_
                refine mx_bq w (va_runS (As := [va_rf (P2_143.map fun k => ad (20 + k))]) (rest := []) X (ct_trig l G A ad np M0 M f_159 P2_143 hM (OS.lt (by assumption) (by assumption))) (va_cwS 1 X.2.2.2.2 (lw_S q1310 q1311 q127 q1312) rfl rfl rfl (by decide +kernel) ⟨by rw [hRf]; decide, by rw [hRl]; decide⟩) (mx_preS w rfl) rfl rfl hl.1 rfl (lv_room (Nat.le_of_ble_eq_true rfl)) dJ20_fixAfterDeletion_163 ⟨Nat.zero_le _, Nat.zero_le _⟩) (fun r M9 H locs hp w => ?_)
                obtain ⟨rfl, eM⟩ := hp; subst M9
                refine lv_iconst (v := (1 : Int32)) hx hb dJ20_fixAfterDeletion_166 (by decide) ?_
                refine mx_bv w (va_runS (As := [va_rf ((cf_trig f_159 P2_143).map fun k => ad (20 + k)), .int (bI true)]) (rest := []) X (ct_tset l G A ad np M0 f_159 (cf_trig f_159 P2_143) true  (OS.lt (by assumption) (OS.rig (by assumption) (by assumption)))) (va_cwS 2 X.2.2.2.2 (lw_S q1316 q1317 q127 q1318) rfl rfl rfl (by decide +kernel) ⟨by rw [hRf]; decide, by rw [hRl]; decide⟩) (mx_preS w hM) rfl rfl hl.1 rfl (lv_room (Nat.le_of_ble_eq_true rfl)) dJ20_fixAfterDeletion_167 ⟨Nat.zero_le _, Nat.zero_le _⟩) (fun M H locs hM w => ?_)
                obtain ⟨f_167, ef_167⟩ : ∃ y, y = (cf_tset f_159 (cf_trig f_159 P2_143) true) := ⟨_, rfl⟩
                rw [← ef_167] at hM
                have hY167 : TY np mm f_167 ps S := by rw [ef_167]; exact TY.tset (by assumption) _ _
                have hK167 : KV f f_167 := by rw [ef_167]; exact KV.tset (by assumption)
                have hV167 : LV S ps f f_167 := by rw [ef_167]; exact LV.tset (by assumption)
                refine lv_aload_n hx hb dJ20_fixAfterDeletion_170 rfl (lv_at hl 0 rfl) ?_
                refine mx_aload_nQ hx hb dJ20_fixAfterDeletion_171 rfl (lv_at hl 1 rfl) ?_
                refine mx_bq w (va_runS (As := [va_rf (P1_0.map fun k => ad (20 + k))]) (rest := [.ref (ad 0)]) X (ct_tpar l G A ad np M0 M f_167 P1_0 hM (OS.lt (by assumption) (by assumption))) (va_cwS 1 X.2.2.2.2 (lw_S q1304 q1305 q127 q1306) rfl rfl rfl (by decide +kernel) ⟨by rw [hRf]; decide, by rw [hRl]; decide⟩) (mx_preS w rfl) rfl rfl hl.1 rfl (lv_room (Nat.le_of_ble_eq_true rfl)) dJ20_fixAfterDeletion_172 ⟨Nat.zero_le _, Nat.zero_le _⟩) (fun r M9 H locs hp w => ?_)
                obtain ⟨rfl, eM⟩ := hp; subst M9
                refine mx_bv w (va_runV (As := [va_rf ((cf_tpar f_167 P1_0).map fun k => ad (20 + k))]) (rest := []) X (ct_rotLy l G A ad np M0 f_167 (cf_tpar f_167 P1_0) mm ps S (by assumption) (h143.hh ef_151 ef_159 ef_167)) (cwV 1 X.2.2.2.2 (lw_V q1319 q1321 qs18 q127 q1322) rfl rfl rfl (by decide +kernel) ⟨by rw [hRf]; decide, by rw [hRl]; decide⟩) (mx_preV w hM hM.st rfl) rfl rfl hl.1 rfl (lv_room (Nat.le_of_ble_eq_true rfl)) dJ20_fixAfterDeletion_175 ⟨Nat.zero_le _, Nat.zero_le _⟩) (fun M H locs hM w => ?_)
                obtain ⟨f_175, ef_175⟩ : ∃ y, y = (cf_rotL f_167 (cf_tpar f_167 P1_0)) := ⟨_, rfl⟩
                rw [← ef_175] at hM
                have hH175 := h143.hh ef_151 ef_159 ef_167
                have hY175 : TY np mm f_175 ps S := by rw [ef_175]; exact TY.rotL (by assumption) hH175
                have hK175 : KV f f_175 := by rw [ef_175]; exact KV.rotL (by assumption) hH175 (by assumption)
                have hV175 : LV S ps f f_175 := by rw [ef_175]; exact LV.rotL (by assumption) hH175 (by assumption)
                refine lv_aload_n hx hb dJ20_fixAfterDeletion_178 rfl (lv_at hl 0 rfl) ?_
                refine tm_root X w hM q927 dJ20_fixAfterDeletion_179 ?_
                have hD179 : DM np mm f_175 ps S (f_175 0 6) n_0 := DM.root hY175 hSi (by obtain ⟨_, _, _, _, _, _, _, h9⟩ := h143; exact h9)
                refine mx_astore_nQ (lv' := [(1, va_rf ((f_175 0 6).map fun k => ad (20 + k))), (0, .ref (ad 0)), (2, va_rf (P2_143.map fun k => ad (20 + k)))]) hx hb dJ20_fixAfterDeletion_182 rfl hl (by decide) (by first | rfl | (simp only [List.filter, va_rf_cat]; rfl)) (fun ls hl => ?_)
                refine lv_goto (tgt := 0) hx hb dJ20_fixAfterDeletion_183 (by decide) ?_
                exact ih_0 (f_175 0 6) f_175 M H locs ls (by first | omega | assumption) (by first | omega | assumption | exact by assumption) (by first | omega | assumption | exact by assumption) (by first | omega | assumption | exact hD99) (lv_sub hl [1, 0] rfl) w hM
              refine lv_icmp_ne (tgt := 143) hx hb dJ20_fixAfterDeletion_114 (by decide) (fun c_114 => ?_) (fun c_114 => ?_)
              · skip
                exact J143 P2_71 f_71 M H locs ls (by assumption) (by assumption) (by assumption) (by first | exact hO71 | exact OS.rig (by assumption) (OS.par (by assumption) hO0)) (by first | exact h71.e1 c_114 | exact h71.e2 ef_122 ef_127 hH132 hn114 ef_132) (lv_sub hl [0, 1, 2] rfl) w hM
              · skip
                have hn114 : ¬ P2_71 = none := fun q => h106 ⟨by rw [q]; rfl, c_114⟩
                refine mx_aload_nQ hx hb dJ20_fixAfterDeletion_117 rfl (lv_at hl 2 rfl) ?_
                refine mx_bq w (va_runS (As := [va_rf (P2_71.map fun k => ad (20 + k))]) (rest := []) X (ct_tlef l G A ad np M0 M f_71 P2_71 hM (OS.lt (by assumption) (by assumption))) (va_cwS 1 X.2.2.2.2 (lw_S q1307 q1308 q127 q1309) rfl rfl rfl (by decide +kernel) ⟨by rw [hRf]; decide, by rw [hRl]; decide⟩) (mx_preS w rfl) rfl rfl hl.1 rfl (lv_room (Nat.le_of_ble_eq_true rfl)) dJ20_fixAfterDeletion_118 ⟨Nat.zero_le _, Nat.zero_le _⟩) (fun r M9 H locs hp w => ?_)
                obtain ⟨rfl, eM⟩ := hp; subst M9
                refine lv_iconst (v := (1 : Int32)) hx hb dJ20_fixAfterDeletion_121 (by decide) ?_
                refine mx_bv w (va_runS (As := [va_rf ((cf_tlef f_71 P2_71).map fun k => ad (20 + k)), .int (bI true)]) (rest := []) X (ct_tset l G A ad np M0 f_71 (cf_tlef f_71 P2_71) true  (OS.lt (by assumption) (OS.lef (by assumption) (by assumption)))) (va_cwS 2 X.2.2.2.2 (lw_S q1316 q1317 q127 q1318) rfl rfl rfl (by decide +kernel) ⟨by rw [hRf]; decide, by rw [hRl]; decide⟩) (mx_preS w hM) rfl rfl hl.1 rfl (lv_room (Nat.le_of_ble_eq_true rfl)) dJ20_fixAfterDeletion_122 ⟨Nat.zero_le _, Nat.zero_le _⟩) (fun M H locs hM w => ?_)
                obtain ⟨f_122, ef_122⟩ : ∃ y, y = (cf_tset f_71 (cf_tlef f_71 P2_71) true) := ⟨_, rfl⟩
                rw [← ef_122] at hM
                have hY122 : TY np mm f_122 ps S := by rw [ef_122]; exact TY.tset (by assumption) _ _
                have hK122 : KV f f_122 := by rw [ef_122]; exact KV.tset (by assumption)
                have hV122 : LV S ps f f_122 := by rw [ef_122]; exact LV.tset (by assumption)
                refine mx_aload_nQ hx hb dJ20_fixAfterDeletion_125 rfl (lv_at hl 2 rfl) ?_
                refine lv_iconst (v := (0 : Int32)) hx hb dJ20_fixAfterDeletion_126 (by decide) ?_
                refine mx_bv w (va_runS (As := [va_rf (P2_71.map fun k => ad (20 + k)), .int (bI false)]) (rest := []) X (ct_tset l G A ad np M0 f_122 P2_71 false  (OS.lt (by assumption) (by assumption))) (va_cwS 2 X.2.2.2.2 (lw_S q1316 q1317 q127 q1318) rfl rfl rfl (by decide +kernel) ⟨by rw [hRf]; decide, by rw [hRl]; decide⟩) (mx_preS w hM) rfl rfl hl.1 rfl (lv_room (Nat.le_of_ble_eq_true rfl)) dJ20_fixAfterDeletion_127 ⟨Nat.zero_le _, Nat.zero_le _⟩) (fun M H locs hM w => ?_)
                obtain ⟨f_127, ef_127⟩ : ∃ y, y = (cf_tset f_122 P2_71 false) := ⟨_, rfl⟩
                rw [← ef_127] at hM
                have hY127 : TY np mm f_127 ps S := by rw [ef_127]; exact TY.tset (by assumption) _ _
                have hK127 : KV f f_127 := by rw [ef_127]; exact KV.tset (by assumption)
                have hV127 : LV S ps f f_127 := by rw [ef_127]; exact LV.tset (by assumption)
                refine lv_aload_n hx hb dJ20_fixAfterDeletion_130 rfl (lv_at hl 0 rfl) ?_
                refine mx_aload_nQ hx hb dJ20_fixAfterDeletion_131 rfl (lv_at hl 2 rfl) ?_
                refine mx_bv w (va_runV (As := [va_rf (P2_71.map fun k => ad (20 + k))]) (rest := []) X (ct_rotRy l G A ad np M0 f_127 P2_71 mm ps S (by assumption) (h71.h2 h106 c_114 ef_122 ef_127)) (cwV 1 X.2.2.2.2 (lw_V q1323 q1325 qs19 q127 q1326) rfl rfl rfl (by decide +kernel) ⟨by rw [hRf]; decide, by rw [hRl]; decide⟩) (mx_preV w hM hM.st rfl) rfl rfl hl.1 rfl (lv_room (Nat.le_of_ble_eq_true rfl)) dJ20_fixAfterDeletion_132 ⟨Nat.zero_le _, Nat.zero_le _⟩) (fun M H locs hM w => ?_)
                obtain ⟨f_132, ef_132⟩ : ∃ y, y = (cf_rotR f_127 P2_71) := ⟨_, rfl⟩
                rw [← ef_132] at hM
                have hH132 := h71.h2 h106 c_114 ef_122 ef_127
                have hY132 : TY np mm f_132 ps S := by rw [ef_132]; exact TY.rotR (by assumption) hH132
                have hK132 : KV f f_132 := by rw [ef_132]; exact KV.rotR (by assumption) hH132 (by assumption)
                have hV132 : LV S ps f f_132 := h71.v2 ef_122 ef_127 hH132 ef_132 hV127
                refine mx_aload_nQ hx hb dJ20_fixAfterDeletion_135 rfl (lv_at hl 1 rfl) ?_
                refine mx_bq w (va_runS (As := [va_rf (P1_0.map fun k => ad (20 + k))]) (rest := []) X (ct_tpar l G A ad np M0 M f_132 P1_0 hM (OS.lt (by assumption) (by assumption))) (va_cwS 1 X.2.2.2.2 (lw_S q1304 q1305 q127 q1306) rfl rfl rfl (by decide +kernel) ⟨by rw [hRf]; decide, by rw [hRl]; decide⟩) (mx_preS w rfl) rfl rfl hl.1 rfl (lv_room (Nat.le_of_ble_eq_true rfl)) dJ20_fixAfterDeletion_136 ⟨Nat.zero_le _, Nat.zero_le _⟩) (fun r M9 H locs hp w => ?_)
                obtain ⟨rfl, eM⟩ := hp; subst M9
                refine mx_bq w (va_runS (As := [va_rf ((cf_tpar f_132 P1_0).map fun k => ad (20 + k))]) (rest := []) X (ct_trig l G A ad np M0 M f_132 (cf_tpar f_132 P1_0) hM (OS.lt (by assumption) (OS.par (by assumption) (by assumption)))) (va_cwS 1 X.2.2.2.2 (lw_S q1310 q1311 q127 q1312) rfl rfl rfl (by decide +kernel) ⟨by rw [hRf]; decide, by rw [hRl]; decide⟩) (mx_preS w rfl) rfl rfl hl.1 rfl (lv_room (Nat.le_of_ble_eq_true rfl)) dJ20_fixAfterDeletion_139 ⟨Nat.zero_le _, Nat.zero_le _⟩) (fun r M9 H locs hp w => ?_)
                obtain ⟨rfl, eM⟩ := hp; subst M9
                refine mx_astore_nQ (lv' := [(2, va_rf ((cf_trig f_132 (cf_tpar f_132 P1_0)).map fun k => ad (20 + k))), (0, .ref (ad 0)), (1, va_rf (P1_0.map fun k => ad (20 + k)))]) hx hb dJ20_fixAfterDeletion_142 rfl hl (by decide) (by first | rfl | (simp only [List.filter, va_rf_cat]; rfl)) (fun ls hl => ?_)
                exact J143 (cf_trig f_132 (cf_tpar f_132 P1_0)) f_132 M H locs ls (by assumption) (by assumption) (by assumption) (by first | exact hO71 | exact OS.rig (by assumption) (OS.par (by assumption) hO0)) (by first | exact h71.e1 c_114 | exact h71.e2 ef_122 ef_127 hH132 hn114 ef_132) (lv_sub hl [1, 2, 0] rfl) w hM
            refine lv_icmp_ne (tgt := 106) hx hb dJ20_fixAfterDeletion_79 (by decide) (fun c_79 => ?_) (fun c_79 => ?_)
            · skip
              exact J106  M H locs ls (by first | exact (fun q => c_79 q.1) | exact (fun q => c_90 q.2)) (lv_sub hl [0, 1, 2] rfl) w hM
            · skip
              refine mx_aload_nQ hx hb dJ20_fixAfterDeletion_82 rfl (lv_at hl 2 rfl) ?_
              refine mx_bq w (va_runS (As := [va_rf (P2_71.map fun k => ad (20 + k))]) (rest := []) X (ct_trig l G A ad np M0 M f_71 P2_71 hM (OS.lt (by assumption) (by assumption))) (va_cwS 1 X.2.2.2.2 (lw_S q1310 q1311 q127 q1312) rfl rfl rfl (by decide +kernel) ⟨by rw [hRf]; decide, by rw [hRl]; decide⟩) (mx_preS w rfl) rfl rfl hl.1 rfl (lv_room (Nat.le_of_ble_eq_true rfl)) dJ20_fixAfterDeletion_83 ⟨Nat.zero_le _, Nat.zero_le _⟩) (fun r M9 H locs hp w => ?_)
              obtain ⟨rfl, eM⟩ := hp; subst M9
              refine mx_bi w (va_runS (As := [va_rf ((cf_trig f_71 P2_71).map fun k => ad (20 + k))]) (rest := []) X (ct_tcol l G A ad np M0 M f_71 (cf_trig f_71 P2_71) hM (OS.lt (by assumption) (OS.rig (by assumption) (by assumption)))) (va_cwS 1 X.2.2.2.2 (lw_S q1313 q1314 q127 q1315) rfl rfl rfl (by decide +kernel) ⟨by rw [hRf]; decide, by rw [hRl]; decide⟩) (mx_preS w rfl) rfl rfl hl.1 rfl (lv_room (Nat.le_of_ble_eq_true rfl)) dJ20_fixAfterDeletion_86 ⟨Nat.zero_le _, Nat.zero_le _⟩) (fun r M9 H locs hp w => ?_)
              obtain ⟨rfl, eM⟩ := hp; subst M9
              refine lv_iconst (v := (1 : Int32)) hx hb dJ20_fixAfterDeletion_89 (by decide) ?_
              refine lv_icmp_ne (tgt := 106) hx hb dJ20_fixAfterDeletion_90 (by decide) (fun c_90 => ?_) (fun c_90 => ?_)
              · skip
                exact J106  M H locs ls (by first | exact (fun q => c_79 q.1) | exact (fun q => c_90 q.2)) (lv_sub hl [0, 1, 2] rfl) w hM
              · skip
                refine mx_aload_nQ hx hb dJ20_fixAfterDeletion_93 rfl (lv_at hl 2 rfl) ?_
                refine lv_iconst (v := (0 : Int32)) hx hb dJ20_fixAfterDeletion_94 (by decide) ?_
                refine mx_bv w (va_runS (As := [va_rf (P2_71.map fun k => ad (20 + k)), .int (bI false)]) (rest := []) X (ct_tset l G A ad np M0 f_71 P2_71 false  (OS.lt (by assumption) (by assumption))) (va_cwS 2 X.2.2.2.2 (lw_S q1316 q1317 q127 q1318) rfl rfl rfl (by decide +kernel) ⟨by rw [hRf]; decide, by rw [hRl]; decide⟩) (mx_preS w hM) rfl rfl hl.1 rfl (lv_room (Nat.le_of_ble_eq_true rfl)) dJ20_fixAfterDeletion_95 ⟨Nat.zero_le _, Nat.zero_le _⟩) (fun M H locs hM w => ?_)
                obtain ⟨f_95, ef_95⟩ : ∃ y, y = (cf_tset f_71 P2_71 false) := ⟨_, rfl⟩
                rw [← ef_95] at hM
                have hY95 : TY np mm f_95 ps S := by rw [ef_95]; exact TY.tset (by assumption) _ _
                have hK95 : KV f f_95 := by rw [ef_95]; exact KV.tset (by assumption)
                have hV95 : LV S ps f f_95 := by rw [ef_95]; exact LV.tset (by assumption)
                refine mx_aload_nQ hx hb dJ20_fixAfterDeletion_98 rfl (lv_at hl 1 rfl) ?_
                refine mx_bq w (va_runS (As := [va_rf (P1_0.map fun k => ad (20 + k))]) (rest := []) X (ct_tpar l G A ad np M0 M f_95 P1_0 hM (OS.lt (by assumption) (by assumption))) (va_cwS 1 X.2.2.2.2 (lw_S q1304 q1305 q127 q1306) rfl rfl rfl (by decide +kernel) ⟨by rw [hRf]; decide, by rw [hRl]; decide⟩) (mx_preS w rfl) rfl rfl hl.1 rfl (lv_room (Nat.le_of_ble_eq_true rfl)) dJ20_fixAfterDeletion_99 ⟨Nat.zero_le _, Nat.zero_le _⟩) (fun r M9 H locs hp w => ?_)
                obtain ⟨rfl, eM⟩ := hp; subst M9
                have hD99 : DM np mm f_95 ps S (cf_tpar f_95 P1_0) n_0 := h71.up ef_95
                refine mx_astore_nQ (lv' := [(1, va_rf ((cf_tpar f_95 P1_0).map fun k => ad (20 + k))), (0, .ref (ad 0)), (2, va_rf (P2_71.map fun k => ad (20 + k)))]) hx hb dJ20_fixAfterDeletion_102 rfl hl (by decide) (by first | rfl | (simp only [List.filter, va_rf_cat]; rfl)) (fun ls hl => ?_)
                refine lv_goto (tgt := 183) hx hb dJ20_fixAfterDeletion_103 (by decide) ?_
                refine lv_goto (tgt := 0) hx hb dJ20_fixAfterDeletion_183 (by decide) ?_
                exact ih_0 (cf_tpar f_95 P1_0) f_95 M H locs ls (by first | omega | assumption) (by first | omega | assumption | exact by assumption) (by first | omega | assumption | exact by assumption) (by first | omega | assumption | exact hD99) (lv_sub hl [1, 0] rfl) w hM
          refine mx_bne (tgt := 71) hx hb dJ20_fixAfterDeletion_39 (by decide) (fun c_39 => ?_) (fun c_39 => ?_)
          · skip
            exact J71 (cf_trig f_0 (cf_tpar f_0 P1_0)) f_0 M H locs ls (by assumption) (by assumption) (by assumption) (by first | exact h13 | exact h13.red c_39 ef_44 ef_52 ef_60) (lv_sub hl [1, 2, 0] rfl) w hM
          · skip
            refine mx_aload_nQ hx hb dJ20_fixAfterDeletion_42 rfl (lv_at hl 0 rfl) ?_
            refine lv_iconst (v := (1 : Int32)) hx hb dJ20_fixAfterDeletion_43 (by decide) ?_
            refine mx_bv w (va_runS (As := [va_rf ((cf_trig f_0 (cf_tpar f_0 P1_0)).map fun k => ad (20 + k)), .int (bI true)]) (rest := []) X (ct_tset l G A ad np M0 f_0 (cf_trig f_0 (cf_tpar f_0 P1_0)) true  (OS.lt (by assumption) (OS.rig (by assumption) (OS.par (by assumption) (by assumption))))) (va_cwS 2 X.2.2.2.2 (lw_S q1316 q1317 q127 q1318) rfl rfl rfl (by decide +kernel) ⟨by rw [hRf]; decide, by rw [hRl]; decide⟩) (mx_preS w hM) rfl rfl hl.1 rfl (lv_room (Nat.le_of_ble_eq_true rfl)) dJ20_fixAfterDeletion_44 ⟨Nat.zero_le _, Nat.zero_le _⟩) (fun M H locs hM w => ?_)
            obtain ⟨f_44, ef_44⟩ : ∃ y, y = (cf_tset f_0 (cf_trig f_0 (cf_tpar f_0 P1_0)) true) := ⟨_, rfl⟩
            rw [← ef_44] at hM
            have hY44 : TY np mm f_44 ps S := by rw [ef_44]; exact TY.tset (by assumption) _ _
            have hK44 : KV f f_44 := by rw [ef_44]; exact KV.tset (by assumption)
            have hV44 : LV S ps f f_44 := by rw [ef_44]; exact LV.tset (by assumption)
            refine mx_aload_nQ hx hb dJ20_fixAfterDeletion_47 rfl (lv_at hl 2 rfl) ?_
            refine mx_bq w (va_runS (As := [va_rf (P1_0.map fun k => ad (20 + k))]) (rest := []) X (ct_tpar l G A ad np M0 M f_44 P1_0 hM (OS.lt (by assumption) (by assumption))) (va_cwS 1 X.2.2.2.2 (lw_S q1304 q1305 q127 q1306) rfl rfl rfl (by decide +kernel) ⟨by rw [hRf]; decide, by rw [hRl]; decide⟩) (mx_preS w rfl) rfl rfl hl.1 rfl (lv_room (Nat.le_of_ble_eq_true rfl)) dJ20_fixAfterDeletion_48 ⟨Nat.zero_le _, Nat.zero_le _⟩) (fun r M9 H locs hp w => ?_)
            obtain ⟨rfl, eM⟩ := hp; subst M9
            refine lv_iconst (v := (0 : Int32)) hx hb dJ20_fixAfterDeletion_51 (by decide) ?_
            refine mx_bv w (va_runS (As := [va_rf ((cf_tpar f_44 P1_0).map fun k => ad (20 + k)), .int (bI false)]) (rest := []) X (ct_tset l G A ad np M0 f_44 (cf_tpar f_44 P1_0) false  (OS.lt (by assumption) (OS.par (by assumption) (by assumption)))) (va_cwS 2 X.2.2.2.2 (lw_S q1316 q1317 q127 q1318) rfl rfl rfl (by decide +kernel) ⟨by rw [hRf]; decide, by rw [hRl]; decide⟩) (mx_preS w hM) rfl rfl hl.1 rfl (lv_room (Nat.le_of_ble_eq_true rfl)) dJ20_fixAfterDeletion_52 ⟨Nat.zero_le _, Nat.zero_le _⟩) (fun M H locs hM w => ?_)
            obtain ⟨f_52, ef_52⟩ : ∃ y, y = (cf_tset f_44 (cf_tpar f_44 P1_0) false) := ⟨_, rfl⟩
            rw [← ef_52] at hM
            have hY52 : TY np mm f_52 ps S := by rw [ef_52]; exact TY.tset (by assumption) _ _
            have hK52 : KV f f_52 := by rw [ef_52]; exact KV.tset (by assumption)
            have hV52 : LV S ps f f_52 := by rw [ef_52]; exact LV.tset (by assumption)
            refine lv_aload_n hx hb dJ20_fixAfterDeletion_55 rfl (lv_at hl 1 rfl) ?_
            refine mx_aload_nQ hx hb dJ20_fixAfterDeletion_56 rfl (lv_at hl 2 rfl) ?_
            refine mx_bq w (va_runS (As := [va_rf (P1_0.map fun k => ad (20 + k))]) (rest := [.ref (ad 0)]) X (ct_tpar l G A ad np M0 M f_52 P1_0 hM (OS.lt (by assumption) (by assumption))) (va_cwS 1 X.2.2.2.2 (lw_S q1304 q1305 q127 q1306) rfl rfl rfl (by decide +kernel) ⟨by rw [hRf]; decide, by rw [hRl]; decide⟩) (mx_preS w rfl) rfl rfl hl.1 rfl (lv_room (Nat.le_of_ble_eq_true rfl)) dJ20_fixAfterDeletion_57 ⟨Nat.zero_le _, Nat.zero_le _⟩) (fun r M9 H locs hp w => ?_)
            obtain ⟨rfl, eM⟩ := hp; subst M9
            refine mx_bv w (va_runV (As := [va_rf ((cf_tpar f_52 P1_0).map fun k => ad (20 + k))]) (rest := []) X (ct_rotLy l G A ad np M0 f_52 (cf_tpar f_52 P1_0) mm ps S (by assumption) (h13.hh c_39 ef_44 ef_52)) (cwV 1 X.2.2.2.2 (lw_V q1319 q1321 qs18 q127 q1322) rfl rfl rfl (by decide +kernel) ⟨by rw [hRf]; decide, by rw [hRl]; decide⟩) (mx_preV w hM hM.st rfl) rfl rfl hl.1 rfl (lv_room (Nat.le_of_ble_eq_true rfl)) dJ20_fixAfterDeletion_60 ⟨Nat.zero_le _, Nat.zero_le _⟩) (fun M H locs hM w => ?_)
            obtain ⟨f_60, ef_60⟩ : ∃ y, y = (cf_rotL f_52 (cf_tpar f_52 P1_0)) := ⟨_, rfl⟩
            rw [← ef_60] at hM
            have hH60 := h13.hh c_39 ef_44 ef_52
            have hY60 : TY np mm f_60 ps S := by rw [ef_60]; exact TY.rotL (by assumption) hH60
            have hK60 : KV f f_60 := by rw [ef_60]; exact KV.rotL (by assumption) hH60 (by assumption)
            have hV60 : LV S ps f f_60 := by rw [ef_60]; exact LV.rotL (by assumption) hH60 (by assumption)
            refine mx_aload_nQ hx hb dJ20_fixAfterDeletion_63 rfl (lv_at hl 2 rfl) ?_
            refine mx_bq w (va_runS (As := [va_rf (P1_0.map fun k => ad (20 + k))]) (rest := []) X (ct_tpar l G A ad np M0 M f_60 P1_0 hM (OS.lt (by assumption) (by assumption))) (va_cwS 1 X.2.2.2.2 (lw_S q1304 q1305 q127 q1306) rfl rfl rfl (by decide +kernel) ⟨by rw [hRf]; decide, by rw [hRl]; decide⟩) (mx_preS w rfl) rfl rfl hl.1 rfl (lv_room (Nat.le_of_ble_eq_true rfl)) dJ20_fixAfterDeletion_64 ⟨Nat.zero_le _, Nat.zero_le _⟩) (fun r M9 H locs hp w => ?_)
            obtain ⟨rfl, eM⟩ := hp; subst M9
            refine mx_bq w (va_runS (As := [va_rf ((cf_tpar f_60 P1_0).map fun k => ad (20 + k))]) (rest := []) X (ct_trig l G A ad np M0 M f_60 (cf_tpar f_60 P1_0) hM (OS.lt (by assumption) (OS.par (by assumption) (by assumption)))) (va_cwS 1 X.2.2.2.2 (lw_S q1310 q1311 q127 q1312) rfl rfl rfl (by decide +kernel) ⟨by rw [hRf]; decide, by rw [hRl]; decide⟩) (mx_preS w rfl) rfl rfl hl.1 rfl (lv_room (Nat.le_of_ble_eq_true rfl)) dJ20_fixAfterDeletion_67 ⟨Nat.zero_le _, Nat.zero_le _⟩) (fun r M9 H locs hp w => ?_)
            obtain ⟨rfl, eM⟩ := hp; subst M9
            refine mx_astore_nQ (lv' := [(2, va_rf ((cf_trig f_60 (cf_tpar f_60 P1_0)).map fun k => ad (20 + k))), (0, .ref (ad 0)), (1, va_rf (P1_0.map fun k => ad (20 + k)))]) hx hb dJ20_fixAfterDeletion_70 rfl hl (by decide) (by first | rfl | (simp only [List.filter, va_rf_cat]; rfl)) (fun ls hl => ?_)
            exact J71 (cf_trig f_60 (cf_tpar f_60 P1_0)) f_60 M H locs ls (by assumption) (by assumption) (by assumption) (by first | exact h13 | exact h13.red c_39 ef_44 ef_52 ef_60) (lv_sub hl [1, 2, 0] rfl) w hM
  exact L0 (mm + 3) (some kx) f M H locs ls (by first | omega | assumption) (by first | omega | assumption | exact KV.rf) (by first | omega | assumption | exact LV.rf) (by first | omega | assumption | exact hDi) (lv_sub hl [0, 1] rfl) w hM
