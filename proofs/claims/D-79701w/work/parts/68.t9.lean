set_option maxRecDepth 100000
/-! T9: an entry taken out -/
set_option maxHeartbeats 4000000 in
set_option maxRecDepth 100000 in
theorem ct_delE (l : Launch) (G : mg) (A : Nat → Prop) (ad : Nat → Nat) (np : Nat) (M0 : mh) (f : tT) (kp : Nat) (mm : Nat) (lo hi ps : Nat → Nat) (S : Nat → Prop) (hXi : TX np mm f lo hi ps S) (hSi : S kp) (hl0 : f kp 0 = none) (h1 : ps kp = 1) : Met l yJ20_deleteEntry (ws_ yJ20_deleteEntry cJ20_deleteEntry 3 (none)) ({ frames := 2, cells := 0, slots := 0, locals := 44 }) (va_Pc [.ref (ad 0), .ref (ad (20 + kp))] (mU G A (fun M => Tm G ad np M0 M f))) (mQv G A (fun M => ∃ g, Tm G ad np M0 M g ∧ TY np (mm - 1) g (fun k => ps k - 1) (fun k => S k ∧ k ≠ kp) ∧ KV f g)) 0 0 A := by
  refine mx_ofv (by decide) (Nat.le_of_ble_eq_true rfl) ?_
  intro p e R s m av below meth c M H Q ls X hRf hRl hRc hRs hin hM w fin hl
  have X : CallFix p m c cJ20_deleteEntry 3 s av lw_all "java/util/TreeMap" := X
  have hx := X.1
  have hb := X.2.1
  have hl : lv_has ls 3 [(0, .ref (ad 0)), (1, .ref (ad (20 + kp)))] := hl
  have hRf : R.frames = 2 := hRf
  have hRl : R.locals = 44 := hRl
  have hRc : R.cells = 0 := hRc
  have hRs : R.slots = 0 := hRs
  generalize ([] : List Loc) = locs at w ⊢
  obtain ⟨hlo, hlg, hlr⟩ := hXi.lm hSi h1
  have hkp := hXi.y.lt hSi
  refine lv_aload_n hx hb dJ20_deleteEntry_0 rfl (lv_at hl 0 rfl) ?_
  refine lv_dup hx hb dJ20_deleteEntry_1 rfl ?_
  refine tm_size X w hM 5 (by decide) q929 dJ20_deleteEntry_2 (fun x_2 => ?_)
  refine lv_iconst (v := (1 : Int32)) hx hb dJ20_deleteEntry_5 (by decide) ?_
  refine lv_iadd hx hb dJ20_deleteEntry_6 ?_
  refine tm_putI X w hM 5 (by decide) q929 dJ20_deleteEntry_7 (fun M H locs w hM => ?_)
  refine lv_aload_n hx hb dJ20_deleteEntry_10 rfl (lv_at hl 0 rfl) ?_
  refine lv_dup hx hb dJ20_deleteEntry_11 rfl ?_
  refine tm_size X w hM 4 (by decide) q928 dJ20_deleteEntry_12 (fun x_12 => ?_)
  refine lv_iconst (v := (1 : Int32)) hx hb dJ20_deleteEntry_15 (by decide) ?_
  refine lv_isub hx hb dJ20_deleteEntry_16 ?_
  refine tm_putI X w hM 4 (by decide) q928 dJ20_deleteEntry_17 (fun M H locs w hM => ?_)
  refine lv_aload_n hx hb dJ20_deleteEntry_20 rfl (lv_at hl 1 rfl) ?_
  refine tm_get (v := va_rf ((f kp 0).map fun k => ad (20 + k))) X w hM (k := kp) (by first | omega | assumption) 2 (by decide) q1277 rfl dJ20_deleteEntry_21 ?_
  refine mx_ifnullP (tgt := 57) hx hb dJ20_deleteEntry_24 (by decide) (fun c_24 => ?_) (fun c_24 => absurd (hl0) c_24)
  refine lv_aload_n hx hb dJ20_deleteEntry_57 rfl (lv_at hl 1 rfl) ?_
  refine tm_get (v := va_rf ((f kp 0).map fun k => ad (20 + k))) X w hM (k := kp) (by first | omega | assumption) 2 (by decide) q1277 rfl dJ20_deleteEntry_58 ?_
  refine mx_ifnullP (tgt := 71) hx hb dJ20_deleteEntry_61 (by decide) (fun c_61 => ?_) (fun c_61 => absurd (hl0) c_61)
  refine lv_aload_n hx hb dJ20_deleteEntry_71 rfl (lv_at hl 1 rfl) ?_
  refine tm_get (v := va_rf ((f kp 1).map fun k => ad (20 + k))) X w hM (k := kp) (by first | omega | assumption) 3 (by decide) q1278 rfl dJ20_deleteEntry_72 ?_
  refine mx_astore_nQ (lv' := [(2, va_rf ((f kp 1).map fun k => ad (20 + k))), (0, .ref (ad 0)), (1, .ref (ad (20 + kp)))]) hx hb dJ20_deleteEntry_75 rfl hl (by decide) (by first | rfl | (simp only [List.filter, va_rf_cat]; rfl)) (fun ls hl => ?_)
  refine mx_aload_nQ hx hb dJ20_deleteEntry_76 rfl (lv_at hl 0 rfl) ?_
  refine mx_ifnullP (tgt := 164) hx hb dJ20_deleteEntry_77 (by decide) (fun c_77 => ?_) (fun c_77 => ?_)
  · skip
    refine lv_aload_n hx hb dJ20_deleteEntry_164 rfl (lv_at hl 2 rfl) ?_
    refine tm_get (v := va_rf ((f kp 2).map fun k => ad (20 + k))) X w hM (k := kp) (by first | omega | assumption) 4 (by decide) q1280 rfl dJ20_deleteEntry_165 ?_
    refine mx_ifnonnullP (tgt := 179) hx hb dJ20_deleteEntry_168 (by decide) (fun c_168 => ?_) (fun c_168 => ?_)
    · skip
      have eo_168 : va_rf ((f kp 2).map fun k => ad (20 + k)) = .ref (ad (20 + ((f kp 2).getD 0))) := P_ref c_168
      refine lv_aload_n hx hb dJ20_deleteEntry_179 rfl (lv_at hl 2 rfl) ?_
      refine tm_get (v := .int (bI ((f kp 3).isSome))) X w hM (k := kp) (by first | omega | assumption) 5 (by decide) q1282 rfl dJ20_deleteEntry_180 ?_
      refine lv_iconst (v := (1 : Int32)) hx hb dJ20_deleteEntry_183 (by decide) ?_
      have J192 : ∀ (f_192 : tT) (M : mh) (H : Heap) (locs : List Loc) (ls : Array Slot), (h192 : TY np mm f_192 ps S ∧ KV f f_192 ∧ f_192 kp 0 = none ∧ f_192 kp 1 = none) → lv_has ls 3 [(1, .ref (ad (20 + kp)))] → mW G A s M H locs → Tm G ad np M0 M f_192 → W p l e R s m av below meth c H locs 0 0 Q (F0 m 192 ls []) := by
        intro f_192 M H locs ls h192 hl w hM
        have hu192 : ¬ f_192 kp 2 = none := h192.1.nroot hSi (hlg _ (P_some c_168)).1 (hlg _ (P_some c_168)).2.2 h1 h192.2.2.2
        have h199 := h192.1.gl hSi h1 hu192
        have hk199 : (f_192 kp 2).getD 0 < np := h192.1.lt h199.1
        refine lv_aload_n hx hb dJ20_deleteEntry_192 rfl (lv_at hl 0 rfl) ?_
        refine tm_get (v := va_rf ((f_192 kp 2).map fun k => ad (20 + k))) X w hM (k := kp) (by first | omega | assumption) 4 (by decide) q1280 rfl dJ20_deleteEntry_193 ?_
        have eo_193 : va_rf ((f_192 kp 2).map fun k => ad (20 + k)) = .ref (ad (20 + ((f_192 kp 2).getD 0))) := P_ref (hu192)
        rw [eo_193]
        refine lv_ifnull hx hb dJ20_deleteEntry_196 ?_
        refine lv_aload_n hx hb dJ20_deleteEntry_199 rfl (lv_at hl 0 rfl) ?_
        refine lv_aload_n hx hb dJ20_deleteEntry_200 rfl (lv_at hl 0 rfl) ?_
        refine tm_get (v := va_rf ((f_192 kp 2).map fun k => ad (20 + k))) X w hM (k := kp) (by first | omega | assumption) 4 (by decide) q1280 rfl dJ20_deleteEntry_201 ?_
        rw [eo_193]
        refine tm_get (v := va_rf ((f_192 ((f_192 kp 2).getD 0) 0).map fun k => ad (20 + k))) X w hM (k := ((f_192 kp 2).getD 0)) (by first | omega | assumption) 2 (by decide) q1277 rfl dJ20_deleteEntry_204 ?_
        refine tm_acmp_ne hM (rx := some kp) (ry := (f_192 ((f_192 kp 2).getD 0) 0)) (tgt := 221) hx hb dJ20_deleteEntry_207 (by decide) (fun c_207 => absurd (h199.2.symm) c_207) (fun c_207 => ?_)
        refine lv_aload_n hx hb dJ20_deleteEntry_210 rfl (lv_at hl 0 rfl) ?_
        refine tm_get (v := va_rf ((f_192 kp 2).map fun k => ad (20 + k))) X w hM (k := kp) (by first | omega | assumption) 4 (by decide) q1280 rfl dJ20_deleteEntry_211 ?_
        rw [eo_193]
        refine lv_null hx hb dJ20_deleteEntry_214 ?_
        refine tm_putL (o := none) X w hM (k := ((f_192 kp 2).getD 0)) (by first | omega | assumption) 0 (by decide) q1277 dJ20_deleteEntry_215 (fun M H locs w hM => ?_)
        refine lv_goto (tgt := 240) hx hb dJ20_deleteEntry_218 (by decide) ?_
        refine lv_aload_n hx hb dJ20_deleteEntry_240 rfl (lv_at hl 0 rfl) ?_
        refine lv_null hx hb dJ20_deleteEntry_241 ?_
        refine tm_putL (o := none) X w hM (k := kp) (by first | omega | assumption) 2 (by decide) q1280 dJ20_deleteEntry_242 (fun M H locs w hM => ?_)
        exact fin M H locs ls 245 dJ20_deleteEntry_245 ⟨(t2 (t2 f_192 ((f_192 kp 2).getD 0) 0 none) kp 2 none), hM, by first | exact ⟨hp_158.1, KV.tr hK148 hp_158.2.1⟩ | exact ⟨hX148.y, hK148⟩ | exact ⟨delC h192.1 hSi h192.2.2.1 h1 h192.2.2.2 hu192 rfl, KV.t2 (by decide) (KV.t2 (by decide) h192.2.1)⟩ | exact ⟨delN hXi hSi hl0 h1 c_77 c_168 rfl, KV.t2 (by decide) KV.rf⟩⟩ w
      refine lv_icmp_ne (tgt := 192) hx hb dJ20_deleteEntry_184 (by decide) (fun c_184 => ?_) (fun c_184 => ?_)
      · skip
        exact J192 f M H locs ls (by first | exact ⟨hXi.y, KV.rf, hl0, c_77⟩ | exact ⟨hp_189.1, hp_189.2.1, hp_189.2.2 kp hSi h1 hl0 c_77⟩) (lv_sub hl [2] rfl) w hM
      · skip
        refine lv_aload_n hx hb dJ20_deleteEntry_187 rfl (lv_at hl 1 rfl) ?_
        refine lv_aload_n hx hb dJ20_deleteEntry_188 rfl (lv_at hl 2 rfl) ?_
        refine mx_bv w (va_runV (As := [.ref (ad (20 + kp))]) (rest := []) X (ct_fixDel l G A ad np M0 f kp mm ps S (hXi.y) (hSi) (DM.init hXi hSi hlo)) (cwV 1 X.2.2.2.2 (lw_V q1394 q1396 qs21 q127 q1397) rfl rfl rfl (by decide +kernel) ⟨by rw [hRf]; decide, by rw [hRl]; decide⟩) (mx_preV w hM hM.st rfl) rfl rfl hl.1 rfl (lv_room (Nat.le_of_ble_eq_true rfl)) dJ20_deleteEntry_189 ⟨Nat.zero_le _, Nat.zero_le _⟩) (fun M H locs hp w => ?_)
        obtain ⟨f_189, hM, hp_189⟩ := hp
        exact J192 f_189 M H locs ls (by first | exact ⟨hXi.y, KV.rf, hl0, c_77⟩ | exact ⟨hp_189.1, hp_189.2.1, hp_189.2.2 kp hSi h1 hl0 c_77⟩) (lv_sub hl [2] rfl) w hM
    · skip
      refine lv_aload_n hx hb dJ20_deleteEntry_171 rfl (lv_at hl 1 rfl) ?_
      refine lv_null hx hb dJ20_deleteEntry_172 ?_
      refine tm_putR (o := none) X w hM q927 dJ20_deleteEntry_173 (fun M H locs w hM => ?_)
      refine lv_goto (tgt := 245) hx hb dJ20_deleteEntry_176 (by decide) ?_
      exact fin M H locs ls 245 dJ20_deleteEntry_245 ⟨(t2 f 0 6 none), hM, by first | exact ⟨hp_158.1, KV.tr hK148 hp_158.2.1⟩ | exact ⟨hX148.y, hK148⟩ | exact ⟨delC h192.1 hSi h192.2.2.1 h1 h192.2.2.2 hu192 rfl, KV.t2 (by decide) (KV.t2 (by decide) h192.2.1)⟩ | exact ⟨delN hXi hSi hl0 h1 c_77 c_168 rfl, KV.t2 (by decide) KV.rf⟩⟩ w
  · skip
    have eo_77 : va_rf ((f kp 1).map fun k => ad (20 + k)) = .ref (ad (20 + ((f kp 1).getD 0))) := P_ref c_77
    obtain ⟨hr1, hr2, hr3, hr4⟩ := hlr _ (P_some c_77)
    have hkr : ((f kp 1).getD 0) < np := hXi.y.lt hr1
    have hnr : kp ≠ ((f kp 1).getD 0) := Ne.symm hr3
    refine mx_aload_nQ hx hb dJ20_deleteEntry_80 rfl (lv_at hl 0 rfl) ?_
    rw [eo_77]
    refine lv_aload_n hx hb dJ20_deleteEntry_81 rfl (lv_at hl 2 rfl) ?_
    refine tm_get (v := va_rf ((f kp 2).map fun k => ad (20 + k))) X w hM (k := kp) (by first | omega | assumption) 4 (by decide) q1280 rfl dJ20_deleteEntry_82 ?_
    refine tm_putL (o := (f kp 2)) X w hM (k := ((f kp 1).getD 0)) (by first | omega | assumption) 2 (by decide) q1280 dJ20_deleteEntry_85 (fun M H locs w hM => ?_)
    refine lv_aload_n hx hb dJ20_deleteEntry_88 rfl (lv_at hl 2 rfl) ?_
    refine tm_get (v := va_rf (((t2 f ((f kp 1).getD 0) 2 (f kp 2)) kp 2).map fun k => ad (20 + k))) X w hM (k := kp) (by first | omega | assumption) 4 (by decide) q1280 rfl dJ20_deleteEntry_89 ?_
    rw [show ((t2 f ((f kp 1).getD 0) 2 (f kp 2)) kp 2) = (f kp 2) from by rw [t2_k (show kp ≠ ((f kp 1).getD 0) by first | assumption | exact Ne.symm (by assumption))]]
    refine mx_ifnonnullP (tgt := 103) hx hb dJ20_deleteEntry_92 (by decide) (fun c_92 => ?_) (fun c_92 => ?_)
    · skip
      have eo_92 : va_rf ((f kp 2).map fun k => ad (20 + k)) = .ref (ad (20 + ((f kp 2).getD 0))) := P_ref c_92
      have hkg : ((f kp 2).getD 0) < np := hXi.y.lt (hlg _ (P_some c_92)).1
      refine lv_aload_n hx hb dJ20_deleteEntry_103 rfl (lv_at hl 2 rfl) ?_
      refine lv_aload_n hx hb dJ20_deleteEntry_104 rfl (lv_at hl 2 rfl) ?_
      refine tm_get (v := va_rf (((t2 f ((f kp 1).getD 0) 2 (f kp 2)) kp 2).map fun k => ad (20 + k))) X w hM (k := kp) (by first | omega | assumption) 4 (by decide) q1280 rfl dJ20_deleteEntry_105 ?_
      rw [show ((t2 f ((f kp 1).getD 0) 2 (f kp 2)) kp 2) = (f kp 2) from by rw [t2_k (show kp ≠ ((f kp 1).getD 0) by first | assumption | exact Ne.symm (by assumption))]]
      rw [eo_92]
      refine tm_get (v := va_rf (((t2 f ((f kp 1).getD 0) 2 (f kp 2)) ((f kp 2).getD 0) 0).map fun k => ad (20 + k))) X w hM (k := ((f kp 2).getD 0)) (by first | omega | assumption) 2 (by decide) q1277 rfl dJ20_deleteEntry_108 ?_
      rw [show ((t2 f ((f kp 1).getD 0) 2 (f kp 2)) ((f kp 2).getD 0) 0) = (f ((f kp 2).getD 0) 0) from by rw [t2_j (by decide)]]
      refine tm_acmp_ne hM (rx := some kp) (ry := (f ((f kp 2).getD 0) 0)) (tgt := 125) hx hb dJ20_deleteEntry_111 (by decide) (fun c_111 => absurd ((hlg _ (P_some c_92)).2.1.symm) c_111) (fun c_111 => ?_)
      refine lv_aload_n hx hb dJ20_deleteEntry_114 rfl (lv_at hl 2 rfl) ?_
      refine tm_get (v := va_rf (((t2 f ((f kp 1).getD 0) 2 (f kp 2)) kp 2).map fun k => ad (20 + k))) X w hM (k := kp) (by first | omega | assumption) 4 (by decide) q1280 rfl dJ20_deleteEntry_115 ?_
      rw [show ((t2 f ((f kp 1).getD 0) 2 (f kp 2)) kp 2) = (f kp 2) from by rw [t2_k (show kp ≠ ((f kp 1).getD 0) by first | assumption | exact Ne.symm (by assumption))]]
      rw [eo_92]
      refine mx_aload_nQ hx hb dJ20_deleteEntry_118 rfl (lv_at hl 0 rfl) ?_
      rw [eo_77]
      refine tm_putL (o := some ((f kp 1).getD 0)) X w hM (k := ((f kp 2).getD 0)) (by first | omega | assumption) 0 (by decide) q1277 dJ20_deleteEntry_119 (fun M H locs w hM => ?_)
      refine lv_goto (tgt := 133) hx hb dJ20_deleteEntry_122 (by decide) ?_
      refine lv_aload_n hx hb dJ20_deleteEntry_133 rfl (lv_at hl 2 rfl) ?_
      refine lv_aload_n hx hb dJ20_deleteEntry_134 rfl (lv_at hl 2 rfl) ?_
      refine lv_aload_n hx hb dJ20_deleteEntry_135 rfl (lv_at hl 2 rfl) ?_
      refine lv_null hx hb dJ20_deleteEntry_136 ?_
      refine lv_dup_x1 hx hb dJ20_deleteEntry_137 rfl rfl ?_
      refine tm_putL (o := none) X w hM (k := kp) (by first | omega | assumption) 2 (by decide) q1280 dJ20_deleteEntry_138 (fun M H locs w hM => ?_)
      refine lv_dup_x1 hx hb dJ20_deleteEntry_141 rfl rfl ?_
      refine tm_putL (o := none) X w hM (k := kp) (by first | omega | assumption) 1 (by decide) q1278 dJ20_deleteEntry_142 (fun M H locs w hM => ?_)
      refine tm_putL (o := none) X w hM (k := kp) (by first | omega | assumption) 0 (by decide) q1277 dJ20_deleteEntry_145 (fun M H locs w hM => ?_)
      have hX148 : TX np (mm - 1) (t2 (t2 (t2 (t2 (t2 f ((f kp 1).getD 0) 2 (f kp 2)) ((f kp 2).getD 0) 0 (some ((f kp 1).getD 0))) kp 2 none) kp 1 none) kp 0 none) (fun k => if k = kp then 0 else lo k - 1) (fun k => if k = kp then 0 else hi k - 1) (fun k => ps k - 1) (fun k => S k ∧ k ≠ kp) := by first | exact delA hXi hSi hl0 h1 (P_some c_77) c_92 rfl | exact delB hXi hSi hl0 h1 (P_some c_77) (P_some c_92) rfl
      have hK148 : KV f (t2 (t2 (t2 (t2 (t2 f ((f kp 1).getD 0) 2 (f kp 2)) ((f kp 2).getD 0) 0 (some ((f kp 1).getD 0))) kp 2 none) kp 1 none) kp 0 none) := KV.t2 (by decide) (KV.t2 (by decide) (KV.t2 (by decide) (KV.t2 (by decide) (KV.t2 (by decide) KV.rf))))
      refine lv_aload_n hx hb dJ20_deleteEntry_148 rfl (lv_at hl 2 rfl) ?_
      refine tm_get (v := .int (bI (((t2 (t2 (t2 (t2 (t2 f ((f kp 1).getD 0) 2 (f kp 2)) ((f kp 2).getD 0) 0 (some ((f kp 1).getD 0))) kp 2 none) kp 1 none) kp 0 none) kp 3).isSome))) X w hM (k := kp) (by first | omega | assumption) 5 (by decide) q1282 rfl dJ20_deleteEntry_149 ?_
      rw [show ((t2 (t2 (t2 (t2 (t2 f ((f kp 1).getD 0) 2 (f kp 2)) ((f kp 2).getD 0) 0 (some ((f kp 1).getD 0))) kp 2 none) kp 1 none) kp 0 none) kp 3) = (f kp 3) from by rw [t2_j (by decide), t2_j (by decide), t2_j (by decide), t2_j (by decide), t2_j (by decide)]]
      refine lv_iconst (v := (1 : Int32)) hx hb dJ20_deleteEntry_152 (by decide) ?_
      refine lv_icmp_ne (tgt := 245) hx hb dJ20_deleteEntry_153 (by decide) (fun c_153 => ?_) (fun c_153 => ?_)
      · skip
        exact fin M H locs ls 245 dJ20_deleteEntry_245 ⟨(t2 (t2 (t2 (t2 (t2 f ((f kp 1).getD 0) 2 (f kp 2)) ((f kp 2).getD 0) 0 (some ((f kp 1).getD 0))) kp 2 none) kp 1 none) kp 0 none), hM, by first | exact ⟨hp_158.1, KV.tr hK148 hp_158.2.1⟩ | exact ⟨hX148.y, hK148⟩ | exact ⟨delC h192.1 hSi h192.2.2.1 h1 h192.2.2.2 hu192 rfl, KV.t2 (by decide) (KV.t2 (by decide) h192.2.1)⟩ | exact ⟨delN hXi hSi hl0 h1 c_77 c_168 rfl, KV.t2 (by decide) KV.rf⟩⟩ w
      · skip
        refine lv_aload_n hx hb dJ20_deleteEntry_156 rfl (lv_at hl 1 rfl) ?_
        refine mx_aload_nQ hx hb dJ20_deleteEntry_157 rfl (lv_at hl 0 rfl) ?_
        rw [eo_77]
        refine mx_bv w (va_runV (As := [.ref (ad (20 + ((f kp 1).getD 0)))]) (rest := []) X (ct_fixDel l G A ad np M0 (t2 (t2 (t2 (t2 (t2 f ((f kp 1).getD 0) 2 (f kp 2)) ((f kp 2).getD 0) 0 (some ((f kp 1).getD 0))) kp 2 none) kp 1 none) kp 0 none) ((f kp 1).getD 0) (mm - 1) (fun k => ps k - 1) (fun k => S k ∧ k ≠ kp) (hX148.y) (⟨hr1, hr3⟩) (DM.init hX148 ⟨hr1, hr3⟩ (by rw [if_neg hr3, hr2]))) (cwV 1 X.2.2.2.2 (lw_V q1394 q1396 qs21 q127 q1397) rfl rfl rfl (by decide +kernel) ⟨by rw [hRf]; decide, by rw [hRl]; decide⟩) (mx_preV w hM hM.st rfl) rfl rfl hl.1 rfl (lv_room (Nat.le_of_ble_eq_true rfl)) dJ20_deleteEntry_158 ⟨Nat.zero_le _, Nat.zero_le _⟩) (fun M H locs hp w => ?_)
        obtain ⟨f_158, hM, hp_158⟩ := hp
        refine lv_goto (tgt := 245) hx hb dJ20_deleteEntry_161 (by decide) ?_
        exact fin M H locs ls 245 dJ20_deleteEntry_245 ⟨f_158, hM, by first | exact ⟨hp_158.1, KV.tr hK148 hp_158.2.1⟩ | exact ⟨hX148.y, hK148⟩ | exact ⟨delC h192.1 hSi h192.2.2.1 h1 h192.2.2.2 hu192 rfl, KV.t2 (by decide) (KV.t2 (by decide) h192.2.1)⟩ | exact ⟨delN hXi hSi hl0 h1 c_77 c_168 rfl, KV.t2 (by decide) KV.rf⟩⟩ w
    · skip
      refine lv_aload_n hx hb dJ20_deleteEntry_95 rfl (lv_at hl 1 rfl) ?_
      refine mx_aload_nQ hx hb dJ20_deleteEntry_96 rfl (lv_at hl 0 rfl) ?_
      rw [eo_77]
      refine tm_putR (o := some ((f kp 1).getD 0)) X w hM q927 dJ20_deleteEntry_97 (fun M H locs w hM => ?_)
      refine lv_goto (tgt := 133) hx hb dJ20_deleteEntry_100 (by decide) ?_
      refine lv_aload_n hx hb dJ20_deleteEntry_133 rfl (lv_at hl 2 rfl) ?_
      refine lv_aload_n hx hb dJ20_deleteEntry_134 rfl (lv_at hl 2 rfl) ?_
      refine lv_aload_n hx hb dJ20_deleteEntry_135 rfl (lv_at hl 2 rfl) ?_
      refine lv_null hx hb dJ20_deleteEntry_136 ?_
      refine lv_dup_x1 hx hb dJ20_deleteEntry_137 rfl rfl ?_
      refine tm_putL (o := none) X w hM (k := kp) (by first | omega | assumption) 2 (by decide) q1280 dJ20_deleteEntry_138 (fun M H locs w hM => ?_)
      refine lv_dup_x1 hx hb dJ20_deleteEntry_141 rfl rfl ?_
      refine tm_putL (o := none) X w hM (k := kp) (by first | omega | assumption) 1 (by decide) q1278 dJ20_deleteEntry_142 (fun M H locs w hM => ?_)
      refine tm_putL (o := none) X w hM (k := kp) (by first | omega | assumption) 0 (by decide) q1277 dJ20_deleteEntry_145 (fun M H locs w hM => ?_)
      have hX148 : TX np (mm - 1) (t2 (t2 (t2 (t2 (t2 f ((f kp 1).getD 0) 2 (f kp 2)) 0 6 (some ((f kp 1).getD 0))) kp 2 none) kp 1 none) kp 0 none) (fun k => if k = kp then 0 else lo k - 1) (fun k => if k = kp then 0 else hi k - 1) (fun k => ps k - 1) (fun k => S k ∧ k ≠ kp) := by first | exact delA hXi hSi hl0 h1 (P_some c_77) c_92 rfl | exact delB hXi hSi hl0 h1 (P_some c_77) (P_some c_92) rfl
      have hK148 : KV f (t2 (t2 (t2 (t2 (t2 f ((f kp 1).getD 0) 2 (f kp 2)) 0 6 (some ((f kp 1).getD 0))) kp 2 none) kp 1 none) kp 0 none) := KV.t2 (by decide) (KV.t2 (by decide) (KV.t2 (by decide) (KV.t2 (by decide) (KV.t2 (by decide) KV.rf))))
      refine lv_aload_n hx hb dJ20_deleteEntry_148 rfl (lv_at hl 2 rfl) ?_
      refine tm_get (v := .int (bI (((t2 (t2 (t2 (t2 (t2 f ((f kp 1).getD 0) 2 (f kp 2)) 0 6 (some ((f kp 1).getD 0))) kp 2 none) kp 1 none) kp 0 none) kp 3).isSome))) X w hM (k := kp) (by first | omega | assumption) 5 (by decide) q1282 rfl dJ20_deleteEntry_149 ?_
      rw [show ((t2 (t2 (t2 (t2 (t2 f ((f kp 1).getD 0) 2 (f kp 2)) 0 6 (some ((f kp 1).getD 0))) kp 2 none) kp 1 none) kp 0 none) kp 3) = (f kp 3) from by rw [t2_j (by decide), t2_j (by decide), t2_j (by decide), t2_j (by decide), t2_j (by decide)]]
      refine lv_iconst (v := (1 : Int32)) hx hb dJ20_deleteEntry_152 (by decide) ?_
      refine lv_icmp_ne (tgt := 245) hx hb dJ20_deleteEntry_153 (by decide) (fun c_153 => ?_) (fun c_153 => ?_)
      · skip
        exact fin M H locs ls 245 dJ20_deleteEntry_245 ⟨(t2 (t2 (t2 (t2 (t2 f ((f kp 1).getD 0) 2 (f kp 2)) 0 6 (some ((f kp 1).getD 0))) kp 2 none) kp 1 none) kp 0 none), hM, by first | exact ⟨hp_158.1, KV.tr hK148 hp_158.2.1⟩ | exact ⟨hX148.y, hK148⟩ | exact ⟨delC h192.1 hSi h192.2.2.1 h1 h192.2.2.2 hu192 rfl, KV.t2 (by decide) (KV.t2 (by decide) h192.2.1)⟩ | exact ⟨delN hXi hSi hl0 h1 c_77 c_168 rfl, KV.t2 (by decide) KV.rf⟩⟩ w
      · skip
        refine lv_aload_n hx hb dJ20_deleteEntry_156 rfl (lv_at hl 1 rfl) ?_
        refine mx_aload_nQ hx hb dJ20_deleteEntry_157 rfl (lv_at hl 0 rfl) ?_
        rw [eo_77]
        refine mx_bv w (va_runV (As := [.ref (ad (20 + ((f kp 1).getD 0)))]) (rest := []) X (ct_fixDel l G A ad np M0 (t2 (t2 (t2 (t2 (t2 f ((f kp 1).getD 0) 2 (f kp 2)) 0 6 (some ((f kp 1).getD 0))) kp 2 none) kp 1 none) kp 0 none) ((f kp 1).getD 0) (mm - 1) (fun k => ps k - 1) (fun k => S k ∧ k ≠ kp) (hX148.y) (⟨hr1, hr3⟩) (DM.init hX148 ⟨hr1, hr3⟩ (by rw [if_neg hr3, hr2]))) (cwV 1 X.2.2.2.2 (lw_V q1394 q1396 qs21 q127 q1397) rfl rfl rfl (by decide +kernel) ⟨by rw [hRf]; decide, by rw [hRl]; decide⟩) (mx_preV w hM hM.st rfl) rfl rfl hl.1 rfl (lv_room (Nat.le_of_ble_eq_true rfl)) dJ20_deleteEntry_158 ⟨Nat.zero_le _, Nat.zero_le _⟩) (fun M H locs hp w => ?_)
        obtain ⟨f_158, hM, hp_158⟩ := hp
        refine lv_goto (tgt := 245) hx hb dJ20_deleteEntry_161 (by decide) ?_
        exact fin M H locs ls 245 dJ20_deleteEntry_245 ⟨f_158, hM, by first | exact ⟨hp_158.1, KV.tr hK148 hp_158.2.1⟩ | exact ⟨hX148.y, hK148⟩ | exact ⟨delC h192.1 hSi h192.2.2.1 h1 h192.2.2.2 hu192 rfl, KV.t2 (by decide) (KV.t2 (by decide) h192.2.1)⟩ | exact ⟨delN hXi hSi hl0 h1 c_77 c_168 rfl, KV.t2 (by decide) KV.rf⟩⟩ w
