set_option maxRecDepth 100000
/-! ST: the signs -/
/-! ST: the signs -/
def sgn (j : Nat) : Int32 := ([111, 99, 115, 112, 114] : List Int32).getD j 0
section ST
variable {p : Program} {l : Launch} {e : Env} {R : Room} {s : State} {m : MethodId} {args : Array Value} {below : List Frame} {meth : Method} {c : Code} {H : Heap} {locs : List Loc} {cells slots pc nL : Nat} {ls : Array Slot} {rest As : List Value} {Q : State → Prop} {cc : ByteArray} {own : String} {G : mg} {A : Nat → Prop} {M : mh} {P : mh → Prop}
theorem mW.kst (w : mW G A s M H locs) : vk_R "FieldPumps$Reader" 63 "ocspr" (G.2 2) s ∧ vk_S 1 [5] [[111, 99, 115, 112, 114]] (fun _ => G.2 2) (fun _ => G.2 3) A s H := w.2.2.2.2.2.2.2.2.2.2.2.2.2.2.2.1
theorem mx_strV (X : CallFix p m c cc nL s args lw_all own) (w : mW G A s M H locs) {index : Nat} (hlink : Cond.fieldLink own index "java/lang/String" "value" "[B" ∈ lw_all) (hdg : decode cc pc = .ok (.getfield index, 3))
    (kk : W p l e R s m args below meth c H locs cells slots Q (F0 m (pc + 3) ls (.ref (G.2 3) :: rest))) : W p l e R s m args below meth c H locs cells slots Q (F0 m pc ls (.ref (G.2 2) :: rest)) := by
  obtain ⟨cf, k, fi, f, cell, h1, h2, h3, h4, h5, h6⟩ := (w.kst.2.1 0 (by decide)).2.2.1
  exact W.getf X.1 X.2.1 X.2.2.2.1 (X.2.2.2.2 _ hlink) h1 h2 h3 h4 (v := .ref (G.2 3)) h5 rfl rfl hdg kk
theorem mx_strC (X : CallFix p m c cc nL s args lw_all own) (w : mW G A s M H locs) {index : Nat} (hlink : Cond.fieldLink own index "java/lang/String" "coder" "B" ∈ lw_all) (hdg : decode cc pc = .ok (.getfield index, 3))
    (kk : W p l e R s m args below meth c H locs cells slots Q (F0 m (pc + 3) ls (.int (0 : Int32) :: rest))) : W p l e R s m args below meth c H locs cells slots Q (F0 m pc ls (.ref (G.2 2) :: rest)) := by
  obtain ⟨cf, k, fi, f, cell, h1, h2, h3, h4, h5, h6⟩ := (w.kst.2.1 0 (by decide)).2.1
  exact W.getf X.1 X.2.1 X.2.2.2.1 (X.2.2.2.2 _ hlink) h1 h2 h3 h4 (v := .int 0) h5 rfl rfl hdg kk
theorem mx_ctb (X : CallFix p m c cc nL s args lw_all own) (w : mW G A s M H locs) {j : Nat} (hj : j < 5) (hdg : decode cc pc = .ok (.baload, 1))
    (kk : W p l e R s m args below meth c H locs cells slots Q (F0 m (pc + 1) ls (.int (sgn j) :: rest))) : W p l e R s m args below meth c H locs cells slots Q (F0 m pc ls (.int (nI j) :: .ref (G.2 3) :: rest)) := by
  obtain ⟨cell, h1, h2, h3, h4, h5, h6, h7⟩ := (w.kst.2.1 0 (by decide)).2.2.2
  have h4 : 5 ≤ cell.slots.size := h4
  have ec : (nI j).toNatClampNeg = j := nI_clamp (by omega)
  have hin := vp_in_nI hj (show 5 < 2 ^ 31 by decide)
  have hin' : ¬ (nI j < 0 ∨ cell.slots.size ≤ (nI j).toNatClampNeg) := by
    intro q
    rcases q with q | q
    · exact hin (Or.inl q)
    · rw [ec] at q
      omega
  exact W.bald (v := .int (sgn j)) X.1 X.2.1 h1 h2 h3 hin' (by rw [ec, h6 _ hj]; rfl) rfl rfl hdg kk
theorem mx_ctl (X : CallFix p m c cc nL s args lw_all own) (w : mW G A s M H locs) (hdg : decode cc pc = .ok (.arraylength, 1))
    (kk : W p l e R s m args below meth c H locs cells slots Q (F0 m (pc + 1) ls (.int (5 : Int32) :: rest))) : W p l e R s m args below meth c H locs cells slots Q (F0 m pc ls (.ref (G.2 3) :: rest)) := by
  obtain ⟨cell, h1, h2, h3, h4, h5, h6, h7⟩ := (w.kst.2.1 0 (by decide)).2.2.2
  exact W.alen (n := 5) X.1 X.2.1 h1 h2 h5 rfl rfl hdg kk
theorem mx_preVS (w : mW G A s M H locs) (hP : P M) : PreV s H "java/lang/String" (G.2 2) (va_Pc (.ref (G.2 2) :: As) (mU G A P)) As := by
  obtain ⟨cellB, hcB, hoB, hclB, -⟩ := (w.kst.2.1 0 (by decide)).1
  exact ⟨mU.blind, ⟨cellB, hcB, hoB, hclB⟩, fun U hU hW => ⟨rfl, w.call hP hU hW⟩⟩
theorem mx_ldcK (X : CallFix p m c cc nL s args lw_all "FieldPumps$Reader") (w : mW G A s M H locs) (hdg : decode cc pc = .ok (.ldc 63, 2))
    (kk : W p l e R s m args below meth c H locs cells slots Q (F0 m (pc + 2) ls (.ref (G.2 2) :: rest))) : W p l e R s m args below meth c H locs cells slots Q (F0 m pc ls rest) :=
  va_ldcS X.1 X.2.1 X.2.2.2.1 w.kst.1 hdg kk
end ST

set_option maxHeartbeats 4000000 in
set_option maxRecDepth 100000 in
theorem ct_str_coder (l : Launch) (G : mg) (A : Nat → Prop) (M1 : mh) : Met l yJ11_coder (ws_ yJ11_coder cJ11_coder 1 (some .byte)) ({ frames := 0, cells := 0, slots := 0, locals := 0 }) (va_Pc [.ref (G.2 2)] (mU G A (fun M => M = M1))) (mQi G A (fun r M => r = (0 : Int32) ∧ M = M1)) 0 0 A := by
  refine mx_ofx (fun v M hp => by rw [hp.1]; decide) (by decide) (Nat.le_of_ble_eq_true rfl) ?_
  intro p e R s m av below meth c M H Q ls X hRf hRl hRc hRs hin eM w fin hl
  subst M
  have X : CallFix p m c cJ11_coder 1 s av lw_all "java/lang/String" := X
  have hx := X.1
  have hb := X.2.1
  have hl : lv_has ls 1 [(0, .ref (G.2 2))] := hl
  have hRf : R.frames = 0 := hRf
  have hRl : R.locals = 0 := hRl
  have hRc : R.cells = 0 := hRc
  have hRs : R.slots = 0 := hRs
  generalize ([] : List Loc) = locs at w ⊢
  refine mx_gets (v := .int (1 : Int32)) X w (C := "java/lang/String") (by simp [kcZ]) q1060 (fun _ h => h) dJ11_coder_0 ?_
  refine lv_if_eq (tgt := 13) hx hb dJ11_coder_3 (by decide) (fun c_3 => absurd c_3 (by decide)) (fun c_3 => ?_)
  refine lv_aload_n hx hb dJ11_coder_6 rfl (lv_at hl 0 rfl) ?_
  refine mx_strC X w q2463 dJ11_coder_7 ?_
  refine lv_goto (tgt := 14) hx hb dJ11_coder_10 (by decide) ?_
  exact fin (0 : Int32) _ H locs ls 14 dJ11_coder_14 (⟨rfl, rfl⟩) w
set_option maxHeartbeats 4000000 in
set_option maxRecDepth 100000 in
theorem ct_str_lat (l : Launch) (G : mg) (A : Nat → Prop) (M1 : mh) : Met l yJ11_isLatin1 (ws_ yJ11_isLatin1 cJ11_isLatin1 1 (some .boolean)) ({ frames := 0, cells := 0, slots := 0, locals := 0 }) (va_Pc [.ref (G.2 2)] (mU G A (fun M => M = M1))) (mQi G A (fun r M => r = (1 : Int32) ∧ M = M1)) 0 0 A := by
  refine mx_ofz (by decide) (Nat.le_of_ble_eq_true rfl) ?_
  intro p e R s m av below meth c M H Q ls X hRf hRl hRc hRs hin eM w fin hl
  subst M
  have X : CallFix p m c cJ11_isLatin1 1 s av lw_all "java/lang/String" := X
  have hx := X.1
  have hb := X.2.1
  have hl : lv_has ls 1 [(0, .ref (G.2 2))] := hl
  have hRf : R.frames = 0 := hRf
  have hRl : R.locals = 0 := hRl
  have hRc : R.cells = 0 := hRc
  have hRs : R.slots = 0 := hRs
  generalize ([] : List Loc) = locs at w ⊢
  refine mx_gets (v := .int (1 : Int32)) X w (C := "java/lang/String") (by simp [kcZ]) q1060 (fun _ h => h) dJ11_isLatin1_0 ?_
  have J17 : ∀  (M : mh) (H : Heap) (locs : List Loc) (ls : Array Slot), lv_has ls 1 [] → mW G A s M H locs → True → W p l e R s m av below meth c H locs 0 0 Q (F0 m 17 ls []) := by
    intro  M H locs ls  hl w _hT
    refine lv_iconst (v := (0 : Int32)) hx hb dJ11_isLatin1_17 (by decide) ?_
    exact fin false _ H locs ls 18 dJ11_isLatin1_18 (⟨rfl, rfl⟩) w
  refine lv_if_eq (tgt := 17) hx hb dJ11_isLatin1_3 (by decide) (fun c_3 => absurd c_3 (by decide)) (fun c_3 => ?_)
  refine lv_aload_n hx hb dJ11_isLatin1_6 rfl (lv_at hl 0 rfl) ?_
  refine mx_strC X w q2463 dJ11_isLatin1_7 ?_
  refine lv_if_ne (tgt := 17) hx hb dJ11_isLatin1_10 (by decide) (fun c_10 => absurd (by decide) c_10) (fun c_10 => ?_)
  refine lv_iconst (v := (1 : Int32)) hx hb dJ11_isLatin1_13 (by decide) ?_
  refine lv_goto (tgt := 18) hx hb dJ11_isLatin1_14 (by decide) ?_
  exact fin true _ H locs ls 18 dJ11_isLatin1_18 (⟨rfl, rfl⟩) w
set_option maxHeartbeats 4000000 in
set_option maxRecDepth 100000 in
theorem ct_str_len (l : Launch) (G : mg) (A : Nat → Prop) (M1 : mh) : Met l yJ11_length (ws_ yJ11_length cJ11_length 1 (some .int)) ({ frames := 1, cells := 0, slots := 0, locals := 20 }) (va_Pc [.ref (G.2 2)] (mU G A (fun M => M = M1))) (mQi G A (fun r M => r = (5 : Int32) ∧ M = M1)) 0 0 A := by
  refine mx_ofi (by decide) (Nat.le_of_ble_eq_true rfl) ?_
  intro p e R s m av below meth c M H Q ls X hRf hRl hRc hRs hin eM w fin hl
  subst M
  have X : CallFix p m c cJ11_length 1 s av lw_all "java/lang/String" := X
  have hx := X.1
  have hb := X.2.1
  have hl : lv_has ls 1 [(0, .ref (G.2 2))] := hl
  have hRf : R.frames = 1 := hRf
  have hRl : R.locals = 20 := hRl
  have hRc : R.cells = 0 := hRc
  have hRs : R.slots = 0 := hRs
  generalize ([] : List Loc) = locs at w ⊢
  refine lv_aload_n hx hb dJ11_length_0 rfl (lv_at hl 0 rfl) ?_
  refine mx_strV X w q2462 dJ11_length_1 ?_
  refine mx_ctl X w dJ11_length_4 ?_
  refine lv_aload_n hx hb dJ11_length_5 rfl (lv_at hl 0 rfl) ?_
  refine mx_bi w (va_runV (As := []) (rest := [.int (5 : Int32)]) X (ct_str_coder l G A _) (cwV 0 X.2.2.2.2 (lw_V q1056 q1057 q1058 q111 q1059) rfl rfl rfl (by decide +kernel) ⟨by rw [hRf]; decide, by rw [hRl]; decide⟩) (mx_preVS w rfl) rfl rfl hl.1 rfl (lv_room (Nat.le_of_ble_eq_true rfl)) dJ11_length_6 ⟨by rw [hRc]; omega, by rw [hRs]; omega⟩) (fun r M9 H locs hp w => ?_)
  obtain ⟨eR, eM⟩ := hp; subst M9; subst eR
  refine lv_ishr hx hb dJ11_length_9 ?_
  exact fin ((5 : Int32) >>> ((0 : Int32) &&& 31)) _ H locs ls 10 dJ11_length_10 (⟨by decide, rfl⟩) w
set_option maxHeartbeats 4000000 in
set_option maxRecDepth 100000 in
theorem ct_sl_encI (l : Launch) (G : mg) (A : Nat → Prop) (M1 : mh) (ch : Int32) (h0 : ¬ ch < 0) (h255 : ¬ (255 : Int32) < ch) : Met l yJ21_canEncode_2 (ws_ yJ21_canEncode_2 cJ21_canEncode_2 1 (some .boolean)) ({ frames := 0, cells := 0, slots := 0, locals := 0 }) (va_Pc [.int ch] (mU G A (fun M => M = M1))) (mQi G A (fun r M => r = (1 : Int32) ∧ M = M1)) 0 0 A := by
  refine mx_ofz (by decide) (Nat.le_of_ble_eq_true rfl) ?_
  intro p e R s m av below meth c M H Q ls X hRf hRl hRc hRs hin eM w fin hl
  subst M
  have X : CallFix p m c cJ21_canEncode_2 1 s av lw_all "java/lang/StringLatin1" := X
  have hx := X.1
  have hb := X.2.1
  have hl : lv_has ls 1 [(0, .int ch)] := hl
  have hRf : R.frames = 0 := hRf
  have hRl : R.locals = 0 := hRl
  have hRc : R.cells = 0 := hRc
  have hRs : R.slots = 0 := hRs
  generalize ([] : List Loc) = locs at w ⊢
  refine lv_iload_n hx hb dJ21_canEncode_2_0 rfl (lv_at hl 0 rfl) ?_
  have J15 : ∀  (M : mh) (H : Heap) (locs : List Loc) (ls : Array Slot), lv_has ls 1 [] → mW G A s M H locs → True → W p l e R s m av below meth c H locs 0 0 Q (F0 m 15 ls []) := by
    intro  M H locs ls  hl w _hT
    refine lv_iconst (v := (0 : Int32)) hx hb dJ21_canEncode_2_15 (by decide) ?_
    exact fin false _ H locs ls 16 dJ21_canEncode_2_16 (⟨rfl, rfl⟩) w
  refine lv_if_lt (tgt := 15) hx hb dJ21_canEncode_2_1 (by decide) (fun c_1 => absurd c_1 (h0)) (fun c_1 => ?_)
  refine lv_iload_n hx hb dJ21_canEncode_2_4 rfl (lv_at hl 0 rfl) ?_
  refine lv_sipush (v := (255 : Int32)) hx hb dJ21_canEncode_2_5 (by decide) ?_
  refine lv_icmp_gt (tgt := 15) hx hb dJ21_canEncode_2_8 (by decide) (fun c_8 => absurd c_8 (h255)) (fun c_8 => ?_)
  refine lv_iconst (v := (1 : Int32)) hx hb dJ21_canEncode_2_11 (by decide) ?_
  refine lv_goto (tgt := 16) hx hb dJ21_canEncode_2_12 (by decide) ?_
  exact fin true _ H locs ls 16 dJ21_canEncode_2_16 (⟨rfl, rfl⟩) w
set_option maxHeartbeats 4000000 in
set_option maxRecDepth 100000 in
theorem ct_sl_ixc (l : Launch) (G : mg) (A : Nat → Prop) (M1 : mh) (ch : Int32) (hb8 : ch.toInt8.toInt32 = ch) : Met l yJ21_indexOfChar (ws_ yJ21_indexOfChar cJ21_indexOfChar 6 (some .int)) ({ frames := 0, cells := 0, slots := 0, locals := 0 }) (va_Pc [.ref (G.2 3), .int ch, .int (0 : Int32), .int (5 : Int32)] (mU G A (fun M => M = M1))) (mQi G A (fun r M => ((∃ j, j < 5 ∧ sgn j = ch ∧ (∀ i, i < j → sgn i ≠ ch) ∧ r = nI j) ∨ ((∀ j, j < 5 → sgn j ≠ ch) ∧ r = -1)) ∧ M = M1)) 0 0 A := by
  refine mx_ofi (by decide) (Nat.le_of_ble_eq_true rfl) ?_
  intro p e R s m av below meth c M H Q ls X hRf hRl hRc hRs hin eM w fin hl
  subst M
  have X : CallFix p m c cJ21_indexOfChar 6 s av lw_all "java/lang/StringLatin1" := X
  have hx := X.1
  have hb := X.2.1
  have hl : lv_has ls 6 [(0, .ref (G.2 3)), (1, .int ch), (2, .int (0 : Int32)), (3, .int (5 : Int32))] := hl
  have hRf : R.frames = 0 := hRf
  have hRl : R.locals = 0 := hRl
  have hRc : R.cells = 0 := hRc
  have hRs : R.slots = 0 := hRs
  generalize ([] : List Loc) = locs at w ⊢
  refine lv_iload_n hx hb dJ21_indexOfChar_0 rfl (lv_at hl 1 rfl) ?_
  refine lv_i2b (v := ch) hx hb dJ21_indexOfChar_1 hb8 ?_
  refine lv_istore (lv' := [(4, .int ch), (0, .ref (G.2 3)), (1, .int ch), (2, .int (0 : Int32)), (3, .int (5 : Int32))]) hx hb dJ21_indexOfChar_2 hl (by decide) rfl (fun ls hl => ?_)
  refine lv_iload_n hx hb dJ21_indexOfChar_4 rfl (lv_at hl 3 rfl) ?_
  refine lv_istore (lv' := [(5, .int (0 : Int32)), (4, .int ch), (0, .ref (G.2 3)), (1, .int ch), (2, .int (0 : Int32)), (3, .int (5 : Int32))]) hx hb dJ21_indexOfChar_5 hl (by decide) rfl (fun ls hl => ?_)
  have L7 : ∀ (n_7 : Nat) (n5_7 : Nat) (M : mh) (H : Heap) (locs : List Loc) (ls : Array Slot), (hk : n5_7 ≤ 5) → (hMM : M = M1) → (hI : ∀ i, i < n5_7 → sgn i ≠ ch) → (hm : 5 < n5_7 + n_7) → lv_has ls 6 [(4, .int ch), (0, .ref (G.2 3)), (3, .int (5 : Int32)), (5, .int (nI n5_7))] → mW G A s M H locs → True → W p l e R s m av below meth c H locs 0 0 Q (F0 m 7 ls []) := by
    intro n_7
    induction n_7 with
    | zero =>
      intro n5_7 M H locs ls hk hMM hI hm hl w _hT
      exfalso; omega
    | succ n_7 ih_7 =>
      intro n5_7 M H locs ls hk hMM hI hm hl w _hT
      refine lv_iload hx hb dJ21_indexOfChar_7 (lv_at hl 3 rfl) ?_
      refine lv_iload_n hx hb dJ21_indexOfChar_9 rfl (lv_at hl 2 rfl) ?_
      refine mx_nge (u := n5_7) (v := 5) (tgt := 31) hx hb rfl rfl (by omega) (by omega) dJ21_indexOfChar_10 (by decide) (fun c_10 => ?_) (fun c_10 => ?_)
      · skip
        have hr : ((∃ j, j < 5 ∧ sgn j = ch ∧ (∀ i, i < j → sgn i ≠ ch) ∧ (-1 : Int32) = nI j) ∨ ((∀ j, j < 5 → sgn j ≠ ch) ∧ (-1 : Int32) = -1)) ∧ M = M := ⟨Or.inr ⟨fun j hj => hI j (by omega), rfl⟩, rfl⟩
        rw [hMM] at hr
        refine lv_iconst (v := (-1 : Int32)) hx hb dJ21_indexOfChar_31 (by decide) ?_
        exact fin (-1 : Int32) _ H locs ls 32 dJ21_indexOfChar_32 (hr) w
      · skip
        refine lv_aload_n hx hb dJ21_indexOfChar_13 rfl (lv_at hl 1 rfl) ?_
        refine lv_iload hx hb dJ21_indexOfChar_14 (lv_at hl 3 rfl) ?_
        refine mx_ctb X w (show n5_7 < 5 by omega) dJ21_indexOfChar_16 ?_
        refine lv_iload hx hb dJ21_indexOfChar_17 (lv_at hl 0 rfl) ?_
        refine lv_icmp_ne (tgt := 25) hx hb dJ21_indexOfChar_19 (by decide) (fun c_19 => ?_) (fun c_19 => ?_)
        · skip
          have hI2 : ∀ i, i < n5_7 + 1 → sgn i ≠ ch := fun i hi => by
            by_cases z : i = n5_7
            · rw [z]; exact c_19
            · exact hI i (by omega)
          refine lv_iinc (v := (nI (n5_7 + 1))) (lv' := [(5, .int (nI (n5_7 + 1))), (4, .int ch), (0, .ref (G.2 3)), (3, .int (5 : Int32))]) hx hb dJ21_indexOfChar_25 hl (k := 3) rfl (nI_incr _ 1) (by decide) rfl (fun ls hl => ?_)
          refine lv_goto (tgt := 7) hx hb dJ21_indexOfChar_28 (by decide) ?_
          exact ih_7 (n5_7 + 1) _ H locs ls (by first | omega | assumption | exact (by omega)) (by first | omega | assumption | exact hMM) (by first | omega | assumption | exact hI2) (by first | omega | assumption) (lv_sub hl [1, 2, 3, 0] rfl) w trivial
        · skip
          have hr : ((∃ j, j < 5 ∧ sgn j = ch ∧ (∀ i, i < j → sgn i ≠ ch) ∧ nI n5_7 = nI j) ∨ ((∀ j, j < 5 → sgn j ≠ ch) ∧ nI n5_7 = -1)) ∧ M = M := ⟨Or.inl ⟨n5_7, by omega, c_19, hI, rfl⟩, rfl⟩
          rw [hMM] at hr
          refine lv_iload hx hb dJ21_indexOfChar_22 (lv_at hl 3 rfl) ?_
          exact fin (nI n5_7) _ H locs ls 24 dJ21_indexOfChar_24 (hr) w
  exact L7 6 0 _ H locs ls (by first | omega | assumption | exact (Nat.zero_le _)) (by first | omega | assumption | exact rfl) (by first | omega | assumption | exact (fun i hi => absurd hi (Nat.not_lt_zero _))) (by first | omega | assumption) (lv_sub hl [1, 2, 5, 0] rfl) w trivial
set_option maxHeartbeats 4000000 in
set_option maxRecDepth 100000 in
theorem ct_sl_ix (l : Launch) (G : mg) (A : Nat → Prop) (M1 : mh) (ch : Int32) (hb8 : ch.toInt8.toInt32 = ch) (h0 : ¬ ch < 0) (h255 : ¬ (255 : Int32) < ch) : Met l yJ21_indexOf (ws_ yJ21_indexOf cJ21_indexOf 4 (some .int)) ({ frames := 1, cells := 0, slots := 0, locals := 25 }) (va_Pc [.ref (G.2 3), .int ch, .int (0 : Int32), .int (5 : Int32)] (mU G A (fun M => M = M1))) (mQi G A (fun r M => ((∃ j, j < 5 ∧ sgn j = ch ∧ (∀ i, i < j → sgn i ≠ ch) ∧ r = nI j) ∨ ((∀ j, j < 5 → sgn j ≠ ch) ∧ r = -1)) ∧ M = M1)) 0 0 A := by
  refine mx_ofi (by decide) (Nat.le_of_ble_eq_true rfl) ?_
  intro p e R s m av below meth c M H Q ls X hRf hRl hRc hRs hin eM w fin hl
  subst M
  have X : CallFix p m c cJ21_indexOf 4 s av lw_all "java/lang/StringLatin1" := X
  have hx := X.1
  have hb := X.2.1
  have hl : lv_has ls 4 [(0, .ref (G.2 3)), (1, .int ch), (2, .int (0 : Int32)), (3, .int (5 : Int32))] := hl
  have hRf : R.frames = 1 := hRf
  have hRl : R.locals = 25 := hRl
  have hRc : R.cells = 0 := hRc
  have hRs : R.slots = 0 := hRs
  generalize ([] : List Loc) = locs at w ⊢
  refine lv_iload_n hx hb dJ21_indexOf_0 rfl (lv_at hl 1 rfl) ?_
  refine mx_bi w (va_runS (As := [.int ch]) (rest := []) X (ct_sl_encI l G A _ ch h0 h255) (va_cwS 1 X.2.2.2.2 (lw_S q1941 q1942 q128 q1943) rfl rfl rfl (by decide +kernel) ⟨by rw [hRf]; decide, by rw [hRl]; decide⟩) (mx_preS w rfl) rfl rfl hl.1 rfl (lv_room (Nat.le_of_ble_eq_true rfl)) dJ21_indexOf_1 ⟨by rw [hRc]; omega, by rw [hRs]; omega⟩) (fun r M9 H locs hp w => ?_)
  obtain ⟨eR, eM⟩ := hp; subst M9; subst eR
  refine lv_if_ne (tgt := 9) hx hb dJ21_indexOf_4 (by decide) (fun c_4 => ?_) (fun c_4 => absurd c_4 (by decide))
  refine lv_iload_n hx hb dJ21_indexOf_9 rfl (lv_at hl 2 rfl) ?_
  refine lv_iconst (v := (0 : Int32)) hx hb dJ21_indexOf_10 (by decide) ?_
  refine va_mmax hx hb (X.2.2.1.trans hl.1.symm) X.2.2.2.1 (X.2.2.2.2 _ q1944) (X.2.2.2.2 _ q684) (X.2.2.2.2 _ q120) (X.2.2.2.2 _ q685) (by rw [hRf]; decide) (by rw [hRl]; exact Nat.le_of_ble_eq_true rfl) (Nat.zero_le _) (Nat.zero_le _) dJ21_indexOf_11 ?_
  refine mx_cast (z := (0 : Int32)) (by decide) ?_
  refine lv_istore_n (lv' := [(2, .int (0 : Int32)), (0, .ref (G.2 3)), (1, .int ch), (3, .int (5 : Int32))]) hx hb dJ21_indexOf_14 rfl hl (by decide) rfl (fun ls hl => ?_)
  refine lv_iload_n hx hb dJ21_indexOf_15 rfl (lv_at hl 3 rfl) ?_
  refine lv_aload_n hx hb dJ21_indexOf_16 rfl (lv_at hl 1 rfl) ?_
  refine mx_ctl X w dJ21_indexOf_17 ?_
  refine va_mmin hx hb (X.2.2.1.trans hl.1.symm) X.2.2.2.1 (X.2.2.2.2 _ q1067) (X.2.2.2.2 _ q729) (X.2.2.2.2 _ q120) (X.2.2.2.2 _ q730) (by rw [hRf]; decide) (by rw [hRl]; exact Nat.le_of_ble_eq_true rfl) (Nat.zero_le _) (Nat.zero_le _) dJ21_indexOf_18 ?_
  refine mx_cast (z := (5 : Int32)) (by decide) ?_
  refine lv_istore_n (lv' := [(3, .int (5 : Int32)), (2, .int (0 : Int32)), (0, .ref (G.2 3)), (1, .int ch)]) hx hb dJ21_indexOf_21 rfl hl (by decide) rfl (fun ls hl => ?_)
  refine lv_iload_n hx hb dJ21_indexOf_22 rfl (lv_at hl 1 rfl) ?_
  refine lv_iload_n hx hb dJ21_indexOf_23 rfl (lv_at hl 0 rfl) ?_
  refine lv_icmp_lt (tgt := 29) hx hb dJ21_indexOf_24 (by decide) (fun c_24 => ?_) (fun c_24 => absurd (by decide) c_24)
  refine lv_aload_n hx hb dJ21_indexOf_29 rfl (lv_at hl 2 rfl) ?_
  refine lv_iload_n hx hb dJ21_indexOf_30 rfl (lv_at hl 3 rfl) ?_
  refine lv_iload_n hx hb dJ21_indexOf_31 rfl (lv_at hl 1 rfl) ?_
  refine lv_iload_n hx hb dJ21_indexOf_32 rfl (lv_at hl 0 rfl) ?_
  refine mx_bi w (va_runS (As := [.ref (G.2 3), .int ch, .int (0 : Int32), .int (5 : Int32)]) (rest := []) X (ct_sl_ixc l G A _ ch hb8) (va_cwS 4 X.2.2.2.2 (lw_S q1945 q1946 q128 q1947) rfl rfl rfl (by decide +kernel) ⟨by rw [hRf]; decide, by rw [hRl]; decide⟩) (mx_preS w rfl) rfl rfl hl.1 rfl (lv_room (Nat.le_of_ble_eq_true rfl)) dJ21_indexOf_33 ⟨by rw [hRc]; omega, by rw [hRs]; omega⟩) (fun r9 M9 H locs hp w => ?_)
  obtain ⟨eR, eM⟩ := hp; subst M9
  exact fin r9 _ H locs ls 36 dJ21_indexOf_36 (⟨eR, rfl⟩) w
set_option maxHeartbeats 4000000 in
set_option maxRecDepth 100000 in
theorem ct_str_ix2 (l : Launch) (G : mg) (A : Nat → Prop) (M1 : mh) (ch : Int32) (hb8 : ch.toInt8.toInt32 = ch) (h0 : ¬ ch < 0) (h255 : ¬ (255 : Int32) < ch) : Met l yJ11_indexOf_2 (ws_ yJ11_indexOf_2 cJ11_indexOf_2 3 (some .int)) ({ frames := 2, cells := 0, slots := 0, locals := 48 }) (va_Pc [.ref (G.2 2), .int ch, .int (0 : Int32)] (mU G A (fun M => M = M1))) (mQi G A (fun r M => ((∃ j, j < 5 ∧ sgn j = ch ∧ (∀ i, i < j → sgn i ≠ ch) ∧ r = nI j) ∨ ((∀ j, j < 5 → sgn j ≠ ch) ∧ r = -1)) ∧ M = M1)) 0 0 A := by
  refine mx_ofi (by decide) (Nat.le_of_ble_eq_true rfl) ?_
  intro p e R s m av below meth c M H Q ls X hRf hRl hRc hRs hin eM w fin hl
  subst M
  have X : CallFix p m c cJ11_indexOf_2 3 s av lw_all "java/lang/String" := X
  have hx := X.1
  have hb := X.2.1
  have hl : lv_has ls 3 [(0, .ref (G.2 2)), (1, .int ch), (2, .int (0 : Int32))] := hl
  have hRf : R.frames = 2 := hRf
  have hRl : R.locals = 48 := hRl
  have hRc : R.cells = 0 := hRc
  have hRs : R.slots = 0 := hRs
  generalize ([] : List Loc) = locs at w ⊢
  refine lv_aload_n hx hb dJ11_indexOf_2_0 rfl (lv_at hl 0 rfl) ?_
  refine mx_bi w (va_runV (As := []) (rest := []) X (ct_str_lat l G A _) (cwV 0 X.2.2.2.2 (lw_V q1930 q1931 q1932 q111 q1933) rfl rfl rfl (by decide +kernel) ⟨by rw [hRf]; decide, by rw [hRl]; decide⟩) (mx_preVS w rfl) rfl rfl hl.1 rfl (lv_room (Nat.le_of_ble_eq_true rfl)) dJ11_indexOf_2_1 ⟨by rw [hRc]; omega, by rw [hRs]; omega⟩) (fun r M9 H locs hp w => ?_)
  obtain ⟨eR, eM⟩ := hp; subst M9; subst eR
  refine lv_if_eq (tgt := 23) hx hb dJ11_indexOf_2_4 (by decide) (fun c_4 => absurd c_4 (by decide)) (fun c_4 => ?_)
  refine lv_aload_n hx hb dJ11_indexOf_2_7 rfl (lv_at hl 0 rfl) ?_
  refine mx_strV X w q2462 dJ11_indexOf_2_8 ?_
  refine lv_iload_n hx hb dJ11_indexOf_2_11 rfl (lv_at hl 1 rfl) ?_
  refine lv_iload_n hx hb dJ11_indexOf_2_12 rfl (lv_at hl 2 rfl) ?_
  refine lv_aload_n hx hb dJ11_indexOf_2_13 rfl (lv_at hl 0 rfl) ?_
  refine mx_bi w (va_runV (As := []) (rest := [.int (0 : Int32), .int ch, .ref (G.2 3)]) X (ct_str_len l G A _) (cwV 0 X.2.2.2.2 (lw_V q1934 q1935 q1936 q111 q1937) rfl rfl rfl (by decide +kernel) ⟨by rw [hRf]; decide, by rw [hRl]; decide⟩) (mx_preVS w rfl) rfl rfl hl.1 rfl (lv_room (Nat.le_of_ble_eq_true rfl)) dJ11_indexOf_2_14 ⟨by rw [hRc]; omega, by rw [hRs]; omega⟩) (fun r M9 H locs hp w => ?_)
  obtain ⟨eR, eM⟩ := hp; subst M9; subst eR
  refine mx_bi w (va_runS (As := [.ref (G.2 3), .int ch, .int (0 : Int32), .int (5 : Int32)]) (rest := []) X (ct_sl_ix l G A _ ch hb8 h0 h255) (va_cwS 4 X.2.2.2.2 (lw_S q1938 q1939 q128 q1940) rfl rfl rfl (by decide +kernel) ⟨by rw [hRf]; decide, by rw [hRl]; decide⟩) (mx_preS w rfl) rfl rfl hl.1 rfl (lv_room (Nat.le_of_ble_eq_true rfl)) dJ11_indexOf_2_17 ⟨by rw [hRc]; omega, by rw [hRs]; omega⟩) (fun r9 M9 H locs hp w => ?_)
  obtain ⟨eR, eM⟩ := hp; subst M9
  refine lv_goto (tgt := 36) hx hb dJ11_indexOf_2_20 (by decide) ?_
  exact fin r9 _ H locs ls 36 dJ11_indexOf_2_36 (⟨eR, rfl⟩) w
set_option maxHeartbeats 4000000 in
set_option maxRecDepth 100000 in
theorem ct_str_ix (l : Launch) (G : mg) (A : Nat → Prop) (M1 : mh) (ch : Int32) (hb8 : ch.toInt8.toInt32 = ch) (h0 : ¬ ch < 0) (h255 : ¬ (255 : Int32) < ch) : Met l yJ11_indexOf (ws_ yJ11_indexOf cJ11_indexOf 2 (some .int)) ({ frames := 3, cells := 0, slots := 0, locals := 70 }) (va_Pc [.ref (G.2 2), .int ch] (mU G A (fun M => M = M1))) (mQi G A (fun r M => ((∃ j, j < 5 ∧ sgn j = ch ∧ (∀ i, i < j → sgn i ≠ ch) ∧ r = nI j) ∨ ((∀ j, j < 5 → sgn j ≠ ch) ∧ r = -1)) ∧ M = M1)) 0 0 A := by
  refine mx_ofi (by decide) (Nat.le_of_ble_eq_true rfl) ?_
  intro p e R s m av below meth c M H Q ls X hRf hRl hRc hRs hin eM w fin hl
  subst M
  have X : CallFix p m c cJ11_indexOf 2 s av lw_all "java/lang/String" := X
  have hx := X.1
  have hb := X.2.1
  have hl : lv_has ls 2 [(0, .ref (G.2 2)), (1, .int ch)] := hl
  have hRf : R.frames = 3 := hRf
  have hRl : R.locals = 70 := hRl
  have hRc : R.cells = 0 := hRc
  have hRs : R.slots = 0 := hRs
  generalize ([] : List Loc) = locs at w ⊢
  refine lv_aload_n hx hb dJ11_indexOf_0 rfl (lv_at hl 0 rfl) ?_
  refine lv_iload_n hx hb dJ11_indexOf_1 rfl (lv_at hl 1 rfl) ?_
  refine lv_iconst (v := (0 : Int32)) hx hb dJ11_indexOf_2 (by decide) ?_
  refine mx_bi w (va_runV (As := [.int ch, .int (0 : Int32)]) (rest := []) X (ct_str_ix2 l G A _ ch hb8 h0 h255) (cwV 2 X.2.2.2.2 (lw_V q1926 q1927 q1928 q111 q1929) rfl rfl rfl (by decide +kernel) ⟨by rw [hRf]; decide, by rw [hRl]; decide⟩) (mx_preVS w rfl) rfl rfl hl.1 rfl (lv_room (Nat.le_of_ble_eq_true rfl)) dJ11_indexOf_3 ⟨by rw [hRc]; omega, by rw [hRs]; omega⟩) (fun r9 M9 H locs hp w => ?_)
  obtain ⟨eR, eM⟩ := hp; subst M9
  exact fin r9 _ H locs ls 6 dJ11_indexOf_6 (⟨eR, rfl⟩) w
