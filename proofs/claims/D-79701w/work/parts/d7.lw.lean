set_option maxRecDepth 100000
/-! LW: the law walked -/
set_option maxHeartbeats 40000000 in
set_option maxRecDepth 100000 in
theorem law_walk {p : Program} {e : Env} {s : State} {m : MethodId} {below : List Frame} {meth : Method} {c : Code} (l : Launch) {b L : Nat} {xs : Nat → Int32} {G : mg} (hL : L ≤ 256) (hr : meth.sig.returnType = ret) (hlocks : meth.locks = false) (hX : va_X b L xs s s.heap) (hbl : b < s.heap.size) (X : CallFix p m c cL_law 4 s #[Value.ref b] lw_all "FieldPumpsLaw") (w : mW G (fun q => s.heap.size ≤ q) s (fun _ => none) s.heap []) : W p l e room_1 s m #[Value.ref b] below meth c s.heap [] 0 0 (lw_Z below #[Value.ref b] s) (entryFrame m ([Value.ref b] : List Value).toArray 4) := by
  have hx := X.1
  have hb := X.2.1
  have hbA : ¬ (fun q : Nat => s.heap.size ≤ q) b := Nat.not_le.mpr hbl
  have hRf : room_1.frames = 24 := rfl
  have hRl : room_1.locals = 10583 := rfl
  have hRc : room_1.cells = 1200000 := rfl
  have hRs : room_1.slots = 5502250 := rfl
  have hl := lv_entry ([.ref b]) (n := 4) (Nat.le_of_ble_eq_true rfl)
  rw [lg_entry_eq]
  generalize (lg_sl ([.ref b]) ++ List.replicate (4 - (lg_sl ([.ref b])).length) Slot.unset).toArray = ls at hl ⊢
  have hl : lv_has ls 4 [(0, .ref b)] := hl
  have fin : ∀ (r : Bool) (M : mh) (H : Heap) (locs : List Loc) (ls : Array Slot) (pc : Nat), decode cL_law pc = .ok (.ireturn, 1) → r = true → mW G (fun q => s.heap.size ≤ q) s M H locs → W p l e room_1 s m #[Value.ref b] below meth c H locs 1200000 5502250 (lw_Z below #[Value.ref b] s) (F0 m pc ls [.int (bI r)]) := fun r M H locs ls pc hdg hp w => by
    subst hp
    exact va_forget w.2.2.2.1.2.2 (lw_ret hx hb hr hlocks hdg)
  generalize ([] : List Loc) = locs at w ⊢
  refine mx_new (T := TX0) X w in_X0 tyX0 tyX0_ok q138 q139 q96 (ci := 0) rfl (fs := [.null, .null, .null]) (fun j hj => vz_X0 j hj) (by rw [hRc]; omega) (by rw [hRs]; omega) dL_law_0 (fun fo H zfo w => ?_)
  refine raw_gen (P := fun M => M fo = some (.inr (0, [.null, .null, .null])) ∧ ∀ q, q ≠ fo → M q = (fun _ => none : mh) q) w ⟨va_up_s, fun q hq => va_up_k hq⟩ (fun Ma w hPa => ?_)
  refine lv_dup hx hb dL_law_3 rfl ?_
  refine mx_bv w (va_runI (As := []) (rest := [.ref fo]) X (ct_fp_init l G (fun q => s.heap.size ≤ q) (fun _ => none) fo) (cwI 0 X.2.2.2.2 (lw_meth q142) rfl rfl rfl (X.2.2.2.2 _ q96) (X.2.2.2.2 _ q140) (X.2.2.2.2 _ q141) rfl (by decide +kernel) ⟨by rw [hRf]; exact Nat.le_of_ble_eq_true rfl, by rw [hRl]; exact Nat.le_of_ble_eq_true rfl⟩) (mx_preS w hPa) rfl rfl hl.1 rfl (lv_room (Nat.le_of_ble_eq_true rfl)) dL_law_4 ⟨by rw [hRc]; omega, by rw [hRs]; omega⟩) (fun M3 H locs hp w => ?_)
  obtain ⟨own, adt, hX3⟩ := hp
  refine lv_astore_n (lv' := [(1, .ref fo), (0, .ref b)]) hx hb dL_law_7 rfl hl (by decide) rfl (fun ls hl => ?_)
  refine mx_new (T := TX4) X w in_X4 tyX4 tyX4_ok q2002 q2003 q113 (ci := 3) rfl (fs := mdZ) (fun j hj => vz_X4 j hj) (by rw [hRc]; omega) (by rw [hRs]; omega) dL_law_8 (fun h0 H zh0 w => ?_)
  refine raw_gen (P := fun M => M h0 = some (.inr (3, mdZ)) ∧ ∀ q, q ≠ h0 → M q = M3 q) w ⟨va_up_s, fun q hq => va_up_k hq⟩ (fun M4 w hP4 => ?_)
  obtain ⟨h4, k4⟩ := hP4
  refine lv_dup hx hb dL_law_11 rfl ?_
  refine mx_bv w (va_runI (As := []) (rest := [.ref h0]) X (mt_init l G (fun q => s.heap.size ≤ q) h0 M4 h4) (cwI 0 X.2.2.2.2 (lw_meth q2006) rfl rfl rfl (X.2.2.2.2 _ q113) (X.2.2.2.2 _ q2004) (X.2.2.2.2 _ q2005) rfl (by decide +kernel) ⟨by rw [hRf]; exact Nat.le_of_ble_eq_true rfl, by rw [hRl]; exact Nat.le_of_ble_eq_true rfl⟩) (mx_preS w rfl) rfl rfl hl.1 rfl (lv_room (Nat.le_of_ble_eq_true rfl)) dL_law_12 ⟨by rw [hRc]; omega, by rw [hRs]; omega⟩) (fun M5 H locs hp w => ?_)
  obtain ⟨pp, e0, hD, hk5, hn5⟩ := hp
  subst e0
  have hW : CWP G fo (fun q => ∃ i, i < 5 ∧ q = pp i) M5 (mf_init (fun _ _ => 0)) := cwp_first hX3 zh0 k4 hD hk5 hn5
  refine lv_astore_n (lv' := [(2, .ref (pp 0)), (1, .ref fo), (0, .ref b)]) hx hb dL_law_15 rfl hl (by decide) rfl (fun ls hl => ?_)
  refine lv_iconst (v := (0 : Int32)) hx hb dL_law_16 (by decide) ?_
  refine lv_istore_n (lv' := [(3, .int (0 : Int32)), (2, .ref (pp 0)), (1, .ref fo), (0, .ref b)]) hx hb dL_law_17 rfl hl (by decide) rfl (fun ls hl => ?_)
  have L18 : ∀ (n_18 : Nat) (n3_18 : Nat) (vv_18 : (Nat → Nat → Int32)) (kk_18 : Nat) (M : mh) (H : Heap) (locs : List Loc) (ls : Array Slot), (hk4 : n3_18 = 4 * kk_18) → (hL4 : n3_18 ≤ L + 4) → (hW : CWP G fo (fun q => ∃ i, i < 5 ∧ q = pp i) M vv_18) → (hD : Mdl G pp M M vv_18) → (hm : L + 4 < n3_18 + n_18) → lv_has ls 4 [(2, .ref (pp 0)), (1, .ref fo), (0, .ref b), (3, .int (nI n3_18))] → mW G A s M H locs → True → W p l e R s m av below meth c H locs 27 + 4200 * kk_18 1285 + 11400 * kk_18 Q (F0 m 18 ls []) := by
    intro n_18
    induction n_18 with
    | zero =>
      intro n3_18 vv_18 kk_18 M H locs ls hk4 hL4 hW hD hm hl w _hT
      exfalso; omega
    | succ n_18 ih_18 =>
      intro n3_18 vv_18 kk_18 M H locs ls hk4 hL4 hW hD hm hl w _hT
      refine lv_iload_n hx hb dL_law_18 rfl (lv_at hl 3 rfl) ?_
      refine lv_aload_n hx hb dL_law_19 rfl (lv_at hl 2 rfl) ?_
      refine va_slen hx hb hX hbl hbA w.2.2.2.1 dL_law_20 ?_
      change W p l e room_1 s m #[Value.ref b] below meth c _ _ _ _ _ (F0 m _ _ (.int (nI L) :: _))
      refine lv_iconst (v := (4 : Int32)) hx hb dL_law_21 (by decide) ?_
      refine lv_isub hx hb dL_law_22 ?_
      refine lv_icmp_gt (tgt := 836) hx hb dL_law_23 (by decide) (fun c_23 => ?_) (fun c_23 => ?_)
      · skip
        have hfin : true = true := rfl
        refine lv_iconst (v := (1 : Int32)) hx hb dL_law_836 (by decide) ?_
        refine W.widen (k := 1200000) (n := 5502250) (by omega) (by omega) ?_
        exact fin true _ H locs ls 837 dL_law_837 (hfin) w
      · skip
        have h4L : n3_18 + 4 ≤ L := law_le c_23 hL (by omega)
        obtain ⟨T, np, nz, ng, hT9, hI, hs9, ht9⟩ := hW.facts
        obtain ⟨fsx, hfx⟩ := hW.cell
        obtain ⟨e18, h18⟩ := rg_tN hI.nn (by decide)
        obtain ⟨e19, h19⟩ := rg_tN hI.ne (by decide)
        refine lv_aload_n hx hb dL_law_26 rfl (lv_at hl 2 rfl) ?_
        refine lv_iload_n hx hb dL_law_27 rfl (lv_at hl 3 rfl) ?_
        refine va_sld hx hb hX hbl hbA w.2.2.2.1 (vp_in_nI (show n3_18 < L by omega) (by omega)) dL_law_28 ?_
        rw [nI_clamp (show n3_18 < 2 ^ 31 by omega)]
        refine lv_bipush (v := (31 : Int32)) hx hb dL_law_29 (by decide) ?_
        refine lv_iand hx hb dL_law_31 ?_
        by_cases c_32_0 : ((xs (n3_18)) &&& (31 : Int32)) = (0 : Int32)
        · skip
          refine lv_tableIn (tgt := 152) hx hb dL_law_32 (by rw [c_32_0]; decide) (by rw [c_32_0]; decide) (by rw [c_32_0]; rfl) (by decide) ?_
          refine lv_aload_n hx hb dL_law_152 rfl (lv_at hl 1 rfl) ?_
          refine lv_aload_n hx hb dL_law_153 rfl (lv_at hl 2 rfl) ?_
          refine lv_iload_n hx hb dL_law_154 rfl (lv_at hl 3 rfl) ?_
          refine lv_iconst (v := (1 : Int32)) hx hb dL_law_155 (by decide) ?_
          refine mx_nadd (u := n3_18) (v := 1) hx hb rfl rfl dL_law_156 ?_
          refine va_sld hx hb hX hbl hbA w.2.2.2.1 (vp_in_nI (show n3_18 + 1 < L by omega) (by omega)) dL_law_157 ?_
          rw [nI_clamp (show n3_18 + 1 < 2 ^ 31 by omega)]
          refine lv_aload_n hx hb dL_law_158 rfl (lv_at hl 2 rfl) ?_
          refine lv_iload_n hx hb dL_law_159 rfl (lv_at hl 3 rfl) ?_
          refine lv_iconst (v := (2 : Int32)) hx hb dL_law_160 (by decide) ?_
          refine mx_nadd (u := n3_18) (v := 2) hx hb rfl rfl dL_law_161 ?_
          refine va_sld hx hb hX hbl hbA w.2.2.2.1 (vp_in_nI (show n3_18 + 2 < L by omega) (by omega)) dL_law_162 ?_
          rw [nI_clamp (show n3_18 + 2 < 2 ^ 31 by omega)]
          refine mx_bi w (va_runV (As := [.int (xs (n3_18 + 1)), .int (xs (n3_18 + 2))]) (rest := []) X (ct_set l G (fun q => s.heap.size ≤ q) _ fo (fun q => ∃ i, i < 5 ∧ q = pp i) vv_18 hW (xs (n3_18 + 1)) (xs (n3_18 + 2))) (cwV 2 X.2.2.2.2 (lw_V q483 q484 q485 q96 q486) rfl rfl rfl (by decide +kernel) ⟨by rw [hRf]; exact Nat.le_of_ble_eq_true rfl, by rw [hRl]; exact Nat.le_of_ble_eq_true rfl⟩) (mx_preV w rfl hfx rfl) rfl rfl hl.1 rfl (lv_room (Nat.le_of_ble_eq_true rfl)) dL_law_163 ⟨by rw [hRc]; omega, by rw [hRs]; omega⟩) (fun r1 M1 H locs hp w => ?_)
          obtain ⟨e1, hW1, hZ1⟩ := hp
          have hD1 := hD.keep hZ1
          refine lv_aload_n hx hb dL_law_166 rfl (lv_at hl 0 rfl) ?_
          refine lv_aload_n hx hb dL_law_167 rfl (lv_at hl 2 rfl) ?_
          refine lv_iload_n hx hb dL_law_168 rfl (lv_at hl 3 rfl) ?_
          refine lv_iconst (v := (1 : Int32)) hx hb dL_law_169 (by decide) ?_
          refine mx_nadd (u := n3_18) (v := 1) hx hb rfl rfl dL_law_170 ?_
          refine va_sld hx hb hX hbl hbA w.2.2.2.1 (vp_in_nI (show n3_18 + 1 < L by omega) (by omega)) dL_law_171 ?_
          rw [nI_clamp (show n3_18 + 1 < 2 ^ 31 by omega)]
          refine lv_aload_n hx hb dL_law_172 rfl (lv_at hl 2 rfl) ?_
          refine lv_iload_n hx hb dL_law_173 rfl (lv_at hl 3 rfl) ?_
          refine lv_iconst (v := (2 : Int32)) hx hb dL_law_174 (by decide) ?_
          refine mx_nadd (u := n3_18) (v := 2) hx hb rfl rfl dL_law_175 ?_
          refine va_sld hx hb hX hbl hbA w.2.2.2.1 (vp_in_nI (show n3_18 + 2 < L by omega) (by omega)) dL_law_176 ?_
          rw [nI_clamp (show n3_18 + 2 < 2 ^ 31 by omega)]
          refine mx_bi w (va_runV (As := [.int (xs (n3_18 + 1)), .int (xs (n3_18 + 2))]) (rest := [.int r1]) X (mt_set l G (fun q => s.heap.size ≤ q) pp M1 vv_18 (xs (n3_18 + 1)) (xs (n3_18 + 2)) hs9) (cwV 2 X.2.2.2.2 (lw_V q2051 q2052 q2053 q113 q2054) rfl rfl rfl (by decide +kernel) ⟨by rw [hRf]; exact Nat.le_of_ble_eq_true rfl, by rw [hRl]; exact Nat.le_of_ble_eq_true rfl⟩) (mx_preV w hD1 hD1.2.1 rfl) rfl rfl hl.1 rfl (lv_room (Nat.le_of_ble_eq_true rfl)) dL_law_177 ⟨by rw [hRc]; omega, by rw [hRs]; omega⟩) (fun r2 M2 H locs hp w => ?_)
          obtain ⟨e2, hD2⟩ := hp
          have hW := hW1.keepZ hD1 hD2
          have hD := hD2.self
          have e12 : r1 = r2 := e1.trans e2.symm
          refine lv_icmp_eq (tgt := 830) hx hb dL_law_180 (by decide) (fun c_180 => ?_) (fun c_180 => ?_)
          · skip
            refine lv_iinc (v := (nI (n3_18 + 4))) (lv' := [(3, .int (nI (n3_18 + 4))), (2, .ref (pp 0)), (1, .ref fo), (0, .ref b)]) hx hb dL_law_830 hl (k := 3) rfl (nI_incr _ 4) (by decide) rfl (fun ls hl => ?_)
            refine lv_goto (tgt := 18) hx hb dL_law_833 (by decide) ?_
            refine W.widen (k := 27 + 4200 * (kk_18 + 1)) (n := 1285 + 11400 * (kk_18 + 1)) (by omega) (by omega) ?_
            exact ih_18 (n3_18 + 4) ((mf_set vv_18 (xs (n3_18 + 1)) (xs (n3_18 + 2))).2) (kk_18 + 1) _ H locs ls (by first | omega | assumption | exact (by omega)) (by first | omega | assumption | exact (by omega)) (by first | omega | assumption | exact hW) (by first | omega | assumption | exact hD) (by first | omega | assumption) (lv_sub hl [1, 2, 3, 0] rfl) w trivial
          · skip
            have hfin : false = true := absurd e12 c_180
            refine lv_iconst (v := (0 : Int32)) hx hb dL_law_183 (by decide) ?_
            refine W.widen (k := 1200000) (n := 5502250) (by omega) (by omega) ?_
            exact fin false _ H locs ls 184 dL_law_184 (hfin) w
        · skip
          by_cases c_32_1 : ((xs (n3_18)) &&& (31 : Int32)) = (1 : Int32)
          · skip
            refine lv_tableIn (tgt := 185) hx hb dL_law_32 (by rw [c_32_1]; decide) (by rw [c_32_1]; decide) (by rw [c_32_1]; rfl) (by decide) ?_
            refine lv_aload_n hx hb dL_law_185 rfl (lv_at hl 1 rfl) ?_
            refine lv_aload_n hx hb dL_law_186 rfl (lv_at hl 2 rfl) ?_
            refine lv_iload_n hx hb dL_law_187 rfl (lv_at hl 3 rfl) ?_
            refine lv_iconst (v := (1 : Int32)) hx hb dL_law_188 (by decide) ?_
            refine mx_nadd (u := n3_18) (v := 1) hx hb rfl rfl dL_law_189 ?_
            refine va_sld hx hb hX hbl hbA w.2.2.2.1 (vp_in_nI (show n3_18 + 1 < L by omega) (by omega)) dL_law_190 ?_
            rw [nI_clamp (show n3_18 + 1 < 2 ^ 31 by omega)]
            refine lv_aload_n hx hb dL_law_191 rfl (lv_at hl 2 rfl) ?_
            refine lv_iload_n hx hb dL_law_192 rfl (lv_at hl 3 rfl) ?_
            refine lv_iconst (v := (2 : Int32)) hx hb dL_law_193 (by decide) ?_
            refine mx_nadd (u := n3_18) (v := 2) hx hb rfl rfl dL_law_194 ?_
            refine va_sld hx hb hX hbl hbA w.2.2.2.1 (vp_in_nI (show n3_18 + 2 < L by omega) (by omega)) dL_law_195 ?_
            rw [nI_clamp (show n3_18 + 2 < 2 ^ 31 by omega)]
            refine lv_aload_n hx hb dL_law_196 rfl (lv_at hl 2 rfl) ?_
            refine lv_iload_n hx hb dL_law_197 rfl (lv_at hl 3 rfl) ?_
            refine lv_iconst (v := (3 : Int32)) hx hb dL_law_198 (by decide) ?_
            refine mx_nadd (u := n3_18) (v := 3) hx hb rfl rfl dL_law_199 ?_
            refine va_sld hx hb hX hbl hbA w.2.2.2.1 (vp_in_nI (show n3_18 + 3 < L by omega) (by omega)) dL_law_200 ?_
            rw [nI_clamp (show n3_18 + 3 < 2 ^ 31 by omega)]
            refine mx_bi w (va_runV (As := [.int (xs (n3_18 + 1)), .int (xs (n3_18 + 2)), .int (xs (n3_18 + 3))]) (rest := []) X (ct_pump l G (fun q => s.heap.size ≤ q) _ fo (fun q => ∃ i, i < 5 ∧ q = pp i) vv_18 hW (xs (n3_18 + 1)) (xs (n3_18 + 2)) (xs (n3_18 + 3))) (cwV 3 X.2.2.2.2 (lw_V q800 q801 q802 q96 q803) rfl rfl rfl (by decide +kernel) ⟨by rw [hRf]; exact Nat.le_of_ble_eq_true rfl, by rw [hRl]; exact Nat.le_of_ble_eq_true rfl⟩) (mx_preV w rfl hfx rfl) rfl rfl hl.1 rfl (lv_room (Nat.le_of_ble_eq_true rfl)) dL_law_201 ⟨by rw [hRc]; omega, by rw [hRs]; omega⟩) (fun r1 M1 H locs hp w => ?_)
            obtain ⟨e1, hW1, hZ1⟩ := hp
            have hD1 := hD.keep hZ1
            refine lv_aload_n hx hb dL_law_204 rfl (lv_at hl 0 rfl) ?_
            refine lv_aload_n hx hb dL_law_205 rfl (lv_at hl 2 rfl) ?_
            refine lv_iload_n hx hb dL_law_206 rfl (lv_at hl 3 rfl) ?_
            refine lv_iconst (v := (1 : Int32)) hx hb dL_law_207 (by decide) ?_
            refine mx_nadd (u := n3_18) (v := 1) hx hb rfl rfl dL_law_208 ?_
            refine va_sld hx hb hX hbl hbA w.2.2.2.1 (vp_in_nI (show n3_18 + 1 < L by omega) (by omega)) dL_law_209 ?_
            rw [nI_clamp (show n3_18 + 1 < 2 ^ 31 by omega)]
            refine lv_aload_n hx hb dL_law_210 rfl (lv_at hl 2 rfl) ?_
            refine lv_iload_n hx hb dL_law_211 rfl (lv_at hl 3 rfl) ?_
            refine lv_iconst (v := (2 : Int32)) hx hb dL_law_212 (by decide) ?_
            refine mx_nadd (u := n3_18) (v := 2) hx hb rfl rfl dL_law_213 ?_
            refine va_sld hx hb hX hbl hbA w.2.2.2.1 (vp_in_nI (show n3_18 + 2 < L by omega) (by omega)) dL_law_214 ?_
            rw [nI_clamp (show n3_18 + 2 < 2 ^ 31 by omega)]
            refine lv_aload_n hx hb dL_law_215 rfl (lv_at hl 2 rfl) ?_
            refine lv_iload_n hx hb dL_law_216 rfl (lv_at hl 3 rfl) ?_
            refine lv_iconst (v := (3 : Int32)) hx hb dL_law_217 (by decide) ?_
            refine mx_nadd (u := n3_18) (v := 3) hx hb rfl rfl dL_law_218 ?_
            refine va_sld hx hb hX hbl hbA w.2.2.2.1 (vp_in_nI (show n3_18 + 3 < L by omega) (by omega)) dL_law_219 ?_
            rw [nI_clamp (show n3_18 + 3 < 2 ^ 31 by omega)]
            refine mx_bi w (va_runV (As := [.int (xs (n3_18 + 1)), .int (xs (n3_18 + 2)), .int (xs (n3_18 + 3))]) (rest := [.int r1]) X (mt_pump l G (fun q => s.heap.size ≤ q) pp M1 vv_18 (xs (n3_18 + 1)) (xs (n3_18 + 2)) (xs (n3_18 + 3)) T np nz ng hI hs9) (cwV 3 X.2.2.2.2 (lw_V q2082 q2083 q2084 q113 q2085) rfl rfl rfl (by decide +kernel) ⟨by rw [hRf]; exact Nat.le_of_ble_eq_true rfl, by rw [hRl]; exact Nat.le_of_ble_eq_true rfl⟩) (mx_preV w hD1 hD1.2.1 rfl) rfl rfl hl.1 rfl (lv_room (Nat.le_of_ble_eq_true rfl)) dL_law_220 ⟨by rw [hRc]; omega, by rw [hRs]; omega⟩) (fun r2 M2 H locs hp w => ?_)
            obtain ⟨e2, hD2⟩ := hp
            have hW := hW1.keepZ hD1 hD2
            have hD := hD2.self
            have e12 : r1 = r2 := e1.trans e2.symm
            refine lv_icmp_eq (tgt := 830) hx hb dL_law_223 (by decide) (fun c_223 => ?_) (fun c_223 => ?_)
            · skip
              refine lv_iinc (v := (nI (n3_18 + 4))) (lv' := [(3, .int (nI (n3_18 + 4))), (2, .ref (pp 0)), (1, .ref fo), (0, .ref b)]) hx hb dL_law_830 hl (k := 3) rfl (nI_incr _ 4) (by decide) rfl (fun ls hl => ?_)
              refine lv_goto (tgt := 18) hx hb dL_law_833 (by decide) ?_
              refine W.widen (k := 27 + 4200 * (kk_18 + 1)) (n := 1285 + 11400 * (kk_18 + 1)) (by omega) (by omega) ?_
              exact ih_18 (n3_18 + 4) ((mf_pump vv_18 (xs (n3_18 + 1)) (xs (n3_18 + 2)) (xs (n3_18 + 3))).2) (kk_18 + 1) _ H locs ls (by first | omega | assumption | exact (by omega)) (by first | omega | assumption | exact (by omega)) (by first | omega | assumption | exact hW) (by first | omega | assumption | exact hD) (by first | omega | assumption) (lv_sub hl [1, 2, 3, 0] rfl) w trivial
            · skip
              have hfin : false = true := absurd e12 c_223
              refine lv_iconst (v := (0 : Int32)) hx hb dL_law_226 (by decide) ?_
              refine W.widen (k := 1200000) (n := 5502250) (by omega) (by omega) ?_
              exact fin false _ H locs ls 227 dL_law_227 (hfin) w
          · skip
            by_cases c_32_2 : ((xs (n3_18)) &&& (31 : Int32)) = (2 : Int32)
            · skip
              refine lv_tableIn (tgt := 228) hx hb dL_law_32 (by rw [c_32_2]; decide) (by rw [c_32_2]; decide) (by rw [c_32_2]; rfl) (by decide) ?_
              refine lv_aload_n hx hb dL_law_228 rfl (lv_at hl 1 rfl) ?_
              refine lv_aload_n hx hb dL_law_229 rfl (lv_at hl 2 rfl) ?_
              refine lv_iload_n hx hb dL_law_230 rfl (lv_at hl 3 rfl) ?_
              refine lv_iconst (v := (1 : Int32)) hx hb dL_law_231 (by decide) ?_
              refine mx_nadd (u := n3_18) (v := 1) hx hb rfl rfl dL_law_232 ?_
              refine va_sld hx hb hX hbl hbA w.2.2.2.1 (vp_in_nI (show n3_18 + 1 < L by omega) (by omega)) dL_law_233 ?_
              rw [nI_clamp (show n3_18 + 1 < 2 ^ 31 by omega)]
              refine lv_aload_n hx hb dL_law_234 rfl (lv_at hl 2 rfl) ?_
              refine lv_iload_n hx hb dL_law_235 rfl (lv_at hl 3 rfl) ?_
              refine lv_iconst (v := (2 : Int32)) hx hb dL_law_236 (by decide) ?_
              refine mx_nadd (u := n3_18) (v := 2) hx hb rfl rfl dL_law_237 ?_
              refine va_sld hx hb hX hbl hbA w.2.2.2.1 (vp_in_nI (show n3_18 + 2 < L by omega) (by omega)) dL_law_238 ?_
              rw [nI_clamp (show n3_18 + 2 < 2 ^ 31 by omega)]
              refine mx_bi w (va_runV (As := [.int (xs (n3_18 + 1)), .int (xs (n3_18 + 2))]) (rest := []) X (ct_service l G (fun q => s.heap.size ≤ q) _ fo (fun q => ∃ i, i < 5 ∧ q = pp i) vv_18 hW (xs (n3_18 + 1)) (xs (n3_18 + 2))) (cwV 2 X.2.2.2.2 (lw_V q824 q825 q826 q96 q827) rfl rfl rfl (by decide +kernel) ⟨by rw [hRf]; exact Nat.le_of_ble_eq_true rfl, by rw [hRl]; exact Nat.le_of_ble_eq_true rfl⟩) (mx_preV w rfl hfx rfl) rfl rfl hl.1 rfl (lv_room (Nat.le_of_ble_eq_true rfl)) dL_law_239 ⟨by rw [hRc]; omega, by rw [hRs]; omega⟩) (fun r1 M1 H locs hp w => ?_)
              obtain ⟨e1, hW1, hZ1⟩ := hp
              have hD1 := hD.keep hZ1
              refine lv_aload_n hx hb dL_law_242 rfl (lv_at hl 0 rfl) ?_
              refine lv_aload_n hx hb dL_law_243 rfl (lv_at hl 2 rfl) ?_
              refine lv_iload_n hx hb dL_law_244 rfl (lv_at hl 3 rfl) ?_
              refine lv_iconst (v := (1 : Int32)) hx hb dL_law_245 (by decide) ?_
              refine mx_nadd (u := n3_18) (v := 1) hx hb rfl rfl dL_law_246 ?_
              refine va_sld hx hb hX hbl hbA w.2.2.2.1 (vp_in_nI (show n3_18 + 1 < L by omega) (by omega)) dL_law_247 ?_
              rw [nI_clamp (show n3_18 + 1 < 2 ^ 31 by omega)]
              refine lv_aload_n hx hb dL_law_248 rfl (lv_at hl 2 rfl) ?_
              refine lv_iload_n hx hb dL_law_249 rfl (lv_at hl 3 rfl) ?_
              refine lv_iconst (v := (2 : Int32)) hx hb dL_law_250 (by decide) ?_
              refine mx_nadd (u := n3_18) (v := 2) hx hb rfl rfl dL_law_251 ?_
              refine va_sld hx hb hX hbl hbA w.2.2.2.1 (vp_in_nI (show n3_18 + 2 < L by omega) (by omega)) dL_law_252 ?_
              rw [nI_clamp (show n3_18 + 2 < 2 ^ 31 by omega)]
              refine mx_bi w (va_runV (As := [.int (xs (n3_18 + 1)), .int (xs (n3_18 + 2))]) (rest := [.int r1]) X (mt_service l G (fun q => s.heap.size ≤ q) pp M1 vv_18 (xs (n3_18 + 1)) (xs (n3_18 + 2)) T np nz ng hI hs9) (cwV 2 X.2.2.2.2 (lw_V q2093 q2094 q2095 q113 q2096) rfl rfl rfl (by decide +kernel) ⟨by rw [hRf]; exact Nat.le_of_ble_eq_true rfl, by rw [hRl]; exact Nat.le_of_ble_eq_true rfl⟩) (mx_preV w hD1 hD1.2.1 rfl) rfl rfl hl.1 rfl (lv_room (Nat.le_of_ble_eq_true rfl)) dL_law_253 ⟨by rw [hRc]; omega, by rw [hRs]; omega⟩) (fun r2 M2 H locs hp w => ?_)
              obtain ⟨e2, hD2⟩ := hp
              have hW := hW1.keepZ hD1 hD2
              have hD := hD2.self
              have e12 : r1 = r2 := e1.trans e2.symm
              refine lv_icmp_eq (tgt := 830) hx hb dL_law_256 (by decide) (fun c_256 => ?_) (fun c_256 => ?_)
              · skip
                refine lv_iinc (v := (nI (n3_18 + 4))) (lv' := [(3, .int (nI (n3_18 + 4))), (2, .ref (pp 0)), (1, .ref fo), (0, .ref b)]) hx hb dL_law_830 hl (k := 3) rfl (nI_incr _ 4) (by decide) rfl (fun ls hl => ?_)
                refine lv_goto (tgt := 18) hx hb dL_law_833 (by decide) ?_
                refine W.widen (k := 27 + 4200 * (kk_18 + 1)) (n := 1285 + 11400 * (kk_18 + 1)) (by omega) (by omega) ?_
                exact ih_18 (n3_18 + 4) ((mf_service vv_18 (xs (n3_18 + 1)) (xs (n3_18 + 2))).2) (kk_18 + 1) _ H locs ls (by first | omega | assumption | exact (by omega)) (by first | omega | assumption | exact (by omega)) (by first | omega | assumption | exact hW) (by first | omega | assumption | exact hD) (by first | omega | assumption) (lv_sub hl [1, 2, 3, 0] rfl) w trivial
              · skip
                have hfin : false = true := absurd e12 c_256
                refine lv_iconst (v := (0 : Int32)) hx hb dL_law_259 (by decide) ?_
                refine W.widen (k := 1200000) (n := 5502250) (by omega) (by omega) ?_
                exact fin false _ H locs ls 260 dL_law_260 (hfin) w
            · skip
              by_cases c_32_3 : ((xs (n3_18)) &&& (31 : Int32)) = (3 : Int32)
              · skip
                refine lv_tableIn (tgt := 261) hx hb dL_law_32 (by rw [c_32_3]; decide) (by rw [c_32_3]; decide) (by rw [c_32_3]; rfl) (by decide) ?_
                refine lv_aload_n hx hb dL_law_261 rfl (lv_at hl 1 rfl) ?_
                refine lv_aload_n hx hb dL_law_262 rfl (lv_at hl 2 rfl) ?_
                refine lv_iload_n hx hb dL_law_263 rfl (lv_at hl 3 rfl) ?_
                refine lv_iconst (v := (1 : Int32)) hx hb dL_law_264 (by decide) ?_
                refine mx_nadd (u := n3_18) (v := 1) hx hb rfl rfl dL_law_265 ?_
                refine va_sld hx hb hX hbl hbA w.2.2.2.1 (vp_in_nI (show n3_18 + 1 < L by omega) (by omega)) dL_law_266 ?_
                rw [nI_clamp (show n3_18 + 1 < 2 ^ 31 by omega)]
                refine lv_aload_n hx hb dL_law_267 rfl (lv_at hl 2 rfl) ?_
                refine lv_iload_n hx hb dL_law_268 rfl (lv_at hl 3 rfl) ?_
                refine lv_iconst (v := (2 : Int32)) hx hb dL_law_269 (by decide) ?_
                refine mx_nadd (u := n3_18) (v := 2) hx hb rfl rfl dL_law_270 ?_
                refine va_sld hx hb hX hbl hbA w.2.2.2.1 (vp_in_nI (show n3_18 + 2 < L by omega) (by omega)) dL_law_271 ?_
                rw [nI_clamp (show n3_18 + 2 < 2 ^ 31 by omega)]
                refine mx_bi w (va_runV (As := [.int (xs (n3_18 + 1)), .int (xs (n3_18 + 2))]) (rest := []) X (cw_pumpOf l G (fun q => s.heap.size ≤ q) _ fo (fun q => ∃ i, i < 5 ∧ q = pp i) vv_18 hW (xs (n3_18 + 1)) (xs (n3_18 + 2))) (cwV 2 X.2.2.2.2 (lw_V q1548 q1549 q1550 q96 q1551) rfl rfl rfl (by decide +kernel) ⟨by rw [hRf]; exact Nat.le_of_ble_eq_true rfl, by rw [hRl]; exact Nat.le_of_ble_eq_true rfl⟩) (mx_preV w rfl hfx rfl) rfl rfl hl.1 rfl (lv_room (Nat.le_of_ble_eq_true rfl)) dL_law_272 ⟨by rw [hRc]; omega, by rw [hRs]; omega⟩) (fun r1 M1 H locs hp w => ?_)
                obtain ⟨e1, hW1, hZ1⟩ := hp
                have hD1 := hD.keep hZ1
                refine lv_aload_n hx hb dL_law_275 rfl (lv_at hl 0 rfl) ?_
                refine lv_aload_n hx hb dL_law_276 rfl (lv_at hl 2 rfl) ?_
                refine lv_iload_n hx hb dL_law_277 rfl (lv_at hl 3 rfl) ?_
                refine lv_iconst (v := (1 : Int32)) hx hb dL_law_278 (by decide) ?_
                refine mx_nadd (u := n3_18) (v := 1) hx hb rfl rfl dL_law_279 ?_
                refine va_sld hx hb hX hbl hbA w.2.2.2.1 (vp_in_nI (show n3_18 + 1 < L by omega) (by omega)) dL_law_280 ?_
                rw [nI_clamp (show n3_18 + 1 < 2 ^ 31 by omega)]
                refine lv_aload_n hx hb dL_law_281 rfl (lv_at hl 2 rfl) ?_
                refine lv_iload_n hx hb dL_law_282 rfl (lv_at hl 3 rfl) ?_
                refine lv_iconst (v := (2 : Int32)) hx hb dL_law_283 (by decide) ?_
                refine mx_nadd (u := n3_18) (v := 2) hx hb rfl rfl dL_law_284 ?_
                refine va_sld hx hb hX hbl hbA w.2.2.2.1 (vp_in_nI (show n3_18 + 2 < L by omega) (by omega)) dL_law_285 ?_
                rw [nI_clamp (show n3_18 + 2 < 2 ^ 31 by omega)]
                refine mx_bi w (va_runV (As := [.int (xs (n3_18 + 1)), .int (xs (n3_18 + 2))]) (rest := [.int r1]) X (mt_pumpOf l G (fun q => s.heap.size ≤ q) pp M1 vv_18 (xs (n3_18 + 1)) (xs (n3_18 + 2)) T np nz ng hI) (cwV 2 X.2.2.2.2 (lw_V q2126 q2127 q2128 q113 q2129) rfl rfl rfl (by decide +kernel) ⟨by rw [hRf]; exact Nat.le_of_ble_eq_true rfl, by rw [hRl]; exact Nat.le_of_ble_eq_true rfl⟩) (mx_preV w hD1 hD1.2.1 rfl) rfl rfl hl.1 rfl (lv_room (Nat.le_of_ble_eq_true rfl)) dL_law_286 ⟨by rw [hRc]; omega, by rw [hRs]; omega⟩) (fun r2 M2 H locs hp w => ?_)
                obtain ⟨e2, hD2⟩ := hp
                have hW := hW1.keepZ hD1 hD2
                have hD := hD2.self
                have e12 : r1 = r2 := e1.trans e2.symm
                refine lv_icmp_eq (tgt := 830) hx hb dL_law_289 (by decide) (fun c_289 => ?_) (fun c_289 => ?_)
                · skip
                  refine lv_iinc (v := (nI (n3_18 + 4))) (lv' := [(3, .int (nI (n3_18 + 4))), (2, .ref (pp 0)), (1, .ref fo), (0, .ref b)]) hx hb dL_law_830 hl (k := 3) rfl (nI_incr _ 4) (by decide) rfl (fun ls hl => ?_)
                  refine lv_goto (tgt := 18) hx hb dL_law_833 (by decide) ?_
                  refine W.widen (k := 27 + 4200 * (kk_18 + 1)) (n := 1285 + 11400 * (kk_18 + 1)) (by omega) (by omega) ?_
                  exact ih_18 (n3_18 + 4) vv_18 (kk_18 + 1) _ H locs ls (by first | omega | assumption | exact (by omega)) (by first | omega | assumption | exact (by omega)) (by first | omega | assumption | exact hW) (by first | omega | assumption | exact hD) (by first | omega | assumption) (lv_sub hl [1, 2, 3, 0] rfl) w trivial
                · skip
                  have hfin : false = true := absurd e12 c_289
                  refine lv_iconst (v := (0 : Int32)) hx hb dL_law_292 (by decide) ?_
                  refine W.widen (k := 1200000) (n := 5502250) (by omega) (by omega) ?_
                  exact fin false _ H locs ls 293 dL_law_293 (hfin) w
              · skip
                by_cases c_32_4 : ((xs (n3_18)) &&& (31 : Int32)) = (4 : Int32)
                · skip
                  refine lv_tableIn (tgt := 294) hx hb dL_law_32 (by rw [c_32_4]; decide) (by rw [c_32_4]; decide) (by rw [c_32_4]; rfl) (by decide) ?_
                  refine lv_aload_n hx hb dL_law_294 rfl (lv_at hl 1 rfl) ?_
                  refine lv_aload_n hx hb dL_law_295 rfl (lv_at hl 2 rfl) ?_
                  refine lv_iload_n hx hb dL_law_296 rfl (lv_at hl 3 rfl) ?_
                  refine lv_iconst (v := (1 : Int32)) hx hb dL_law_297 (by decide) ?_
                  refine mx_nadd (u := n3_18) (v := 1) hx hb rfl rfl dL_law_298 ?_
                  refine va_sld hx hb hX hbl hbA w.2.2.2.1 (vp_in_nI (show n3_18 + 1 < L by omega) (by omega)) dL_law_299 ?_
                  rw [nI_clamp (show n3_18 + 1 < 2 ^ 31 by omega)]
                  refine lv_aload_n hx hb dL_law_300 rfl (lv_at hl 2 rfl) ?_
                  refine lv_iload_n hx hb dL_law_301 rfl (lv_at hl 3 rfl) ?_
                  refine lv_iconst (v := (2 : Int32)) hx hb dL_law_302 (by decide) ?_
                  refine mx_nadd (u := n3_18) (v := 2) hx hb rfl rfl dL_law_303 ?_
                  refine va_sld hx hb hX hbl hbA w.2.2.2.1 (vp_in_nI (show n3_18 + 2 < L by omega) (by omega)) dL_law_304 ?_
                  rw [nI_clamp (show n3_18 + 2 < 2 ^ 31 by omega)]
                  refine lv_aload_n hx hb dL_law_305 rfl (lv_at hl 2 rfl) ?_
                  refine lv_iload_n hx hb dL_law_306 rfl (lv_at hl 3 rfl) ?_
                  refine lv_iconst (v := (3 : Int32)) hx hb dL_law_307 (by decide) ?_
                  refine mx_nadd (u := n3_18) (v := 3) hx hb rfl rfl dL_law_308 ?_
                  refine va_sld hx hb hX hbl hbA w.2.2.2.1 (vp_in_nI (show n3_18 + 3 < L by omega) (by omega)) dL_law_309 ?_
                  rw [nI_clamp (show n3_18 + 3 < 2 ^ 31 by omega)]
                  refine mx_bi w (va_runV (As := [.int (xs (n3_18 + 1)), .int (xs (n3_18 + 2)), .int (xs (n3_18 + 3))]) (rest := []) X (cw_curve l G (fun q => s.heap.size ≤ q) _ fo (fun q => ∃ i, i < 5 ∧ q = pp i) vv_18 hW (xs (n3_18 + 1)) (xs (n3_18 + 2)) (xs (n3_18 + 3))) (cwV 3 X.2.2.2.2 (lw_V q1567 q1568 q1569 q96 q1570) rfl rfl rfl (by decide +kernel) ⟨by rw [hRf]; exact Nat.le_of_ble_eq_true rfl, by rw [hRl]; exact Nat.le_of_ble_eq_true rfl⟩) (mx_preV w rfl hfx rfl) rfl rfl hl.1 rfl (lv_room (Nat.le_of_ble_eq_true rfl)) dL_law_310 ⟨by rw [hRc]; omega, by rw [hRs]; omega⟩) (fun r1 M1 H locs hp w => ?_)
                  obtain ⟨e1, hW1, hZ1⟩ := hp
                  have hD1 := hD.keep hZ1
                  refine lv_aload_n hx hb dL_law_313 rfl (lv_at hl 0 rfl) ?_
                  refine lv_aload_n hx hb dL_law_314 rfl (lv_at hl 2 rfl) ?_
                  refine lv_iload_n hx hb dL_law_315 rfl (lv_at hl 3 rfl) ?_
                  refine lv_iconst (v := (1 : Int32)) hx hb dL_law_316 (by decide) ?_
                  refine mx_nadd (u := n3_18) (v := 1) hx hb rfl rfl dL_law_317 ?_
                  refine va_sld hx hb hX hbl hbA w.2.2.2.1 (vp_in_nI (show n3_18 + 1 < L by omega) (by omega)) dL_law_318 ?_
                  rw [nI_clamp (show n3_18 + 1 < 2 ^ 31 by omega)]
                  refine lv_aload_n hx hb dL_law_319 rfl (lv_at hl 2 rfl) ?_
                  refine lv_iload_n hx hb dL_law_320 rfl (lv_at hl 3 rfl) ?_
                  refine lv_iconst (v := (2 : Int32)) hx hb dL_law_321 (by decide) ?_
                  refine mx_nadd (u := n3_18) (v := 2) hx hb rfl rfl dL_law_322 ?_
                  refine va_sld hx hb hX hbl hbA w.2.2.2.1 (vp_in_nI (show n3_18 + 2 < L by omega) (by omega)) dL_law_323 ?_
                  rw [nI_clamp (show n3_18 + 2 < 2 ^ 31 by omega)]
                  refine lv_aload_n hx hb dL_law_324 rfl (lv_at hl 2 rfl) ?_
                  refine lv_iload_n hx hb dL_law_325 rfl (lv_at hl 3 rfl) ?_
                  refine lv_iconst (v := (3 : Int32)) hx hb dL_law_326 (by decide) ?_
                  refine mx_nadd (u := n3_18) (v := 3) hx hb rfl rfl dL_law_327 ?_
                  refine va_sld hx hb hX hbl hbA w.2.2.2.1 (vp_in_nI (show n3_18 + 3 < L by omega) (by omega)) dL_law_328 ?_
                  rw [nI_clamp (show n3_18 + 3 < 2 ^ 31 by omega)]
                  refine mx_bi w (va_runV (As := [.int (xs (n3_18 + 1)), .int (xs (n3_18 + 2)), .int (xs (n3_18 + 3))]) (rest := [.int r1]) X (mt_curve l G (fun q => s.heap.size ≤ q) pp M1 vv_18 (xs (n3_18 + 1)) (xs (n3_18 + 2)) (xs (n3_18 + 3)) T np nz ng hI) (cwV 3 X.2.2.2.2 (lw_V q2139 q2140 q2141 q113 q2142) rfl rfl rfl (by decide +kernel) ⟨by rw [hRf]; exact Nat.le_of_ble_eq_true rfl, by rw [hRl]; exact Nat.le_of_ble_eq_true rfl⟩) (mx_preV w hD1 hD1.2.1 rfl) rfl rfl hl.1 rfl (lv_room (Nat.le_of_ble_eq_true rfl)) dL_law_329 ⟨by rw [hRc]; omega, by rw [hRs]; omega⟩) (fun r2 M2 H locs hp w => ?_)
                  obtain ⟨e2, hD2⟩ := hp
                  have hW := hW1.keepZ hD1 hD2
                  have hD := hD2.self
                  have e12 : r1 = r2 := e1.trans e2.symm
                  refine lv_icmp_eq (tgt := 830) hx hb dL_law_332 (by decide) (fun c_332 => ?_) (fun c_332 => ?_)
                  · skip
                    refine lv_iinc (v := (nI (n3_18 + 4))) (lv' := [(3, .int (nI (n3_18 + 4))), (2, .ref (pp 0)), (1, .ref fo), (0, .ref b)]) hx hb dL_law_830 hl (k := 3) rfl (nI_incr _ 4) (by decide) rfl (fun ls hl => ?_)
                    refine lv_goto (tgt := 18) hx hb dL_law_833 (by decide) ?_
                    refine W.widen (k := 27 + 4200 * (kk_18 + 1)) (n := 1285 + 11400 * (kk_18 + 1)) (by omega) (by omega) ?_
                    exact ih_18 (n3_18 + 4) vv_18 (kk_18 + 1) _ H locs ls (by first | omega | assumption | exact (by omega)) (by first | omega | assumption | exact (by omega)) (by first | omega | assumption | exact hW) (by first | omega | assumption | exact hD) (by first | omega | assumption) (lv_sub hl [1, 2, 3, 0] rfl) w trivial
                  · skip
                    have hfin : false = true := absurd e12 c_332
                    refine lv_iconst (v := (0 : Int32)) hx hb dL_law_335 (by decide) ?_
                    refine W.widen (k := 1200000) (n := 5502250) (by omega) (by omega) ?_
                    exact fin false _ H locs ls 336 dL_law_336 (hfin) w
                · skip
                  by_cases c_32_5 : ((xs (n3_18)) &&& (31 : Int32)) = (5 : Int32)
                  · skip
                    refine lv_tableIn (tgt := 337) hx hb dL_law_32 (by rw [c_32_5]; decide) (by rw [c_32_5]; decide) (by rw [c_32_5]; rfl) (by decide) ?_
                    refine lv_aload_n hx hb dL_law_337 rfl (lv_at hl 1 rfl) ?_
                    refine lv_aload_n hx hb dL_law_338 rfl (lv_at hl 2 rfl) ?_
                    refine lv_iload_n hx hb dL_law_339 rfl (lv_at hl 3 rfl) ?_
                    refine lv_iconst (v := (1 : Int32)) hx hb dL_law_340 (by decide) ?_
                    refine mx_nadd (u := n3_18) (v := 1) hx hb rfl rfl dL_law_341 ?_
                    refine va_sld hx hb hX hbl hbA w.2.2.2.1 (vp_in_nI (show n3_18 + 1 < L by omega) (by omega)) dL_law_342 ?_
                    rw [nI_clamp (show n3_18 + 1 < 2 ^ 31 by omega)]
                    refine mx_bi w (va_runV (As := [.int (xs (n3_18 + 1))]) (rest := []) X (cw_readyAt l G (fun q => s.heap.size ≤ q) _ fo (fun q => ∃ i, i < 5 ∧ q = pp i) vv_18 hW (xs (n3_18 + 1))) (cwV 1 X.2.2.2.2 (lw_V q1573 q1574 q1575 q96 q1576) rfl rfl rfl (by decide +kernel) ⟨by rw [hRf]; exact Nat.le_of_ble_eq_true rfl, by rw [hRl]; exact Nat.le_of_ble_eq_true rfl⟩) (mx_preV w rfl hfx rfl) rfl rfl hl.1 rfl (lv_room (Nat.le_of_ble_eq_true rfl)) dL_law_343 ⟨by rw [hRc]; omega, by rw [hRs]; omega⟩) (fun r1 M1 H locs hp w => ?_)
                    obtain ⟨e1, hW1, hZ1⟩ := hp
                    have hD1 := hD.keep hZ1
                    refine lv_aload_n hx hb dL_law_346 rfl (lv_at hl 0 rfl) ?_
                    refine lv_aload_n hx hb dL_law_347 rfl (lv_at hl 2 rfl) ?_
                    refine lv_iload_n hx hb dL_law_348 rfl (lv_at hl 3 rfl) ?_
                    refine lv_iconst (v := (1 : Int32)) hx hb dL_law_349 (by decide) ?_
                    refine mx_nadd (u := n3_18) (v := 1) hx hb rfl rfl dL_law_350 ?_
                    refine va_sld hx hb hX hbl hbA w.2.2.2.1 (vp_in_nI (show n3_18 + 1 < L by omega) (by omega)) dL_law_351 ?_
                    rw [nI_clamp (show n3_18 + 1 < 2 ^ 31 by omega)]
                    refine mx_bi w (va_runV (As := [.int (xs (n3_18 + 1))]) (rest := [.int r1]) X (mt_readyAt l G (fun q => s.heap.size ≤ q) pp M1 vv_18 (xs (n3_18 + 1)) np hI.enp hI.n6) (cwV 1 X.2.2.2.2 (lw_V q2143 q2144 q2145 q113 q2146) rfl rfl rfl (by decide +kernel) ⟨by rw [hRf]; exact Nat.le_of_ble_eq_true rfl, by rw [hRl]; exact Nat.le_of_ble_eq_true rfl⟩) (mx_preV w hD1 hD1.2.1 rfl) rfl rfl hl.1 rfl (lv_room (Nat.le_of_ble_eq_true rfl)) dL_law_352 ⟨by rw [hRc]; omega, by rw [hRs]; omega⟩) (fun r2 M2 H locs hp w => ?_)
                    obtain ⟨e2, hD2⟩ := hp
                    have hW := hW1.keepZ hD1 hD2
                    have hD := hD2.self
                    have e12 : r1 = r2 := e1.trans e2.symm
                    refine lv_icmp_eq (tgt := 830) hx hb dL_law_355 (by decide) (fun c_355 => ?_) (fun c_355 => ?_)
                    · skip
                      refine lv_iinc (v := (nI (n3_18 + 4))) (lv' := [(3, .int (nI (n3_18 + 4))), (2, .ref (pp 0)), (1, .ref fo), (0, .ref b)]) hx hb dL_law_830 hl (k := 3) rfl (nI_incr _ 4) (by decide) rfl (fun ls hl => ?_)
                      refine lv_goto (tgt := 18) hx hb dL_law_833 (by decide) ?_
                      refine W.widen (k := 27 + 4200 * (kk_18 + 1)) (n := 1285 + 11400 * (kk_18 + 1)) (by omega) (by omega) ?_
                      exact ih_18 (n3_18 + 4) vv_18 (kk_18 + 1) _ H locs ls (by first | omega | assumption | exact (by omega)) (by first | omega | assumption | exact (by omega)) (by first | omega | assumption | exact hW) (by first | omega | assumption | exact hD) (by first | omega | assumption) (lv_sub hl [1, 2, 3, 0] rfl) w trivial
                    · skip
                      have hfin : false = true := absurd e12 c_355
                      refine lv_iconst (v := (0 : Int32)) hx hb dL_law_358 (by decide) ?_
                      refine W.widen (k := 1200000) (n := 5502250) (by omega) (by omega) ?_
                      exact fin false _ H locs ls 359 dL_law_359 (hfin) w
                  · skip
                    by_cases c_32_6 : ((xs (n3_18)) &&& (31 : Int32)) = (6 : Int32)
                    · skip
                      refine lv_tableIn (tgt := 360) hx hb dL_law_32 (by rw [c_32_6]; decide) (by rw [c_32_6]; decide) (by rw [c_32_6]; rfl) (by decide) ?_
                      refine lv_aload_n hx hb dL_law_360 rfl (lv_at hl 1 rfl) ?_
                      refine mx_bi w (va_runV (As := []) (rest := []) X (cw_balance l G (fun q => s.heap.size ≤ q) _ fo (fun q => ∃ i, i < 5 ∧ q = pp i) vv_18 hW ) (cwV 0 X.2.2.2.2 (lw_V q1593 q1594 q1595 q96 q1596) rfl rfl rfl (by decide +kernel) ⟨by rw [hRf]; exact Nat.le_of_ble_eq_true rfl, by rw [hRl]; exact Nat.le_of_ble_eq_true rfl⟩) (mx_preV w rfl hfx rfl) rfl rfl hl.1 rfl (lv_room (Nat.le_of_ble_eq_true rfl)) dL_law_361 ⟨by rw [hRc]; omega, by rw [hRs]; omega⟩) (fun r1 M1 H locs hp w => ?_)
                      obtain ⟨e1, hW1, hZ1⟩ := hp
                      have hD1 := hD.keep hZ1
                      refine lv_aload_n hx hb dL_law_364 rfl (lv_at hl 0 rfl) ?_
                      refine mx_bi w (va_runV (As := []) (rest := [.int r1]) X (mt_balance l G (fun q => s.heap.size ≤ q) pp M1 vv_18  np hI.enp hI.n6) (cwV 0 X.2.2.2.2 (lw_V q2164 q2165 q2166 q113 q2167) rfl rfl rfl (by decide +kernel) ⟨by rw [hRf]; exact Nat.le_of_ble_eq_true rfl, by rw [hRl]; exact Nat.le_of_ble_eq_true rfl⟩) (mx_preV w hD1 hD1.2.1 rfl) rfl rfl hl.1 rfl (lv_room (Nat.le_of_ble_eq_true rfl)) dL_law_365 ⟨by rw [hRc]; omega, by rw [hRs]; omega⟩) (fun r2 M2 H locs hp w => ?_)
                      obtain ⟨e2, hD2⟩ := hp
                      have hW := hW1.keepZ hD1 hD2
                      have hD := hD2.self
                      have e12 : r1 = r2 := e1.trans e2.symm
                      refine lv_icmp_eq (tgt := 830) hx hb dL_law_368 (by decide) (fun c_368 => ?_) (fun c_368 => ?_)
                      · skip
                        refine lv_iinc (v := (nI (n3_18 + 4))) (lv' := [(3, .int (nI (n3_18 + 4))), (2, .ref (pp 0)), (1, .ref fo), (0, .ref b)]) hx hb dL_law_830 hl (k := 3) rfl (nI_incr _ 4) (by decide) rfl (fun ls hl => ?_)
                        refine lv_goto (tgt := 18) hx hb dL_law_833 (by decide) ?_
                        refine W.widen (k := 27 + 4200 * (kk_18 + 1)) (n := 1285 + 11400 * (kk_18 + 1)) (by omega) (by omega) ?_
                        exact ih_18 (n3_18 + 4) vv_18 (kk_18 + 1) _ H locs ls (by first | omega | assumption | exact (by omega)) (by first | omega | assumption | exact (by omega)) (by first | omega | assumption | exact hW) (by first | omega | assumption | exact hD) (by first | omega | assumption) (lv_sub hl [1, 2, 3, 0] rfl) w trivial
                      · skip
                        have hfin : false = true := absurd e12 c_368
                        refine lv_iconst (v := (0 : Int32)) hx hb dL_law_371 (by decide) ?_
                        refine W.widen (k := 1200000) (n := 5502250) (by omega) (by omega) ?_
                        exact fin false _ H locs ls 372 dL_law_372 (hfin) w
                    · skip
                      by_cases c_32_7 : ((xs (n3_18)) &&& (31 : Int32)) = (7 : Int32)
                      · skip
                        refine lv_tableIn (tgt := 373) hx hb dL_law_32 (by rw [c_32_7]; decide) (by rw [c_32_7]; decide) (by rw [c_32_7]; rfl) (by decide) ?_
                        refine lv_aload_n hx hb dL_law_373 rfl (lv_at hl 1 rfl) ?_
                        refine lv_aload_n hx hb dL_law_374 rfl (lv_at hl 2 rfl) ?_
                        refine lv_iload_n hx hb dL_law_375 rfl (lv_at hl 3 rfl) ?_
                        refine lv_iconst (v := (1 : Int32)) hx hb dL_law_376 (by decide) ?_
                        refine mx_nadd (u := n3_18) (v := 1) hx hb rfl rfl dL_law_377 ?_
                        refine va_sld hx hb hX hbl hbA w.2.2.2.1 (vp_in_nI (show n3_18 + 1 < L by omega) (by omega)) dL_law_378 ?_
                        rw [nI_clamp (show n3_18 + 1 < 2 ^ 31 by omega)]
                        refine mx_bi w (va_runV (As := [.int (xs (n3_18 + 1))]) (rest := []) X (ct_zone l G (fun q => s.heap.size ≤ q) _ fo (fun q => ∃ i, i < 5 ∧ q = pp i) vv_18 hW (xs (n3_18 + 1))) (cwV 1 X.2.2.2.2 (lw_V q1608 q1609 q1610 q96 q1611) rfl rfl rfl (by decide +kernel) ⟨by rw [hRf]; exact Nat.le_of_ble_eq_true rfl, by rw [hRl]; exact Nat.le_of_ble_eq_true rfl⟩) (mx_preV w rfl hfx rfl) rfl rfl hl.1 rfl (lv_room (Nat.le_of_ble_eq_true rfl)) dL_law_379 ⟨by rw [hRc]; omega, by rw [hRs]; omega⟩) (fun r1 M1 H locs hp w => ?_)
                        obtain ⟨e1, hW1, hZ1⟩ := hp
                        have hD1 := hD.keep hZ1
                        refine lv_aload_n hx hb dL_law_382 rfl (lv_at hl 0 rfl) ?_
                        refine lv_aload_n hx hb dL_law_383 rfl (lv_at hl 2 rfl) ?_
                        refine lv_iload_n hx hb dL_law_384 rfl (lv_at hl 3 rfl) ?_
                        refine lv_iconst (v := (1 : Int32)) hx hb dL_law_385 (by decide) ?_
                        refine mx_nadd (u := n3_18) (v := 1) hx hb rfl rfl dL_law_386 ?_
                        refine va_sld hx hb hX hbl hbA w.2.2.2.1 (vp_in_nI (show n3_18 + 1 < L by omega) (by omega)) dL_law_387 ?_
                        rw [nI_clamp (show n3_18 + 1 < 2 ^ 31 by omega)]
                        refine mx_bi w (va_runV (As := [.int (xs (n3_18 + 1))]) (rest := [.int r1]) X (mt_zone l G (fun q => s.heap.size ≤ q) pp M1 vv_18 (xs (n3_18 + 1)) T np nz ng hI hs9) (cwV 1 X.2.2.2.2 (lw_V q2168 q2169 q2170 q113 q2171) rfl rfl rfl (by decide +kernel) ⟨by rw [hRf]; exact Nat.le_of_ble_eq_true rfl, by rw [hRl]; exact Nat.le_of_ble_eq_true rfl⟩) (mx_preV w hD1 hD1.2.1 rfl) rfl rfl hl.1 rfl (lv_room (Nat.le_of_ble_eq_true rfl)) dL_law_388 ⟨by rw [hRc]; omega, by rw [hRs]; omega⟩) (fun r2 M2 H locs hp w => ?_)
                        obtain ⟨e2, hD2⟩ := hp
                        have hW := hW1.keepZ hD1 hD2
                        have hD := hD2.self
                        have e12 : r1 = r2 := e1.trans e2.symm
                        refine lv_icmp_eq (tgt := 830) hx hb dL_law_391 (by decide) (fun c_391 => ?_) (fun c_391 => ?_)
                        · skip
                          refine lv_iinc (v := (nI (n3_18 + 4))) (lv' := [(3, .int (nI (n3_18 + 4))), (2, .ref (pp 0)), (1, .ref fo), (0, .ref b)]) hx hb dL_law_830 hl (k := 3) rfl (nI_incr _ 4) (by decide) rfl (fun ls hl => ?_)
                          refine lv_goto (tgt := 18) hx hb dL_law_833 (by decide) ?_
                          refine W.widen (k := 27 + 4200 * (kk_18 + 1)) (n := 1285 + 11400 * (kk_18 + 1)) (by omega) (by omega) ?_
                          exact ih_18 (n3_18 + 4) ((mf_zone vv_18 (xs (n3_18 + 1))).2) (kk_18 + 1) _ H locs ls (by first | omega | assumption | exact (by omega)) (by first | omega | assumption | exact (by omega)) (by first | omega | assumption | exact hW) (by first | omega | assumption | exact hD) (by first | omega | assumption) (lv_sub hl [1, 2, 3, 0] rfl) w trivial
                        · skip
                          have hfin : false = true := absurd e12 c_391
                          refine lv_iconst (v := (0 : Int32)) hx hb dL_law_394 (by decide) ?_
                          refine W.widen (k := 1200000) (n := 5502250) (by omega) (by omega) ?_
                          exact fin false _ H locs ls 395 dL_law_395 (hfin) w
                      · skip
                        by_cases c_32_8 : ((xs (n3_18)) &&& (31 : Int32)) = (8 : Int32)
                        · skip
                          refine lv_tableIn (tgt := 396) hx hb dL_law_32 (by rw [c_32_8]; decide) (by rw [c_32_8]; decide) (by rw [c_32_8]; rfl) (by decide) ?_
                          refine lv_aload_n hx hb dL_law_396 rfl (lv_at hl 1 rfl) ?_
                          refine lv_aload_n hx hb dL_law_397 rfl (lv_at hl 2 rfl) ?_
                          refine lv_iload_n hx hb dL_law_398 rfl (lv_at hl 3 rfl) ?_
                          refine lv_iconst (v := (1 : Int32)) hx hb dL_law_399 (by decide) ?_
                          refine mx_nadd (u := n3_18) (v := 1) hx hb rfl rfl dL_law_400 ?_
                          refine va_sld hx hb hX hbl hbA w.2.2.2.1 (vp_in_nI (show n3_18 + 1 < L by omega) (by omega)) dL_law_401 ?_
                          rw [nI_clamp (show n3_18 + 1 < 2 ^ 31 by omega)]
                          refine lv_aload_n hx hb dL_law_402 rfl (lv_at hl 2 rfl) ?_
                          refine lv_iload_n hx hb dL_law_403 rfl (lv_at hl 3 rfl) ?_
                          refine lv_iconst (v := (2 : Int32)) hx hb dL_law_404 (by decide) ?_
                          refine mx_nadd (u := n3_18) (v := 2) hx hb rfl rfl dL_law_405 ?_
                          refine va_sld hx hb hX hbl hbA w.2.2.2.1 (vp_in_nI (show n3_18 + 2 < L by omega) (by omega)) dL_law_406 ?_
                          rw [nI_clamp (show n3_18 + 2 < 2 ^ 31 by omega)]
                          refine mx_bi w (va_runV (As := [.int (xs (n3_18 + 1)), .int (xs (n3_18 + 2))]) (rest := []) X (ct_open l G (fun q => s.heap.size ≤ q) _ fo (fun q => ∃ i, i < 5 ∧ q = pp i) vv_18 hW (xs (n3_18 + 1)) (xs (n3_18 + 2))) (cwV 2 X.2.2.2.2 (lw_V q1612 q1613 q1614 q96 q1615) rfl rfl rfl (by decide +kernel) ⟨by rw [hRf]; exact Nat.le_of_ble_eq_true rfl, by rw [hRl]; exact Nat.le_of_ble_eq_true rfl⟩) (mx_preV w rfl hfx rfl) rfl rfl hl.1 rfl (lv_room (Nat.le_of_ble_eq_true rfl)) dL_law_407 ⟨by rw [hRc]; omega, by rw [hRs]; omega⟩) (fun r1 M1 H locs hp w => ?_)
                          obtain ⟨e1, hW1, hZ1⟩ := hp
                          have hD1 := hD.keep hZ1
                          refine lv_aload_n hx hb dL_law_410 rfl (lv_at hl 0 rfl) ?_
                          refine lv_aload_n hx hb dL_law_411 rfl (lv_at hl 2 rfl) ?_
                          refine lv_iload_n hx hb dL_law_412 rfl (lv_at hl 3 rfl) ?_
                          refine lv_iconst (v := (1 : Int32)) hx hb dL_law_413 (by decide) ?_
                          refine mx_nadd (u := n3_18) (v := 1) hx hb rfl rfl dL_law_414 ?_
                          refine va_sld hx hb hX hbl hbA w.2.2.2.1 (vp_in_nI (show n3_18 + 1 < L by omega) (by omega)) dL_law_415 ?_
                          rw [nI_clamp (show n3_18 + 1 < 2 ^ 31 by omega)]
                          refine lv_aload_n hx hb dL_law_416 rfl (lv_at hl 2 rfl) ?_
                          refine lv_iload_n hx hb dL_law_417 rfl (lv_at hl 3 rfl) ?_
                          refine lv_iconst (v := (2 : Int32)) hx hb dL_law_418 (by decide) ?_
                          refine mx_nadd (u := n3_18) (v := 2) hx hb rfl rfl dL_law_419 ?_
                          refine va_sld hx hb hX hbl hbA w.2.2.2.1 (vp_in_nI (show n3_18 + 2 < L by omega) (by omega)) dL_law_420 ?_
                          rw [nI_clamp (show n3_18 + 2 < 2 ^ 31 by omega)]
                          refine mx_bi w (va_runV (As := [.int (xs (n3_18 + 1)), .int (xs (n3_18 + 2))]) (rest := [.int r1]) X (mt_open l G (fun q => s.heap.size ≤ q) pp M1 vv_18 (xs (n3_18 + 1)) (xs (n3_18 + 2)) T np nz ng hI hs9) (cwV 2 X.2.2.2.2 (lw_V q2172 q2173 q2174 q113 q2175) rfl rfl rfl (by decide +kernel) ⟨by rw [hRf]; exact Nat.le_of_ble_eq_true rfl, by rw [hRl]; exact Nat.le_of_ble_eq_true rfl⟩) (mx_preV w hD1 hD1.2.1 rfl) rfl rfl hl.1 rfl (lv_room (Nat.le_of_ble_eq_true rfl)) dL_law_421 ⟨by rw [hRc]; omega, by rw [hRs]; omega⟩) (fun r2 M2 H locs hp w => ?_)
                          obtain ⟨e2, hD2⟩ := hp
                          have hW := hW1.keepZ hD1 hD2
                          have hD := hD2.self
                          have e12 : r1 = r2 := e1.trans e2.symm
                          refine lv_icmp_eq (tgt := 830) hx hb dL_law_424 (by decide) (fun c_424 => ?_) (fun c_424 => ?_)
                          · skip
                            refine lv_iinc (v := (nI (n3_18 + 4))) (lv' := [(3, .int (nI (n3_18 + 4))), (2, .ref (pp 0)), (1, .ref fo), (0, .ref b)]) hx hb dL_law_830 hl (k := 3) rfl (nI_incr _ 4) (by decide) rfl (fun ls hl => ?_)
                            refine lv_goto (tgt := 18) hx hb dL_law_833 (by decide) ?_
                            refine W.widen (k := 27 + 4200 * (kk_18 + 1)) (n := 1285 + 11400 * (kk_18 + 1)) (by omega) (by omega) ?_
                            exact ih_18 (n3_18 + 4) ((mf_open vv_18 (xs (n3_18 + 1)) (xs (n3_18 + 2))).2) (kk_18 + 1) _ H locs ls (by first | omega | assumption | exact (by omega)) (by first | omega | assumption | exact (by omega)) (by first | omega | assumption | exact hW) (by first | omega | assumption | exact hD) (by first | omega | assumption) (lv_sub hl [1, 2, 3, 0] rfl) w trivial
                          · skip
                            have hfin : false = true := absurd e12 c_424
                            refine lv_iconst (v := (0 : Int32)) hx hb dL_law_427 (by decide) ?_
                            refine W.widen (k := 1200000) (n := 5502250) (by omega) (by omega) ?_
                            exact fin false _ H locs ls 428 dL_law_428 (hfin) w
                        · skip
                          by_cases c_32_9 : ((xs (n3_18)) &&& (31 : Int32)) = (9 : Int32)
                          · skip
                            refine lv_tableIn (tgt := 429) hx hb dL_law_32 (by rw [c_32_9]; decide) (by rw [c_32_9]; decide) (by rw [c_32_9]; rfl) (by decide) ?_
                            refine lv_aload_n hx hb dL_law_429 rfl (lv_at hl 1 rfl) ?_
                            refine lv_aload_n hx hb dL_law_430 rfl (lv_at hl 2 rfl) ?_
                            refine lv_iload_n hx hb dL_law_431 rfl (lv_at hl 3 rfl) ?_
                            refine lv_iconst (v := (1 : Int32)) hx hb dL_law_432 (by decide) ?_
                            refine mx_nadd (u := n3_18) (v := 1) hx hb rfl rfl dL_law_433 ?_
                            refine va_sld hx hb hX hbl hbA w.2.2.2.1 (vp_in_nI (show n3_18 + 1 < L by omega) (by omega)) dL_law_434 ?_
                            rw [nI_clamp (show n3_18 + 1 < 2 ^ 31 by omega)]
                            refine mx_bi w (va_runV (As := [.int (xs (n3_18 + 1))]) (rest := []) X (ct_leak l G (fun q => s.heap.size ≤ q) _ fo (fun q => ∃ i, i < 5 ∧ q = pp i) vv_18 hW (xs (n3_18 + 1))) (cwV 1 X.2.2.2.2 (lw_V q1625 q1626 q1627 q96 q1628) rfl rfl rfl (by decide +kernel) ⟨by rw [hRf]; exact Nat.le_of_ble_eq_true rfl, by rw [hRl]; exact Nat.le_of_ble_eq_true rfl⟩) (mx_preV w rfl hfx rfl) rfl rfl hl.1 rfl (lv_room (Nat.le_of_ble_eq_true rfl)) dL_law_435 ⟨by rw [hRc]; omega, by rw [hRs]; omega⟩) (fun r1 M1 H locs hp w => ?_)
                            obtain ⟨e1, hW1, hZ1⟩ := hp
                            have hD1 := hD.keep hZ1
                            refine lv_aload_n hx hb dL_law_438 rfl (lv_at hl 0 rfl) ?_
                            refine lv_aload_n hx hb dL_law_439 rfl (lv_at hl 2 rfl) ?_
                            refine lv_iload_n hx hb dL_law_440 rfl (lv_at hl 3 rfl) ?_
                            refine lv_iconst (v := (1 : Int32)) hx hb dL_law_441 (by decide) ?_
                            refine mx_nadd (u := n3_18) (v := 1) hx hb rfl rfl dL_law_442 ?_
                            refine va_sld hx hb hX hbl hbA w.2.2.2.1 (vp_in_nI (show n3_18 + 1 < L by omega) (by omega)) dL_law_443 ?_
                            rw [nI_clamp (show n3_18 + 1 < 2 ^ 31 by omega)]
                            refine mx_bi w (va_runV (As := [.int (xs (n3_18 + 1))]) (rest := [.int r1]) X (mt_leak l G (fun q => s.heap.size ≤ q) pp M1 vv_18 (xs (n3_18 + 1)) hs9) (cwV 1 X.2.2.2.2 (lw_V q2188 q2189 q2190 q113 q2191) rfl rfl rfl (by decide +kernel) ⟨by rw [hRf]; exact Nat.le_of_ble_eq_true rfl, by rw [hRl]; exact Nat.le_of_ble_eq_true rfl⟩) (mx_preV w hD1 hD1.2.1 rfl) rfl rfl hl.1 rfl (lv_room (Nat.le_of_ble_eq_true rfl)) dL_law_444 ⟨by rw [hRc]; omega, by rw [hRs]; omega⟩) (fun r2 M2 H locs hp w => ?_)
                            obtain ⟨e2, hD2⟩ := hp
                            have hW := hW1.keepZ hD1 hD2
                            have hD := hD2.self
                            have e12 : r1 = r2 := e1.trans e2.symm
                            refine lv_icmp_eq (tgt := 830) hx hb dL_law_447 (by decide) (fun c_447 => ?_) (fun c_447 => ?_)
                            · skip
                              refine lv_iinc (v := (nI (n3_18 + 4))) (lv' := [(3, .int (nI (n3_18 + 4))), (2, .ref (pp 0)), (1, .ref fo), (0, .ref b)]) hx hb dL_law_830 hl (k := 3) rfl (nI_incr _ 4) (by decide) rfl (fun ls hl => ?_)
                              refine lv_goto (tgt := 18) hx hb dL_law_833 (by decide) ?_
                              refine W.widen (k := 27 + 4200 * (kk_18 + 1)) (n := 1285 + 11400 * (kk_18 + 1)) (by omega) (by omega) ?_
                              exact ih_18 (n3_18 + 4) ((mf_leak vv_18 (xs (n3_18 + 1))).2) (kk_18 + 1) _ H locs ls (by first | omega | assumption | exact (by omega)) (by first | omega | assumption | exact (by omega)) (by first | omega | assumption | exact hW) (by first | omega | assumption | exact hD) (by first | omega | assumption) (lv_sub hl [1, 2, 3, 0] rfl) w trivial
                            · skip
                              have hfin : false = true := absurd e12 c_447
                              refine lv_iconst (v := (0 : Int32)) hx hb dL_law_450 (by decide) ?_
                              refine W.widen (k := 1200000) (n := 5502250) (by omega) (by omega) ?_
                              exact fin false _ H locs ls 451 dL_law_451 (hfin) w
                          · skip
                            by_cases c_32_10 : ((xs (n3_18)) &&& (31 : Int32)) = (10 : Int32)
                            · skip
                              refine lv_tableIn (tgt := 452) hx hb dL_law_32 (by rw [c_32_10]; decide) (by rw [c_32_10]; decide) (by rw [c_32_10]; rfl) (by decide) ?_
                              refine lv_aload_n hx hb dL_law_452 rfl (lv_at hl 1 rfl) ?_
                              refine lv_aload_n hx hb dL_law_453 rfl (lv_at hl 2 rfl) ?_
                              refine lv_iload_n hx hb dL_law_454 rfl (lv_at hl 3 rfl) ?_
                              refine lv_iconst (v := (1 : Int32)) hx hb dL_law_455 (by decide) ?_
                              refine mx_nadd (u := n3_18) (v := 1) hx hb rfl rfl dL_law_456 ?_
                              refine va_sld hx hb hX hbl hbA w.2.2.2.1 (vp_in_nI (show n3_18 + 1 < L by omega) (by omega)) dL_law_457 ?_
                              rw [nI_clamp (show n3_18 + 1 < 2 ^ 31 by omega)]
                              refine lv_aload_n hx hb dL_law_458 rfl (lv_at hl 2 rfl) ?_
                              refine lv_iload_n hx hb dL_law_459 rfl (lv_at hl 3 rfl) ?_
                              refine lv_iconst (v := (2 : Int32)) hx hb dL_law_460 (by decide) ?_
                              refine mx_nadd (u := n3_18) (v := 2) hx hb rfl rfl dL_law_461 ?_
                              refine va_sld hx hb hX hbl hbA w.2.2.2.1 (vp_in_nI (show n3_18 + 2 < L by omega) (by omega)) dL_law_462 ?_
                              rw [nI_clamp (show n3_18 + 2 < 2 ^ 31 by omega)]
                              refine lv_aload_n hx hb dL_law_463 rfl (lv_at hl 2 rfl) ?_
                              refine lv_iload_n hx hb dL_law_464 rfl (lv_at hl 3 rfl) ?_
                              refine lv_iconst (v := (3 : Int32)) hx hb dL_law_465 (by decide) ?_
                              refine mx_nadd (u := n3_18) (v := 3) hx hb rfl rfl dL_law_466 ?_
                              refine va_sld hx hb hX hbl hbA w.2.2.2.1 (vp_in_nI (show n3_18 + 3 < L by omega) (by omega)) dL_law_467 ?_
                              rw [nI_clamp (show n3_18 + 3 < 2 ^ 31 by omega)]
                              refine mx_bi w (va_runV (As := [.int (xs (n3_18 + 1)), .int (xs (n3_18 + 2)), .int (xs (n3_18 + 3))]) (rest := []) X (ct_programme l G (fun q => s.heap.size ≤ q) _ fo (fun q => ∃ i, i < 5 ∧ q = pp i) vv_18 hW (xs (n3_18 + 1)) (xs (n3_18 + 2)) (xs (n3_18 + 3))) (cwV 3 X.2.2.2.2 (lw_V q1629 q1630 q1631 q96 q1632) rfl rfl rfl (by decide +kernel) ⟨by rw [hRf]; exact Nat.le_of_ble_eq_true rfl, by rw [hRl]; exact Nat.le_of_ble_eq_true rfl⟩) (mx_preV w rfl hfx rfl) rfl rfl hl.1 rfl (lv_room (Nat.le_of_ble_eq_true rfl)) dL_law_468 ⟨by rw [hRc]; omega, by rw [hRs]; omega⟩) (fun r1 M1 H locs hp w => ?_)
                              obtain ⟨e1, hW1, hZ1⟩ := hp
                              have hD1 := hD.keep hZ1
                              refine lv_aload_n hx hb dL_law_471 rfl (lv_at hl 0 rfl) ?_
                              refine lv_aload_n hx hb dL_law_472 rfl (lv_at hl 2 rfl) ?_
                              refine lv_iload_n hx hb dL_law_473 rfl (lv_at hl 3 rfl) ?_
                              refine lv_iconst (v := (1 : Int32)) hx hb dL_law_474 (by decide) ?_
                              refine mx_nadd (u := n3_18) (v := 1) hx hb rfl rfl dL_law_475 ?_
                              refine va_sld hx hb hX hbl hbA w.2.2.2.1 (vp_in_nI (show n3_18 + 1 < L by omega) (by omega)) dL_law_476 ?_
                              rw [nI_clamp (show n3_18 + 1 < 2 ^ 31 by omega)]
                              refine lv_aload_n hx hb dL_law_477 rfl (lv_at hl 2 rfl) ?_
                              refine lv_iload_n hx hb dL_law_478 rfl (lv_at hl 3 rfl) ?_
                              refine lv_iconst (v := (2 : Int32)) hx hb dL_law_479 (by decide) ?_
                              refine mx_nadd (u := n3_18) (v := 2) hx hb rfl rfl dL_law_480 ?_
                              refine va_sld hx hb hX hbl hbA w.2.2.2.1 (vp_in_nI (show n3_18 + 2 < L by omega) (by omega)) dL_law_481 ?_
                              rw [nI_clamp (show n3_18 + 2 < 2 ^ 31 by omega)]
                              refine lv_aload_n hx hb dL_law_482 rfl (lv_at hl 2 rfl) ?_
                              refine lv_iload_n hx hb dL_law_483 rfl (lv_at hl 3 rfl) ?_
                              refine lv_iconst (v := (3 : Int32)) hx hb dL_law_484 (by decide) ?_
                              refine mx_nadd (u := n3_18) (v := 3) hx hb rfl rfl dL_law_485 ?_
                              refine va_sld hx hb hX hbl hbA w.2.2.2.1 (vp_in_nI (show n3_18 + 3 < L by omega) (by omega)) dL_law_486 ?_
                              rw [nI_clamp (show n3_18 + 3 < 2 ^ 31 by omega)]
                              refine mx_bi w (va_runV (As := [.int (xs (n3_18 + 1)), .int (xs (n3_18 + 2)), .int (xs (n3_18 + 3))]) (rest := [.int r1]) X (mt_programme l G (fun q => s.heap.size ≤ q) pp M1 vv_18 (xs (n3_18 + 1)) (xs (n3_18 + 2)) (xs (n3_18 + 3)) T np nz ng hI hs9) (cwV 3 X.2.2.2.2 (lw_V q2192 q2193 q2194 q113 q2195) rfl rfl rfl (by decide +kernel) ⟨by rw [hRf]; exact Nat.le_of_ble_eq_true rfl, by rw [hRl]; exact Nat.le_of_ble_eq_true rfl⟩) (mx_preV w hD1 hD1.2.1 rfl) rfl rfl hl.1 rfl (lv_room (Nat.le_of_ble_eq_true rfl)) dL_law_487 ⟨by rw [hRc]; omega, by rw [hRs]; omega⟩) (fun r2 M2 H locs hp w => ?_)
                              obtain ⟨e2, hD2⟩ := hp
                              have hW := hW1.keepZ hD1 hD2
                              have hD := hD2.self
                              have e12 : r1 = r2 := e1.trans e2.symm
                              refine lv_icmp_eq (tgt := 830) hx hb dL_law_490 (by decide) (fun c_490 => ?_) (fun c_490 => ?_)
                              · skip
                                refine lv_iinc (v := (nI (n3_18 + 4))) (lv' := [(3, .int (nI (n3_18 + 4))), (2, .ref (pp 0)), (1, .ref fo), (0, .ref b)]) hx hb dL_law_830 hl (k := 3) rfl (nI_incr _ 4) (by decide) rfl (fun ls hl => ?_)
                                refine lv_goto (tgt := 18) hx hb dL_law_833 (by decide) ?_
                                refine W.widen (k := 27 + 4200 * (kk_18 + 1)) (n := 1285 + 11400 * (kk_18 + 1)) (by omega) (by omega) ?_
                                exact ih_18 (n3_18 + 4) ((mf_programme vv_18 (xs (n3_18 + 1)) (xs (n3_18 + 2)) (xs (n3_18 + 3))).2) (kk_18 + 1) _ H locs ls (by first | omega | assumption | exact (by omega)) (by first | omega | assumption | exact (by omega)) (by first | omega | assumption | exact hW) (by first | omega | assumption | exact hD) (by first | omega | assumption) (lv_sub hl [1, 2, 3, 0] rfl) w trivial
                              · skip
                                have hfin : false = true := absurd e12 c_490
                                refine lv_iconst (v := (0 : Int32)) hx hb dL_law_493 (by decide) ?_
                                refine W.widen (k := 1200000) (n := 5502250) (by omega) (by omega) ?_
                                exact fin false _ H locs ls 494 dL_law_494 (hfin) w
                            · skip
                              by_cases c_32_11 : ((xs (n3_18)) &&& (31 : Int32)) = (11 : Int32)
                              · skip
                                refine lv_tableIn (tgt := 495) hx hb dL_law_32 (by rw [c_32_11]; decide) (by rw [c_32_11]; decide) (by rw [c_32_11]; rfl) (by decide) ?_
                                refine lv_aload_n hx hb dL_law_495 rfl (lv_at hl 1 rfl) ?_
                                refine lv_aload_n hx hb dL_law_496 rfl (lv_at hl 2 rfl) ?_
                                refine lv_iload_n hx hb dL_law_497 rfl (lv_at hl 3 rfl) ?_
                                refine lv_iconst (v := (1 : Int32)) hx hb dL_law_498 (by decide) ?_
                                refine mx_nadd (u := n3_18) (v := 1) hx hb rfl rfl dL_law_499 ?_
                                refine va_sld hx hb hX hbl hbA w.2.2.2.1 (vp_in_nI (show n3_18 + 1 < L by omega) (by omega)) dL_law_500 ?_
                                rw [nI_clamp (show n3_18 + 1 < 2 ^ 31 by omega)]
                                refine lv_aload_n hx hb dL_law_501 rfl (lv_at hl 2 rfl) ?_
                                refine lv_iload_n hx hb dL_law_502 rfl (lv_at hl 3 rfl) ?_
                                refine lv_iconst (v := (2 : Int32)) hx hb dL_law_503 (by decide) ?_
                                refine mx_nadd (u := n3_18) (v := 2) hx hb rfl rfl dL_law_504 ?_
                                refine va_sld hx hb hX hbl hbA w.2.2.2.1 (vp_in_nI (show n3_18 + 2 < L by omega) (by omega)) dL_law_505 ?_
                                rw [nI_clamp (show n3_18 + 2 < 2 ^ 31 by omega)]
                                refine mx_bi w (va_runV (As := [.int (xs (n3_18 + 1)), .int (xs (n3_18 + 2))]) (rest := []) X (cw_zoneOf l G (fun q => s.heap.size ≤ q) _ fo (fun q => ∃ i, i < 5 ∧ q = pp i) vv_18 hW (xs (n3_18 + 1)) (xs (n3_18 + 2))) (cwV 2 X.2.2.2.2 (lw_V q1654 q1655 q1656 q96 q1657) rfl rfl rfl (by decide +kernel) ⟨by rw [hRf]; exact Nat.le_of_ble_eq_true rfl, by rw [hRl]; exact Nat.le_of_ble_eq_true rfl⟩) (mx_preV w rfl hfx rfl) rfl rfl hl.1 rfl (lv_room (Nat.le_of_ble_eq_true rfl)) dL_law_506 ⟨by rw [hRc]; omega, by rw [hRs]; omega⟩) (fun r1 M1 H locs hp w => ?_)
                                obtain ⟨e1, hW1, hZ1⟩ := hp
                                have hD1 := hD.keep hZ1
                                refine lv_aload_n hx hb dL_law_509 rfl (lv_at hl 0 rfl) ?_
                                refine lv_aload_n hx hb dL_law_510 rfl (lv_at hl 2 rfl) ?_
                                refine lv_iload_n hx hb dL_law_511 rfl (lv_at hl 3 rfl) ?_
                                refine lv_iconst (v := (1 : Int32)) hx hb dL_law_512 (by decide) ?_
                                refine mx_nadd (u := n3_18) (v := 1) hx hb rfl rfl dL_law_513 ?_
                                refine va_sld hx hb hX hbl hbA w.2.2.2.1 (vp_in_nI (show n3_18 + 1 < L by omega) (by omega)) dL_law_514 ?_
                                rw [nI_clamp (show n3_18 + 1 < 2 ^ 31 by omega)]
                                refine lv_aload_n hx hb dL_law_515 rfl (lv_at hl 2 rfl) ?_
                                refine lv_iload_n hx hb dL_law_516 rfl (lv_at hl 3 rfl) ?_
                                refine lv_iconst (v := (2 : Int32)) hx hb dL_law_517 (by decide) ?_
                                refine mx_nadd (u := n3_18) (v := 2) hx hb rfl rfl dL_law_518 ?_
                                refine va_sld hx hb hX hbl hbA w.2.2.2.1 (vp_in_nI (show n3_18 + 2 < L by omega) (by omega)) dL_law_519 ?_
                                rw [nI_clamp (show n3_18 + 2 < 2 ^ 31 by omega)]
                                refine mx_bi w (va_runV (As := [.int (xs (n3_18 + 1)), .int (xs (n3_18 + 2))]) (rest := [.int r1]) X (mt_zoneOf l G (fun q => s.heap.size ≤ q) pp M1 vv_18 (xs (n3_18 + 1)) (xs (n3_18 + 2)) T np nz ng hI) (cwV 2 X.2.2.2.2 (lw_V q2196 q2197 q2198 q113 q2199) rfl rfl rfl (by decide +kernel) ⟨by rw [hRf]; exact Nat.le_of_ble_eq_true rfl, by rw [hRl]; exact Nat.le_of_ble_eq_true rfl⟩) (mx_preV w hD1 hD1.2.1 rfl) rfl rfl hl.1 rfl (lv_room (Nat.le_of_ble_eq_true rfl)) dL_law_520 ⟨by rw [hRc]; omega, by rw [hRs]; omega⟩) (fun r2 M2 H locs hp w => ?_)
                                obtain ⟨e2, hD2⟩ := hp
                                have hW := hW1.keepZ hD1 hD2
                                have hD := hD2.self
                                have e12 : r1 = r2 := e1.trans e2.symm
                                refine lv_icmp_eq (tgt := 830) hx hb dL_law_523 (by decide) (fun c_523 => ?_) (fun c_523 => ?_)
                                · skip
                                  refine lv_iinc (v := (nI (n3_18 + 4))) (lv' := [(3, .int (nI (n3_18 + 4))), (2, .ref (pp 0)), (1, .ref fo), (0, .ref b)]) hx hb dL_law_830 hl (k := 3) rfl (nI_incr _ 4) (by decide) rfl (fun ls hl => ?_)
                                  refine lv_goto (tgt := 18) hx hb dL_law_833 (by decide) ?_
                                  refine W.widen (k := 27 + 4200 * (kk_18 + 1)) (n := 1285 + 11400 * (kk_18 + 1)) (by omega) (by omega) ?_
                                  exact ih_18 (n3_18 + 4) vv_18 (kk_18 + 1) _ H locs ls (by first | omega | assumption | exact (by omega)) (by first | omega | assumption | exact (by omega)) (by first | omega | assumption | exact hW) (by first | omega | assumption | exact hD) (by first | omega | assumption) (lv_sub hl [1, 2, 3, 0] rfl) w trivial
                                · skip
                                  have hfin : false = true := absurd e12 c_523
                                  refine lv_iconst (v := (0 : Int32)) hx hb dL_law_526 (by decide) ?_
                                  refine W.widen (k := 1200000) (n := 5502250) (by omega) (by omega) ?_
                                  exact fin false _ H locs ls 527 dL_law_527 (hfin) w
                              · skip
                                by_cases c_32_12 : ((xs (n3_18)) &&& (31 : Int32)) = (12 : Int32)
                                · skip
                                  refine lv_tableIn (tgt := 528) hx hb dL_law_32 (by rw [c_32_12]; decide) (by rw [c_32_12]; decide) (by rw [c_32_12]; rfl) (by decide) ?_
                                  refine lv_aload_n hx hb dL_law_528 rfl (lv_at hl 1 rfl) ?_
                                  refine lv_aload_n hx hb dL_law_529 rfl (lv_at hl 2 rfl) ?_
                                  refine lv_iload_n hx hb dL_law_530 rfl (lv_at hl 3 rfl) ?_
                                  refine lv_iconst (v := (1 : Int32)) hx hb dL_law_531 (by decide) ?_
                                  refine mx_nadd (u := n3_18) (v := 1) hx hb rfl rfl dL_law_532 ?_
                                  refine va_sld hx hb hX hbl hbA w.2.2.2.1 (vp_in_nI (show n3_18 + 1 < L by omega) (by omega)) dL_law_533 ?_
                                  rw [nI_clamp (show n3_18 + 1 < 2 ^ 31 by omega)]
                                  refine mx_bi w (va_runV (As := [.int (xs (n3_18 + 1))]) (rest := []) X (ct_fill l G (fun q => s.heap.size ≤ q) _ fo (fun q => ∃ i, i < 5 ∧ q = pp i) vv_18 hW (xs (n3_18 + 1))) (cwV 1 X.2.2.2.2 (lw_V q1664 q1665 q1666 q96 q1667) rfl rfl rfl (by decide +kernel) ⟨by rw [hRf]; exact Nat.le_of_ble_eq_true rfl, by rw [hRl]; exact Nat.le_of_ble_eq_true rfl⟩) (mx_preV w rfl hfx rfl) rfl rfl hl.1 rfl (lv_room (Nat.le_of_ble_eq_true rfl)) dL_law_534 ⟨by rw [hRc]; omega, by rw [hRs]; omega⟩) (fun r1 M1 H locs hp w => ?_)
                                  obtain ⟨e1, hW1, hZ1⟩ := hp
                                  have hD1 := hD.keep hZ1
                                  refine lv_aload_n hx hb dL_law_537 rfl (lv_at hl 0 rfl) ?_
                                  refine lv_aload_n hx hb dL_law_538 rfl (lv_at hl 2 rfl) ?_
                                  refine lv_iload_n hx hb dL_law_539 rfl (lv_at hl 3 rfl) ?_
                                  refine lv_iconst (v := (1 : Int32)) hx hb dL_law_540 (by decide) ?_
                                  refine mx_nadd (u := n3_18) (v := 1) hx hb rfl rfl dL_law_541 ?_
                                  refine va_sld hx hb hX hbl hbA w.2.2.2.1 (vp_in_nI (show n3_18 + 1 < L by omega) (by omega)) dL_law_542 ?_
                                  rw [nI_clamp (show n3_18 + 1 < 2 ^ 31 by omega)]
                                  refine mx_bi w (va_runV (As := [.int (xs (n3_18 + 1))]) (rest := [.int r1]) X (mt_fill l G (fun q => s.heap.size ≤ q) pp M1 vv_18 (xs (n3_18 + 1)) hs9) (cwV 1 X.2.2.2.2 (lw_V q2205 q2206 q2207 q113 q2208) rfl rfl rfl (by decide +kernel) ⟨by rw [hRf]; exact Nat.le_of_ble_eq_true rfl, by rw [hRl]; exact Nat.le_of_ble_eq_true rfl⟩) (mx_preV w hD1 hD1.2.1 rfl) rfl rfl hl.1 rfl (lv_room (Nat.le_of_ble_eq_true rfl)) dL_law_543 ⟨by rw [hRc]; omega, by rw [hRs]; omega⟩) (fun r2 M2 H locs hp w => ?_)
                                  obtain ⟨e2, hD2⟩ := hp
                                  have hW := hW1.keepZ hD1 hD2
                                  have hD := hD2.self
                                  have e12 : r1 = r2 := e1.trans e2.symm
                                  refine lv_icmp_eq (tgt := 830) hx hb dL_law_546 (by decide) (fun c_546 => ?_) (fun c_546 => ?_)
                                  · skip
                                    refine lv_iinc (v := (nI (n3_18 + 4))) (lv' := [(3, .int (nI (n3_18 + 4))), (2, .ref (pp 0)), (1, .ref fo), (0, .ref b)]) hx hb dL_law_830 hl (k := 3) rfl (nI_incr _ 4) (by decide) rfl (fun ls hl => ?_)
                                    refine lv_goto (tgt := 18) hx hb dL_law_833 (by decide) ?_
                                    refine W.widen (k := 27 + 4200 * (kk_18 + 1)) (n := 1285 + 11400 * (kk_18 + 1)) (by omega) (by omega) ?_
                                    exact ih_18 (n3_18 + 4) ((mf_fill vv_18 (xs (n3_18 + 1))).2) (kk_18 + 1) _ H locs ls (by first | omega | assumption | exact (by omega)) (by first | omega | assumption | exact (by omega)) (by first | omega | assumption | exact hW) (by first | omega | assumption | exact hD) (by first | omega | assumption) (lv_sub hl [1, 2, 3, 0] rfl) w trivial
                                  · skip
                                    have hfin : false = true := absurd e12 c_546
                                    refine lv_iconst (v := (0 : Int32)) hx hb dL_law_549 (by decide) ?_
                                    refine W.widen (k := 1200000) (n := 5502250) (by omega) (by omega) ?_
                                    exact fin false _ H locs ls 550 dL_law_550 (hfin) w
                                · skip
                                  by_cases c_32_13 : ((xs (n3_18)) &&& (31 : Int32)) = (13 : Int32)
                                  · skip
                                    refine lv_tableIn (tgt := 551) hx hb dL_law_32 (by rw [c_32_13]; decide) (by rw [c_32_13]; decide) (by rw [c_32_13]; rfl) (by decide) ?_
                                    refine lv_aload_n hx hb dL_law_551 rfl (lv_at hl 1 rfl) ?_
                                    refine mx_bi w (va_runV (As := []) (rest := []) X (ct_reset l G (fun q => s.heap.size ≤ q) _ fo (fun q => ∃ i, i < 5 ∧ q = pp i) vv_18 hW ) (cwV 0 X.2.2.2.2 (lw_V q1669 q1670 q1671 q96 q1672) rfl rfl rfl (by decide +kernel) ⟨by rw [hRf]; exact Nat.le_of_ble_eq_true rfl, by rw [hRl]; exact Nat.le_of_ble_eq_true rfl⟩) (mx_preV w rfl hfx rfl) rfl rfl hl.1 rfl (lv_room (Nat.le_of_ble_eq_true rfl)) dL_law_552 ⟨by rw [hRc]; omega, by rw [hRs]; omega⟩) (fun r1 M1 H locs hp w => ?_)
                                    obtain ⟨e1, hW1, hZ1⟩ := hp
                                    have hD1 := hD.keep hZ1
                                    refine lv_aload_n hx hb dL_law_555 rfl (lv_at hl 0 rfl) ?_
                                    refine mx_bi w (va_runV (As := []) (rest := [.int r1]) X (mt_reset l G (fun q => s.heap.size ≤ q) pp M1 vv_18  hs9) (cwV 0 X.2.2.2.2 (lw_V q2210 q2211 q2212 q113 q2213) rfl rfl rfl (by decide +kernel) ⟨by rw [hRf]; exact Nat.le_of_ble_eq_true rfl, by rw [hRl]; exact Nat.le_of_ble_eq_true rfl⟩) (mx_preV w hD1 hD1.2.1 rfl) rfl rfl hl.1 rfl (lv_room (Nat.le_of_ble_eq_true rfl)) dL_law_556 ⟨by rw [hRc]; omega, by rw [hRs]; omega⟩) (fun r2 M2 H locs hp w => ?_)
                                    obtain ⟨e2, hD2⟩ := hp
                                    have hW := hW1.keepZ hD1 hD2
                                    have hD := hD2.self
                                    have e12 : r1 = r2 := e1.trans e2.symm
                                    refine lv_icmp_eq (tgt := 830) hx hb dL_law_559 (by decide) (fun c_559 => ?_) (fun c_559 => ?_)
                                    · skip
                                      refine lv_iinc (v := (nI (n3_18 + 4))) (lv' := [(3, .int (nI (n3_18 + 4))), (2, .ref (pp 0)), (1, .ref fo), (0, .ref b)]) hx hb dL_law_830 hl (k := 3) rfl (nI_incr _ 4) (by decide) rfl (fun ls hl => ?_)
                                      refine lv_goto (tgt := 18) hx hb dL_law_833 (by decide) ?_
                                      refine W.widen (k := 27 + 4200 * (kk_18 + 1)) (n := 1285 + 11400 * (kk_18 + 1)) (by omega) (by omega) ?_
                                      exact ih_18 (n3_18 + 4) ((mf_reset vv_18).2) (kk_18 + 1) _ H locs ls (by first | omega | assumption | exact (by omega)) (by first | omega | assumption | exact (by omega)) (by first | omega | assumption | exact hW) (by first | omega | assumption | exact hD) (by first | omega | assumption) (lv_sub hl [1, 2, 3, 0] rfl) w trivial
                                    · skip
                                      have hfin : false = true := absurd e12 c_559
                                      refine lv_iconst (v := (0 : Int32)) hx hb dL_law_562 (by decide) ?_
                                      refine W.widen (k := 1200000) (n := 5502250) (by omega) (by omega) ?_
                                      exact fin false _ H locs ls 563 dL_law_563 (hfin) w
                                  · skip
                                    by_cases c_32_14 : ((xs (n3_18)) &&& (31 : Int32)) = (14 : Int32)
                                    · skip
                                      refine lv_tableIn (tgt := 564) hx hb dL_law_32 (by rw [c_32_14]; decide) (by rw [c_32_14]; decide) (by rw [c_32_14]; rfl) (by decide) ?_
                                      refine lv_aload_n hx hb dL_law_564 rfl (lv_at hl 1 rfl) ?_
                                      refine lv_aload_n hx hb dL_law_565 rfl (lv_at hl 2 rfl) ?_
                                      refine lv_iload_n hx hb dL_law_566 rfl (lv_at hl 3 rfl) ?_
                                      refine lv_iconst (v := (1 : Int32)) hx hb dL_law_567 (by decide) ?_
                                      refine mx_nadd (u := n3_18) (v := 1) hx hb rfl rfl dL_law_568 ?_
                                      refine va_sld hx hb hX hbl hbA w.2.2.2.1 (vp_in_nI (show n3_18 + 1 < L by omega) (by omega)) dL_law_569 ?_
                                      rw [nI_clamp (show n3_18 + 1 < 2 ^ 31 by omega)]
                                      refine mx_bi w (va_runV (As := [.int (xs (n3_18 + 1))]) (rest := []) X (ct_pass l G (fun q => s.heap.size ≤ q) _ fo (fun q => ∃ i, i < 5 ∧ q = pp i) vv_18 hW (xs (n3_18 + 1))) (cwV 1 X.2.2.2.2 (lw_V q1673 q1674 q1675 q96 q1676) rfl rfl rfl (by decide +kernel) ⟨by rw [hRf]; exact Nat.le_of_ble_eq_true rfl, by rw [hRl]; exact Nat.le_of_ble_eq_true rfl⟩) (mx_preV w rfl hfx rfl) rfl rfl hl.1 rfl (lv_room (Nat.le_of_ble_eq_true rfl)) dL_law_570 ⟨by rw [hRc]; omega, by rw [hRs]; omega⟩) (fun r1 M1 H locs hp w => ?_)
                                      obtain ⟨e1, hW1, hZ1⟩ := hp
                                      have hD1 := hD.keep hZ1
                                      refine lv_aload_n hx hb dL_law_573 rfl (lv_at hl 0 rfl) ?_
                                      refine lv_aload_n hx hb dL_law_574 rfl (lv_at hl 2 rfl) ?_
                                      refine lv_iload_n hx hb dL_law_575 rfl (lv_at hl 3 rfl) ?_
                                      refine lv_iconst (v := (1 : Int32)) hx hb dL_law_576 (by decide) ?_
                                      refine mx_nadd (u := n3_18) (v := 1) hx hb rfl rfl dL_law_577 ?_
                                      refine va_sld hx hb hX hbl hbA w.2.2.2.1 (vp_in_nI (show n3_18 + 1 < L by omega) (by omega)) dL_law_578 ?_
                                      rw [nI_clamp (show n3_18 + 1 < 2 ^ 31 by omega)]
                                      refine mx_bi w (va_runV (As := [.int (xs (n3_18 + 1))]) (rest := [.int r1]) X (mt_pass l G (fun q => s.heap.size ≤ q) pp M1 vv_18 (xs (n3_18 + 1)) T np nz ng hI hs9 hT9) (cwV 1 X.2.2.2.2 (lw_V q2218 q2219 q2220 q113 q2221) rfl rfl rfl (by decide +kernel) ⟨by rw [hRf]; exact Nat.le_of_ble_eq_true rfl, by rw [hRl]; exact Nat.le_of_ble_eq_true rfl⟩) (mx_preV w hD1 hD1.2.1 rfl) rfl rfl hl.1 rfl (lv_room (Nat.le_of_ble_eq_true rfl)) dL_law_579 ⟨by rw [hRc]; omega, by rw [hRs]; omega⟩) (fun r2 M2 H locs hp w => ?_)
                                      obtain ⟨e2, hD2⟩ := hp
                                      have hW := hW1.keepZ hD1 hD2
                                      have hD := hD2.self
                                      have e12 : r1 = r2 := e1.trans e2.symm
                                      refine lv_icmp_eq (tgt := 830) hx hb dL_law_582 (by decide) (fun c_582 => ?_) (fun c_582 => ?_)
                                      · skip
                                        refine lv_iinc (v := (nI (n3_18 + 4))) (lv' := [(3, .int (nI (n3_18 + 4))), (2, .ref (pp 0)), (1, .ref fo), (0, .ref b)]) hx hb dL_law_830 hl (k := 3) rfl (nI_incr _ 4) (by decide) rfl (fun ls hl => ?_)
                                        refine lv_goto (tgt := 18) hx hb dL_law_833 (by decide) ?_
                                        refine W.widen (k := 27 + 4200 * (kk_18 + 1)) (n := 1285 + 11400 * (kk_18 + 1)) (by omega) (by omega) ?_
                                        exact ih_18 (n3_18 + 4) ((mf_pass vv_18 (xs (n3_18 + 1))).2) (kk_18 + 1) _ H locs ls (by first | omega | assumption | exact (by omega)) (by first | omega | assumption | exact (by omega)) (by first | omega | assumption | exact hW) (by first | omega | assumption | exact hD) (by first | omega | assumption) (lv_sub hl [1, 2, 3, 0] rfl) w trivial
                                      · skip
                                        have hfin : false = true := absurd e12 c_582
                                        refine lv_iconst (v := (0 : Int32)) hx hb dL_law_585 (by decide) ?_
                                        refine W.widen (k := 1200000) (n := 5502250) (by omega) (by omega) ?_
                                        exact fin false _ H locs ls 586 dL_law_586 (hfin) w
                                    · skip
                                      by_cases c_32_15 : ((xs (n3_18)) &&& (31 : Int32)) = (15 : Int32)
                                      · skip
                                        refine lv_tableIn (tgt := 587) hx hb dL_law_32 (by rw [c_32_15]; decide) (by rw [c_32_15]; decide) (by rw [c_32_15]; rfl) (by decide) ?_
                                        refine lv_aload_n hx hb dL_law_587 rfl (lv_at hl 1 rfl) ?_
                                        refine lv_aload_n hx hb dL_law_588 rfl (lv_at hl 2 rfl) ?_
                                        refine lv_iload_n hx hb dL_law_589 rfl (lv_at hl 3 rfl) ?_
                                        refine lv_iconst (v := (1 : Int32)) hx hb dL_law_590 (by decide) ?_
                                        refine mx_nadd (u := n3_18) (v := 1) hx hb rfl rfl dL_law_591 ?_
                                        refine va_sld hx hb hX hbl hbA w.2.2.2.1 (vp_in_nI (show n3_18 + 1 < L by omega) (by omega)) dL_law_592 ?_
                                        rw [nI_clamp (show n3_18 + 1 < 2 ^ 31 by omega)]
                                        refine lv_aload_n hx hb dL_law_593 rfl (lv_at hl 2 rfl) ?_
                                        refine lv_iload_n hx hb dL_law_594 rfl (lv_at hl 3 rfl) ?_
                                        refine lv_iconst (v := (2 : Int32)) hx hb dL_law_595 (by decide) ?_
                                        refine mx_nadd (u := n3_18) (v := 2) hx hb rfl rfl dL_law_596 ?_
                                        refine va_sld hx hb hX hbl hbA w.2.2.2.1 (vp_in_nI (show n3_18 + 2 < L by omega) (by omega)) dL_law_597 ?_
                                        rw [nI_clamp (show n3_18 + 2 < 2 ^ 31 by omega)]
                                        refine mx_bi w (va_runV (As := [.int (xs (n3_18 + 1)), .int (xs (n3_18 + 2))]) (rest := []) X (ct_foresee l G (fun q => s.heap.size ≤ q) _ fo (fun q => ∃ i, i < 5 ∧ q = pp i) vv_18 hW (xs (n3_18 + 1)) (xs (n3_18 + 2))) (cwV 2 X.2.2.2.2 (lw_V q1678 q1679 q1680 q96 q1681) rfl rfl rfl (by decide +kernel) ⟨by rw [hRf]; exact Nat.le_of_ble_eq_true rfl, by rw [hRl]; exact Nat.le_of_ble_eq_true rfl⟩) (mx_preV w rfl hfx rfl) rfl rfl hl.1 rfl (lv_room (Nat.le_of_ble_eq_true rfl)) dL_law_598 ⟨by rw [hRc]; omega, by rw [hRs]; omega⟩) (fun r1 M1 H locs hp w => ?_)
                                        obtain ⟨e1, hW1, hZ1⟩ := hp
                                        have hD1 := hD.keep hZ1
                                        refine lv_aload_n hx hb dL_law_601 rfl (lv_at hl 0 rfl) ?_
                                        refine lv_aload_n hx hb dL_law_602 rfl (lv_at hl 2 rfl) ?_
                                        refine lv_iload_n hx hb dL_law_603 rfl (lv_at hl 3 rfl) ?_
                                        refine lv_iconst (v := (1 : Int32)) hx hb dL_law_604 (by decide) ?_
                                        refine mx_nadd (u := n3_18) (v := 1) hx hb rfl rfl dL_law_605 ?_
                                        refine va_sld hx hb hX hbl hbA w.2.2.2.1 (vp_in_nI (show n3_18 + 1 < L by omega) (by omega)) dL_law_606 ?_
                                        rw [nI_clamp (show n3_18 + 1 < 2 ^ 31 by omega)]
                                        refine lv_aload_n hx hb dL_law_607 rfl (lv_at hl 2 rfl) ?_
                                        refine lv_iload_n hx hb dL_law_608 rfl (lv_at hl 3 rfl) ?_
                                        refine lv_iconst (v := (2 : Int32)) hx hb dL_law_609 (by decide) ?_
                                        refine mx_nadd (u := n3_18) (v := 2) hx hb rfl rfl dL_law_610 ?_
                                        refine va_sld hx hb hX hbl hbA w.2.2.2.1 (vp_in_nI (show n3_18 + 2 < L by omega) (by omega)) dL_law_611 ?_
                                        rw [nI_clamp (show n3_18 + 2 < 2 ^ 31 by omega)]
                                        refine mx_bi w (va_runV (As := [.int (xs (n3_18 + 1)), .int (xs (n3_18 + 2))]) (rest := [.int r1]) X (mt_foresee l G (fun q => s.heap.size ≤ q) pp M1 vv_18 (xs (n3_18 + 1)) (xs (n3_18 + 2)) T np nz ng hI hT9) (cwV 2 X.2.2.2.2 (lw_V q2306 q2307 q2308 q113 q2309) rfl rfl rfl (by decide +kernel) ⟨by rw [hRf]; exact Nat.le_of_ble_eq_true rfl, by rw [hRl]; exact Nat.le_of_ble_eq_true rfl⟩) (mx_preV w hD1 hD1.2.1 rfl) rfl rfl hl.1 rfl (lv_room (Nat.le_of_ble_eq_true rfl)) dL_law_612 ⟨by rw [hRc]; omega, by rw [hRs]; omega⟩) (fun r2 M2 H locs hp w => ?_)
                                        obtain ⟨e2, hD2⟩ := hp
                                        have hW := hW1.keepZ hD1 hD2
                                        have hD := hD2.self
                                        have e12 : r1 = r2 := e1.trans e2.symm
                                        refine lv_icmp_eq (tgt := 830) hx hb dL_law_615 (by decide) (fun c_615 => ?_) (fun c_615 => ?_)
                                        · skip
                                          refine lv_iinc (v := (nI (n3_18 + 4))) (lv' := [(3, .int (nI (n3_18 + 4))), (2, .ref (pp 0)), (1, .ref fo), (0, .ref b)]) hx hb dL_law_830 hl (k := 3) rfl (nI_incr _ 4) (by decide) rfl (fun ls hl => ?_)
                                          refine lv_goto (tgt := 18) hx hb dL_law_833 (by decide) ?_
                                          refine W.widen (k := 27 + 4200 * (kk_18 + 1)) (n := 1285 + 11400 * (kk_18 + 1)) (by omega) (by omega) ?_
                                          exact ih_18 (n3_18 + 4) ((mf_foresee vv_18 (xs (n3_18 + 1)) (xs (n3_18 + 2))).2) (kk_18 + 1) _ H locs ls (by first | omega | assumption | exact (by omega)) (by first | omega | assumption | exact (by omega)) (by first | omega | assumption | exact hW) (by first | omega | assumption | exact hD) (by first | omega | assumption) (lv_sub hl [1, 2, 3, 0] rfl) w trivial
                                        · skip
                                          have hfin : false = true := absurd e12 c_615
                                          refine lv_iconst (v := (0 : Int32)) hx hb dL_law_618 (by decide) ?_
                                          refine W.widen (k := 1200000) (n := 5502250) (by omega) (by omega) ?_
                                          exact fin false _ H locs ls 619 dL_law_619 (hfin) w
                                      · skip
                                        by_cases c_32_16 : ((xs (n3_18)) &&& (31 : Int32)) = (16 : Int32)
                                        · skip
                                          refine lv_tableIn (tgt := 620) hx hb dL_law_32 (by rw [c_32_16]; decide) (by rw [c_32_16]; decide) (by rw [c_32_16]; rfl) (by decide) ?_
                                          refine lv_aload_n hx hb dL_law_620 rfl (lv_at hl 1 rfl) ?_
                                          refine lv_aload_n hx hb dL_law_621 rfl (lv_at hl 2 rfl) ?_
                                          refine lv_iload_n hx hb dL_law_622 rfl (lv_at hl 3 rfl) ?_
                                          refine lv_iconst (v := (1 : Int32)) hx hb dL_law_623 (by decide) ?_
                                          refine mx_nadd (u := n3_18) (v := 1) hx hb rfl rfl dL_law_624 ?_
                                          refine va_sld hx hb hX hbl hbA w.2.2.2.1 (vp_in_nI (show n3_18 + 1 < L by omega) (by omega)) dL_law_625 ?_
                                          rw [nI_clamp (show n3_18 + 1 < 2 ^ 31 by omega)]
                                          refine mx_bi w (va_runV (As := [.int (xs (n3_18 + 1))]) (rest := []) X (ct_foreseeEvent l G (fun q => s.heap.size ≤ q) _ fo (fun q => ∃ i, i < 5 ∧ q = pp i) vv_18 hW (xs (n3_18 + 1))) (cwV 1 X.2.2.2.2 (lw_V q1685 q1686 q1687 q96 q1688) rfl rfl rfl (by decide +kernel) ⟨by rw [hRf]; exact Nat.le_of_ble_eq_true rfl, by rw [hRl]; exact Nat.le_of_ble_eq_true rfl⟩) (mx_preV w rfl hfx rfl) rfl rfl hl.1 rfl (lv_room (Nat.le_of_ble_eq_true rfl)) dL_law_626 ⟨by rw [hRc]; omega, by rw [hRs]; omega⟩) (fun r1 M1 H locs hp w => ?_)
                                          obtain ⟨e1, hW1, hZ1⟩ := hp
                                          have hD1 := hD.keep hZ1
                                          refine lv_aload_n hx hb dL_law_629 rfl (lv_at hl 0 rfl) ?_
                                          refine lv_aload_n hx hb dL_law_630 rfl (lv_at hl 2 rfl) ?_
                                          refine lv_iload_n hx hb dL_law_631 rfl (lv_at hl 3 rfl) ?_
                                          refine lv_iconst (v := (1 : Int32)) hx hb dL_law_632 (by decide) ?_
                                          refine mx_nadd (u := n3_18) (v := 1) hx hb rfl rfl dL_law_633 ?_
                                          refine va_sld hx hb hX hbl hbA w.2.2.2.1 (vp_in_nI (show n3_18 + 1 < L by omega) (by omega)) dL_law_634 ?_
                                          rw [nI_clamp (show n3_18 + 1 < 2 ^ 31 by omega)]
                                          refine mx_bi w (va_runV (As := [.int (xs (n3_18 + 1))]) (rest := [.int r1]) X (mt_foreseeEvent l G (fun q => s.heap.size ≤ q) pp M1 vv_18 (xs (n3_18 + 1)) T np nz ng hI hT9) (cwV 1 X.2.2.2.2 (lw_V q2319 q2320 q2321 q113 q2322) rfl rfl rfl (by decide +kernel) ⟨by rw [hRf]; exact Nat.le_of_ble_eq_true rfl, by rw [hRl]; exact Nat.le_of_ble_eq_true rfl⟩) (mx_preV w hD1 hD1.2.1 rfl) rfl rfl hl.1 rfl (lv_room (Nat.le_of_ble_eq_true rfl)) dL_law_635 ⟨by rw [hRc]; omega, by rw [hRs]; omega⟩) (fun r2 M2 H locs hp w => ?_)
                                          obtain ⟨e2, hD2⟩ := hp
                                          have hW := hW1.keepZ hD1 hD2
                                          have hD := hD2.self
                                          have e12 : r1 = r2 := e1.trans e2.symm
                                          refine lv_icmp_eq (tgt := 830) hx hb dL_law_638 (by decide) (fun c_638 => ?_) (fun c_638 => ?_)
                                          · skip
                                            refine lv_iinc (v := (nI (n3_18 + 4))) (lv' := [(3, .int (nI (n3_18 + 4))), (2, .ref (pp 0)), (1, .ref fo), (0, .ref b)]) hx hb dL_law_830 hl (k := 3) rfl (nI_incr _ 4) (by decide) rfl (fun ls hl => ?_)
                                            refine lv_goto (tgt := 18) hx hb dL_law_833 (by decide) ?_
                                            refine W.widen (k := 27 + 4200 * (kk_18 + 1)) (n := 1285 + 11400 * (kk_18 + 1)) (by omega) (by omega) ?_
                                            exact ih_18 (n3_18 + 4) ((mf_foreseeEvent vv_18 (xs (n3_18 + 1))).2) (kk_18 + 1) _ H locs ls (by first | omega | assumption | exact (by omega)) (by first | omega | assumption | exact (by omega)) (by first | omega | assumption | exact hW) (by first | omega | assumption | exact hD) (by first | omega | assumption) (lv_sub hl [1, 2, 3, 0] rfl) w trivial
                                          · skip
                                            have hfin : false = true := absurd e12 c_638
                                            refine lv_iconst (v := (0 : Int32)) hx hb dL_law_641 (by decide) ?_
                                            refine W.widen (k := 1200000) (n := 5502250) (by omega) (by omega) ?_
                                            exact fin false _ H locs ls 642 dL_law_642 (hfin) w
                                        · skip
                                          by_cases c_32_17 : ((xs (n3_18)) &&& (31 : Int32)) = (17 : Int32)
                                          · skip
                                            refine lv_tableIn (tgt := 643) hx hb dL_law_32 (by rw [c_32_17]; decide) (by rw [c_32_17]; decide) (by rw [c_32_17]; rfl) (by decide) ?_
                                            refine lv_aload_n hx hb dL_law_643 rfl (lv_at hl 1 rfl) ?_
                                            refine lv_aload_n hx hb dL_law_644 rfl (lv_at hl 2 rfl) ?_
                                            refine lv_iload_n hx hb dL_law_645 rfl (lv_at hl 3 rfl) ?_
                                            refine lv_iconst (v := (1 : Int32)) hx hb dL_law_646 (by decide) ?_
                                            refine mx_nadd (u := n3_18) (v := 1) hx hb rfl rfl dL_law_647 ?_
                                            refine va_sld hx hb hX hbl hbA w.2.2.2.1 (vp_in_nI (show n3_18 + 1 < L by omega) (by omega)) dL_law_648 ?_
                                            rw [nI_clamp (show n3_18 + 1 < 2 ^ 31 by omega)]
                                            refine mx_bi w (va_runV (As := [.int (xs (n3_18 + 1))]) (rest := []) X (cw_station l G (fun q => s.heap.size ≤ q) _ fo (fun q => ∃ i, i < 5 ∧ q = pp i) vv_18 hW (xs (n3_18 + 1))) (cwV 1 X.2.2.2.2 (lw_V q1690 q1691 q1692 q96 q1693) rfl rfl rfl (by decide +kernel) ⟨by rw [hRf]; exact Nat.le_of_ble_eq_true rfl, by rw [hRl]; exact Nat.le_of_ble_eq_true rfl⟩) (mx_preV w rfl hfx rfl) rfl rfl hl.1 rfl (lv_room (Nat.le_of_ble_eq_true rfl)) dL_law_649 ⟨by rw [hRc]; omega, by rw [hRs]; omega⟩) (fun r1 M1 H locs hp w => ?_)
                                            obtain ⟨e1, hW1, hZ1⟩ := hp
                                            have hD1 := hD.keep hZ1
                                            refine lv_aload_n hx hb dL_law_652 rfl (lv_at hl 0 rfl) ?_
                                            refine lv_aload_n hx hb dL_law_653 rfl (lv_at hl 2 rfl) ?_
                                            refine lv_iload_n hx hb dL_law_654 rfl (lv_at hl 3 rfl) ?_
                                            refine lv_iconst (v := (1 : Int32)) hx hb dL_law_655 (by decide) ?_
                                            refine mx_nadd (u := n3_18) (v := 1) hx hb rfl rfl dL_law_656 ?_
                                            refine va_sld hx hb hX hbl hbA w.2.2.2.1 (vp_in_nI (show n3_18 + 1 < L by omega) (by omega)) dL_law_657 ?_
                                            rw [nI_clamp (show n3_18 + 1 < 2 ^ 31 by omega)]
                                            refine mx_bi w (va_runV (As := [.int (xs (n3_18 + 1))]) (rest := [.int r1]) X (mt_station l G (fun q => s.heap.size ≤ q) pp M1 vv_18 (xs (n3_18 + 1)) T np nz ng hI) (cwV 1 X.2.2.2.2 (lw_V q2324 q2325 q2326 q113 q2327) rfl rfl rfl (by decide +kernel) ⟨by rw [hRf]; exact Nat.le_of_ble_eq_true rfl, by rw [hRl]; exact Nat.le_of_ble_eq_true rfl⟩) (mx_preV w hD1 hD1.2.1 rfl) rfl rfl hl.1 rfl (lv_room (Nat.le_of_ble_eq_true rfl)) dL_law_658 ⟨by rw [hRc]; omega, by rw [hRs]; omega⟩) (fun r2 M2 H locs hp w => ?_)
                                            obtain ⟨e2, hD2⟩ := hp
                                            have hW := hW1.keepZ hD1 hD2
                                            have hD := hD2.self
                                            have e12 : r1 = r2 := e1.trans e2.symm
                                            refine lv_icmp_eq (tgt := 830) hx hb dL_law_661 (by decide) (fun c_661 => ?_) (fun c_661 => ?_)
                                            · skip
                                              refine lv_iinc (v := (nI (n3_18 + 4))) (lv' := [(3, .int (nI (n3_18 + 4))), (2, .ref (pp 0)), (1, .ref fo), (0, .ref b)]) hx hb dL_law_830 hl (k := 3) rfl (nI_incr _ 4) (by decide) rfl (fun ls hl => ?_)
                                              refine lv_goto (tgt := 18) hx hb dL_law_833 (by decide) ?_
                                              refine W.widen (k := 27 + 4200 * (kk_18 + 1)) (n := 1285 + 11400 * (kk_18 + 1)) (by omega) (by omega) ?_
                                              exact ih_18 (n3_18 + 4) vv_18 (kk_18 + 1) _ H locs ls (by first | omega | assumption | exact (by omega)) (by first | omega | assumption | exact (by omega)) (by first | omega | assumption | exact hW) (by first | omega | assumption | exact hD) (by first | omega | assumption) (lv_sub hl [1, 2, 3, 0] rfl) w trivial
                                            · skip
                                              have hfin : false = true := absurd e12 c_661
                                              refine lv_iconst (v := (0 : Int32)) hx hb dL_law_664 (by decide) ?_
                                              refine W.widen (k := 1200000) (n := 5502250) (by omega) (by omega) ?_
                                              exact fin false _ H locs ls 665 dL_law_665 (hfin) w
                                          · skip
                                            by_cases c_32_18 : ((xs (n3_18)) &&& (31 : Int32)) = (18 : Int32)
                                            · skip
                                              refine lv_tableIn (tgt := 666) hx hb dL_law_32 (by rw [c_32_18]; decide) (by rw [c_32_18]; decide) (by rw [c_32_18]; rfl) (by decide) ?_
                                              refine lv_aload_n hx hb dL_law_666 rfl (lv_at hl 1 rfl) ?_
                                              refine lv_aload_n hx hb dL_law_667 rfl (lv_at hl 2 rfl) ?_
                                              refine lv_iload_n hx hb dL_law_668 rfl (lv_at hl 3 rfl) ?_
                                              refine lv_iconst (v := (1 : Int32)) hx hb dL_law_669 (by decide) ?_
                                              refine mx_nadd (u := n3_18) (v := 1) hx hb rfl rfl dL_law_670 ?_
                                              refine va_sld hx hb hX hbl hbA w.2.2.2.1 (vp_in_nI (show n3_18 + 1 < L by omega) (by omega)) dL_law_671 ?_
                                              rw [nI_clamp (show n3_18 + 1 < 2 ^ 31 by omega)]
                                              refine mx_bi w (va_runV (As := [.int (xs (n3_18 + 1))]) (rest := []) X (cw_nightAt l G (fun q => s.heap.size ≤ q) _ fo (fun q => ∃ i, i < 5 ∧ q = pp i) vv_18 hW (xs (n3_18 + 1))) (cwV 1 X.2.2.2.2 (lw_V q1726 q1727 q1728 q96 q1729) rfl rfl rfl (by decide +kernel) ⟨by rw [hRf]; exact Nat.le_of_ble_eq_true rfl, by rw [hRl]; exact Nat.le_of_ble_eq_true rfl⟩) (mx_preV w rfl hfx rfl) rfl rfl hl.1 rfl (lv_room (Nat.le_of_ble_eq_true rfl)) dL_law_672 ⟨by rw [hRc]; omega, by rw [hRs]; omega⟩) (fun r1 M1 H locs hp w => ?_)
                                              obtain ⟨e1, hW1, hZ1⟩ := hp
                                              have hD1 := hD.keep hZ1
                                              refine lv_aload_n hx hb dL_law_675 rfl (lv_at hl 0 rfl) ?_
                                              refine lv_aload_n hx hb dL_law_676 rfl (lv_at hl 2 rfl) ?_
                                              refine lv_iload_n hx hb dL_law_677 rfl (lv_at hl 3 rfl) ?_
                                              refine lv_iconst (v := (1 : Int32)) hx hb dL_law_678 (by decide) ?_
                                              refine mx_nadd (u := n3_18) (v := 1) hx hb rfl rfl dL_law_679 ?_
                                              refine va_sld hx hb hX hbl hbA w.2.2.2.1 (vp_in_nI (show n3_18 + 1 < L by omega) (by omega)) dL_law_680 ?_
                                              rw [nI_clamp (show n3_18 + 1 < 2 ^ 31 by omega)]
                                              refine mx_bi w (va_runV (As := [.int (xs (n3_18 + 1))]) (rest := [.int r1]) X (mt_nightAt l G (fun q => s.heap.size ≤ q) pp M1 vv_18 (xs (n3_18 + 1)) (tN (vv_18 1 18)) e18 h18) (cwV 1 X.2.2.2.2 (lw_V q2329 q2330 q2331 q113 q2332) rfl rfl rfl (by decide +kernel) ⟨by rw [hRf]; exact Nat.le_of_ble_eq_true rfl, by rw [hRl]; exact Nat.le_of_ble_eq_true rfl⟩) (mx_preV w hD1 hD1.2.1 rfl) rfl rfl hl.1 rfl (lv_room (Nat.le_of_ble_eq_true rfl)) dL_law_681 ⟨by rw [hRc]; omega, by rw [hRs]; omega⟩) (fun r2 M2 H locs hp w => ?_)
                                              obtain ⟨e2, hD2⟩ := hp
                                              have hW := hW1.keepZ hD1 hD2
                                              have hD := hD2.self
                                              have e12 : r1 = r2 := e1.trans e2.symm
                                              refine lv_icmp_eq (tgt := 830) hx hb dL_law_684 (by decide) (fun c_684 => ?_) (fun c_684 => ?_)
                                              · skip
                                                refine lv_iinc (v := (nI (n3_18 + 4))) (lv' := [(3, .int (nI (n3_18 + 4))), (2, .ref (pp 0)), (1, .ref fo), (0, .ref b)]) hx hb dL_law_830 hl (k := 3) rfl (nI_incr _ 4) (by decide) rfl (fun ls hl => ?_)
                                                refine lv_goto (tgt := 18) hx hb dL_law_833 (by decide) ?_
                                                refine W.widen (k := 27 + 4200 * (kk_18 + 1)) (n := 1285 + 11400 * (kk_18 + 1)) (by omega) (by omega) ?_
                                                exact ih_18 (n3_18 + 4) vv_18 (kk_18 + 1) _ H locs ls (by first | omega | assumption | exact (by omega)) (by first | omega | assumption | exact (by omega)) (by first | omega | assumption | exact hW) (by first | omega | assumption | exact hD) (by first | omega | assumption) (lv_sub hl [1, 2, 3, 0] rfl) w trivial
                                              · skip
                                                have hfin : false = true := absurd e12 c_684
                                                refine lv_iconst (v := (0 : Int32)) hx hb dL_law_687 (by decide) ?_
                                                refine W.widen (k := 1200000) (n := 5502250) (by omega) (by omega) ?_
                                                exact fin false _ H locs ls 688 dL_law_688 (hfin) w
                                            · skip
                                              by_cases c_32_19 : ((xs (n3_18)) &&& (31 : Int32)) = (19 : Int32)
                                              · skip
                                                refine lv_tableIn (tgt := 689) hx hb dL_law_32 (by rw [c_32_19]; decide) (by rw [c_32_19]; decide) (by rw [c_32_19]; rfl) (by decide) ?_
                                                refine lv_aload_n hx hb dL_law_689 rfl (lv_at hl 1 rfl) ?_
                                                refine lv_aload_n hx hb dL_law_690 rfl (lv_at hl 2 rfl) ?_
                                                refine lv_iload_n hx hb dL_law_691 rfl (lv_at hl 3 rfl) ?_
                                                refine lv_iconst (v := (1 : Int32)) hx hb dL_law_692 (by decide) ?_
                                                refine mx_nadd (u := n3_18) (v := 1) hx hb rfl rfl dL_law_693 ?_
                                                refine va_sld hx hb hX hbl hbA w.2.2.2.1 (vp_in_nI (show n3_18 + 1 < L by omega) (by omega)) dL_law_694 ?_
                                                rw [nI_clamp (show n3_18 + 1 < 2 ^ 31 by omega)]
                                                refine lv_aload_n hx hb dL_law_695 rfl (lv_at hl 2 rfl) ?_
                                                refine lv_iload_n hx hb dL_law_696 rfl (lv_at hl 3 rfl) ?_
                                                refine lv_iconst (v := (2 : Int32)) hx hb dL_law_697 (by decide) ?_
                                                refine mx_nadd (u := n3_18) (v := 2) hx hb rfl rfl dL_law_698 ?_
                                                refine va_sld hx hb hX hbl hbA w.2.2.2.1 (vp_in_nI (show n3_18 + 2 < L by omega) (by omega)) dL_law_699 ?_
                                                rw [nI_clamp (show n3_18 + 2 < 2 ^ 31 by omega)]
                                                refine mx_bi w (va_runV (As := [.int (xs (n3_18 + 1)), .int (xs (n3_18 + 2))]) (rest := []) X (cw_eventAt l G (fun q => s.heap.size ≤ q) _ fo (fun q => ∃ i, i < 5 ∧ q = pp i) vv_18 hW (xs (n3_18 + 1)) (xs (n3_18 + 2))) (cwV 2 X.2.2.2.2 (lw_V q1732 q1733 q1734 q96 q1735) rfl rfl rfl (by decide +kernel) ⟨by rw [hRf]; exact Nat.le_of_ble_eq_true rfl, by rw [hRl]; exact Nat.le_of_ble_eq_true rfl⟩) (mx_preV w rfl hfx rfl) rfl rfl hl.1 rfl (lv_room (Nat.le_of_ble_eq_true rfl)) dL_law_700 ⟨by rw [hRc]; omega, by rw [hRs]; omega⟩) (fun r1 M1 H locs hp w => ?_)
                                                obtain ⟨e1, hW1, hZ1⟩ := hp
                                                have hD1 := hD.keep hZ1
                                                refine lv_aload_n hx hb dL_law_703 rfl (lv_at hl 0 rfl) ?_
                                                refine lv_aload_n hx hb dL_law_704 rfl (lv_at hl 2 rfl) ?_
                                                refine lv_iload_n hx hb dL_law_705 rfl (lv_at hl 3 rfl) ?_
                                                refine lv_iconst (v := (1 : Int32)) hx hb dL_law_706 (by decide) ?_
                                                refine mx_nadd (u := n3_18) (v := 1) hx hb rfl rfl dL_law_707 ?_
                                                refine va_sld hx hb hX hbl hbA w.2.2.2.1 (vp_in_nI (show n3_18 + 1 < L by omega) (by omega)) dL_law_708 ?_
                                                rw [nI_clamp (show n3_18 + 1 < 2 ^ 31 by omega)]
                                                refine lv_aload_n hx hb dL_law_709 rfl (lv_at hl 2 rfl) ?_
                                                refine lv_iload_n hx hb dL_law_710 rfl (lv_at hl 3 rfl) ?_
                                                refine lv_iconst (v := (2 : Int32)) hx hb dL_law_711 (by decide) ?_
                                                refine mx_nadd (u := n3_18) (v := 2) hx hb rfl rfl dL_law_712 ?_
                                                refine va_sld hx hb hX hbl hbA w.2.2.2.1 (vp_in_nI (show n3_18 + 2 < L by omega) (by omega)) dL_law_713 ?_
                                                rw [nI_clamp (show n3_18 + 2 < 2 ^ 31 by omega)]
                                                refine mx_bi w (va_runV (As := [.int (xs (n3_18 + 1)), .int (xs (n3_18 + 2))]) (rest := [.int r1]) X (mt_eventAt l G (fun q => s.heap.size ≤ q) pp M1 vv_18 (xs (n3_18 + 1)) (xs (n3_18 + 2)) (tN (vv_18 1 19)) e19 h19) (cwV 2 X.2.2.2.2 (lw_V q2333 q2334 q2335 q113 q2336) rfl rfl rfl (by decide +kernel) ⟨by rw [hRf]; exact Nat.le_of_ble_eq_true rfl, by rw [hRl]; exact Nat.le_of_ble_eq_true rfl⟩) (mx_preV w hD1 hD1.2.1 rfl) rfl rfl hl.1 rfl (lv_room (Nat.le_of_ble_eq_true rfl)) dL_law_714 ⟨by rw [hRc]; omega, by rw [hRs]; omega⟩) (fun r2 M2 H locs hp w => ?_)
                                                obtain ⟨e2, hD2⟩ := hp
                                                have hW := hW1.keepZ hD1 hD2
                                                have hD := hD2.self
                                                have e12 : r1 = r2 := e1.trans e2.symm
                                                refine lv_icmp_eq (tgt := 830) hx hb dL_law_717 (by decide) (fun c_717 => ?_) (fun c_717 => ?_)
                                                · skip
                                                  refine lv_iinc (v := (nI (n3_18 + 4))) (lv' := [(3, .int (nI (n3_18 + 4))), (2, .ref (pp 0)), (1, .ref fo), (0, .ref b)]) hx hb dL_law_830 hl (k := 3) rfl (nI_incr _ 4) (by decide) rfl (fun ls hl => ?_)
                                                  refine lv_goto (tgt := 18) hx hb dL_law_833 (by decide) ?_
                                                  refine W.widen (k := 27 + 4200 * (kk_18 + 1)) (n := 1285 + 11400 * (kk_18 + 1)) (by omega) (by omega) ?_
                                                  exact ih_18 (n3_18 + 4) vv_18 (kk_18 + 1) _ H locs ls (by first | omega | assumption | exact (by omega)) (by first | omega | assumption | exact (by omega)) (by first | omega | assumption | exact hW) (by first | omega | assumption | exact hD) (by first | omega | assumption) (lv_sub hl [1, 2, 3, 0] rfl) w trivial
                                                · skip
                                                  have hfin : false = true := absurd e12 c_717
                                                  refine lv_iconst (v := (0 : Int32)) hx hb dL_law_720 (by decide) ?_
                                                  refine W.widen (k := 1200000) (n := 5502250) (by omega) (by omega) ?_
                                                  exact fin false _ H locs ls 721 dL_law_721 (hfin) w
                                              · skip
                                                by_cases c_32_20 : ((xs (n3_18)) &&& (31 : Int32)) = (20 : Int32)
                                                · skip
                                                  refine lv_tableIn (tgt := 722) hx hb dL_law_32 (by rw [c_32_20]; decide) (by rw [c_32_20]; decide) (by rw [c_32_20]; rfl) (by decide) ?_
                                                  refine lv_aload_n hx hb dL_law_722 rfl (lv_at hl 1 rfl) ?_
                                                  refine lv_aload_n hx hb dL_law_723 rfl (lv_at hl 2 rfl) ?_
                                                  refine lv_iload_n hx hb dL_law_724 rfl (lv_at hl 3 rfl) ?_
                                                  refine lv_iconst (v := (1 : Int32)) hx hb dL_law_725 (by decide) ?_
                                                  refine mx_nadd (u := n3_18) (v := 1) hx hb rfl rfl dL_law_726 ?_
                                                  refine va_sld hx hb hX hbl hbA w.2.2.2.1 (vp_in_nI (show n3_18 + 1 < L by omega) (by omega)) dL_law_727 ?_
                                                  rw [nI_clamp (show n3_18 + 1 < 2 ^ 31 by omega)]
                                                  refine mx_bi w (va_runV (As := [.int (xs (n3_18 + 1))]) (rest := []) X (cw_count l G (fun q => s.heap.size ≤ q) _ fo (fun q => ∃ i, i < 5 ∧ q = pp i) vv_18 hW (xs (n3_18 + 1))) (cwV 1 X.2.2.2.2 (lw_V q1736 q1737 q1738 q96 q1739) rfl rfl rfl (by decide +kernel) ⟨by rw [hRf]; exact Nat.le_of_ble_eq_true rfl, by rw [hRl]; exact Nat.le_of_ble_eq_true rfl⟩) (mx_preV w rfl hfx rfl) rfl rfl hl.1 rfl (lv_room (Nat.le_of_ble_eq_true rfl)) dL_law_728 ⟨by rw [hRc]; omega, by rw [hRs]; omega⟩) (fun r1 M1 H locs hp w => ?_)
                                                  obtain ⟨e1, hW1, hZ1⟩ := hp
                                                  have hD1 := hD.keep hZ1
                                                  refine lv_aload_n hx hb dL_law_731 rfl (lv_at hl 0 rfl) ?_
                                                  refine lv_aload_n hx hb dL_law_732 rfl (lv_at hl 2 rfl) ?_
                                                  refine lv_iload_n hx hb dL_law_733 rfl (lv_at hl 3 rfl) ?_
                                                  refine lv_iconst (v := (1 : Int32)) hx hb dL_law_734 (by decide) ?_
                                                  refine mx_nadd (u := n3_18) (v := 1) hx hb rfl rfl dL_law_735 ?_
                                                  refine va_sld hx hb hX hbl hbA w.2.2.2.1 (vp_in_nI (show n3_18 + 1 < L by omega) (by omega)) dL_law_736 ?_
                                                  rw [nI_clamp (show n3_18 + 1 < 2 ^ 31 by omega)]
                                                  refine mx_bi w (va_runV (As := [.int (xs (n3_18 + 1))]) (rest := [.int r1]) X (mt_count l G (fun q => s.heap.size ≤ q) pp M1 vv_18 (xs (n3_18 + 1)) T np nz ng hI) (cwV 1 X.2.2.2.2 (lw_V q2337 q2338 q2339 q113 q2340) rfl rfl rfl (by decide +kernel) ⟨by rw [hRf]; exact Nat.le_of_ble_eq_true rfl, by rw [hRl]; exact Nat.le_of_ble_eq_true rfl⟩) (mx_preV w hD1 hD1.2.1 rfl) rfl rfl hl.1 rfl (lv_room (Nat.le_of_ble_eq_true rfl)) dL_law_737 ⟨by rw [hRc]; omega, by rw [hRs]; omega⟩) (fun r2 M2 H locs hp w => ?_)
                                                  obtain ⟨e2, hD2⟩ := hp
                                                  have hW := hW1.keepZ hD1 hD2
                                                  have hD := hD2.self
                                                  have e12 : r1 = r2 := e1.trans e2.symm
                                                  refine lv_icmp_eq (tgt := 830) hx hb dL_law_740 (by decide) (fun c_740 => ?_) (fun c_740 => ?_)
                                                  · skip
                                                    refine lv_iinc (v := (nI (n3_18 + 4))) (lv' := [(3, .int (nI (n3_18 + 4))), (2, .ref (pp 0)), (1, .ref fo), (0, .ref b)]) hx hb dL_law_830 hl (k := 3) rfl (nI_incr _ 4) (by decide) rfl (fun ls hl => ?_)
                                                    refine lv_goto (tgt := 18) hx hb dL_law_833 (by decide) ?_
                                                    refine W.widen (k := 27 + 4200 * (kk_18 + 1)) (n := 1285 + 11400 * (kk_18 + 1)) (by omega) (by omega) ?_
                                                    exact ih_18 (n3_18 + 4) vv_18 (kk_18 + 1) _ H locs ls (by first | omega | assumption | exact (by omega)) (by first | omega | assumption | exact (by omega)) (by first | omega | assumption | exact hW) (by first | omega | assumption | exact hD) (by first | omega | assumption) (lv_sub hl [1, 2, 3, 0] rfl) w trivial
                                                  · skip
                                                    have hfin : false = true := absurd e12 c_740
                                                    refine lv_iconst (v := (0 : Int32)) hx hb dL_law_743 (by decide) ?_
                                                    refine W.widen (k := 1200000) (n := 5502250) (by omega) (by omega) ?_
                                                    exact fin false _ H locs ls 744 dL_law_744 (hfin) w
                                                · skip
                                                  by_cases c_32_21 : ((xs (n3_18)) &&& (31 : Int32)) = (21 : Int32)
                                                  · skip
                                                    refine lv_tableIn (tgt := 745) hx hb dL_law_32 (by rw [c_32_21]; decide) (by rw [c_32_21]; decide) (by rw [c_32_21]; rfl) (by decide) ?_
                                                    refine lv_aload_n hx hb dL_law_745 rfl (lv_at hl 1 rfl) ?_
                                                    refine mx_bi w (va_runV (As := []) (rest := []) X (ct_undo l G (fun q => s.heap.size ≤ q) _ fo (fun q => ∃ i, i < 5 ∧ q = pp i) vv_18 hW ) (cwV 0 X.2.2.2.2 (lw_V q1755 q1756 q1757 q96 q1758) rfl rfl rfl (by decide +kernel) ⟨by rw [hRf]; exact Nat.le_of_ble_eq_true rfl, by rw [hRl]; exact Nat.le_of_ble_eq_true rfl⟩) (mx_preV w rfl hfx rfl) rfl rfl hl.1 rfl (lv_room (Nat.le_of_ble_eq_true rfl)) dL_law_746 ⟨by rw [hRc]; omega, by rw [hRs]; omega⟩) (fun r1 M1 H locs hp w => ?_)
                                                    obtain ⟨e1, hW1, hZ1⟩ := hp
                                                    have hD1 := hD.keep hZ1
                                                    refine lv_aload_n hx hb dL_law_749 rfl (lv_at hl 0 rfl) ?_
                                                    refine mx_bi w (va_runV (As := []) (rest := [.int r1]) X (mt_undo l G (fun q => s.heap.size ≤ q) pp M1 vv_18  hs9) (cwV 0 X.2.2.2.2 (lw_V q2347 q2348 q2349 q113 q2350) rfl rfl rfl (by decide +kernel) ⟨by rw [hRf]; exact Nat.le_of_ble_eq_true rfl, by rw [hRl]; exact Nat.le_of_ble_eq_true rfl⟩) (mx_preV w hD1 hD1.2.1 rfl) rfl rfl hl.1 rfl (lv_room (Nat.le_of_ble_eq_true rfl)) dL_law_750 ⟨by rw [hRc]; omega, by rw [hRs]; omega⟩) (fun r2 M2 H locs hp w => ?_)
                                                    obtain ⟨e2, hD2⟩ := hp
                                                    have hW := hW1.keepZ hD1 hD2
                                                    have hD := hD2.self
                                                    have e12 : r1 = r2 := e1.trans e2.symm
                                                    refine lv_icmp_eq (tgt := 830) hx hb dL_law_753 (by decide) (fun c_753 => ?_) (fun c_753 => ?_)
                                                    · skip
                                                      refine lv_iinc (v := (nI (n3_18 + 4))) (lv' := [(3, .int (nI (n3_18 + 4))), (2, .ref (pp 0)), (1, .ref fo), (0, .ref b)]) hx hb dL_law_830 hl (k := 3) rfl (nI_incr _ 4) (by decide) rfl (fun ls hl => ?_)
                                                      refine lv_goto (tgt := 18) hx hb dL_law_833 (by decide) ?_
                                                      refine W.widen (k := 27 + 4200 * (kk_18 + 1)) (n := 1285 + 11400 * (kk_18 + 1)) (by omega) (by omega) ?_
                                                      exact ih_18 (n3_18 + 4) ((mf_undo vv_18).2) (kk_18 + 1) _ H locs ls (by first | omega | assumption | exact (by omega)) (by first | omega | assumption | exact (by omega)) (by first | omega | assumption | exact hW) (by first | omega | assumption | exact hD) (by first | omega | assumption) (lv_sub hl [1, 2, 3, 0] rfl) w trivial
                                                    · skip
                                                      have hfin : false = true := absurd e12 c_753
                                                      refine lv_iconst (v := (0 : Int32)) hx hb dL_law_756 (by decide) ?_
                                                      refine W.widen (k := 1200000) (n := 5502250) (by omega) (by omega) ?_
                                                      exact fin false _ H locs ls 757 dL_law_757 (hfin) w
                                                  · skip
                                                    by_cases c_32_22 : ((xs (n3_18)) &&& (31 : Int32)) = (22 : Int32)
                                                    · skip
                                                      refine lv_tableIn (tgt := 758) hx hb dL_law_32 (by rw [c_32_22]; decide) (by rw [c_32_22]; decide) (by rw [c_32_22]; rfl) (by decide) ?_
                                                      refine lv_aload_n hx hb dL_law_758 rfl (lv_at hl 1 rfl) ?_
                                                      refine lv_aload_n hx hb dL_law_759 rfl (lv_at hl 2 rfl) ?_
                                                      refine lv_iload_n hx hb dL_law_760 rfl (lv_at hl 3 rfl) ?_
                                                      refine lv_iconst (v := (1 : Int32)) hx hb dL_law_761 (by decide) ?_
                                                      refine mx_nadd (u := n3_18) (v := 1) hx hb rfl rfl dL_law_762 ?_
                                                      refine va_sld hx hb hX hbl hbA w.2.2.2.1 (vp_in_nI (show n3_18 + 1 < L by omega) (by omega)) dL_law_763 ?_
                                                      rw [nI_clamp (show n3_18 + 1 < 2 ^ 31 by omega)]
                                                      refine mx_bi w (va_runV (As := [.int (xs (n3_18 + 1))]) (rest := []) X (ct_type l G (fun q => s.heap.size ≤ q) _ fo (fun q => ∃ i, i < 5 ∧ q = pp i) vv_18 hW (xs (n3_18 + 1))) (cwV 1 X.2.2.2.2 (lw_V q1774 q1775 q1776 q96 q1777) rfl rfl rfl (by decide +kernel) ⟨by rw [hRf]; exact Nat.le_of_ble_eq_true rfl, by rw [hRl]; exact Nat.le_of_ble_eq_true rfl⟩) (mx_preV w rfl hfx rfl) rfl rfl hl.1 rfl (lv_room (Nat.le_of_ble_eq_true rfl)) dL_law_764 ⟨by rw [hRc]; omega, by rw [hRs]; omega⟩) (fun r1 M1 H locs hp w => ?_)
                                                      obtain ⟨e1, hW1, hZ1⟩ := hp
                                                      have hD1 := hD.keep hZ1
                                                      refine lv_aload_n hx hb dL_law_767 rfl (lv_at hl 0 rfl) ?_
                                                      refine lv_aload_n hx hb dL_law_768 rfl (lv_at hl 2 rfl) ?_
                                                      refine lv_iload_n hx hb dL_law_769 rfl (lv_at hl 3 rfl) ?_
                                                      refine lv_iconst (v := (1 : Int32)) hx hb dL_law_770 (by decide) ?_
                                                      refine mx_nadd (u := n3_18) (v := 1) hx hb rfl rfl dL_law_771 ?_
                                                      refine va_sld hx hb hX hbl hbA w.2.2.2.1 (vp_in_nI (show n3_18 + 1 < L by omega) (by omega)) dL_law_772 ?_
                                                      rw [nI_clamp (show n3_18 + 1 < 2 ^ 31 by omega)]
                                                      refine mx_bi w (va_runV (As := [.int (xs (n3_18 + 1))]) (rest := [.int r1]) X (mt_type l G (fun q => s.heap.size ≤ q) pp M1 vv_18 (xs (n3_18 + 1)) ht9) (cwV 1 X.2.2.2.2 (lw_V q2351 q2352 q2353 q113 q2354) rfl rfl rfl (by decide +kernel) ⟨by rw [hRf]; exact Nat.le_of_ble_eq_true rfl, by rw [hRl]; exact Nat.le_of_ble_eq_true rfl⟩) (mx_preV w hD1 hD1.2.1 rfl) rfl rfl hl.1 rfl (lv_room (Nat.le_of_ble_eq_true rfl)) dL_law_773 ⟨by rw [hRc]; omega, by rw [hRs]; omega⟩) (fun r2 M2 H locs hp w => ?_)
                                                      obtain ⟨e2, hD2⟩ := hp
                                                      have hW := hW1.keepZ hD1 hD2
                                                      have hD := hD2.self
                                                      have e12 : r1 = r2 := e1.trans e2.symm
                                                      refine lv_icmp_eq (tgt := 830) hx hb dL_law_776 (by decide) (fun c_776 => ?_) (fun c_776 => ?_)
                                                      · skip
                                                        refine lv_iinc (v := (nI (n3_18 + 4))) (lv' := [(3, .int (nI (n3_18 + 4))), (2, .ref (pp 0)), (1, .ref fo), (0, .ref b)]) hx hb dL_law_830 hl (k := 3) rfl (nI_incr _ 4) (by decide) rfl (fun ls hl => ?_)
                                                        refine lv_goto (tgt := 18) hx hb dL_law_833 (by decide) ?_
                                                        refine W.widen (k := 27 + 4200 * (kk_18 + 1)) (n := 1285 + 11400 * (kk_18 + 1)) (by omega) (by omega) ?_
                                                        exact ih_18 (n3_18 + 4) ((mf_type vv_18 (xs (n3_18 + 1))).2) (kk_18 + 1) _ H locs ls (by first | omega | assumption | exact (by omega)) (by first | omega | assumption | exact (by omega)) (by first | omega | assumption | exact hW) (by first | omega | assumption | exact hD) (by first | omega | assumption) (lv_sub hl [1, 2, 3, 0] rfl) w trivial
                                                      · skip
                                                        have hfin : false = true := absurd e12 c_776
                                                        refine lv_iconst (v := (0 : Int32)) hx hb dL_law_779 (by decide) ?_
                                                        refine W.widen (k := 1200000) (n := 5502250) (by omega) (by omega) ?_
                                                        exact fin false _ H locs ls 780 dL_law_780 (hfin) w
                                                    · skip
                                                      by_cases c_32_23 : ((xs (n3_18)) &&& (31 : Int32)) = (23 : Int32)
                                                      · skip
                                                        refine lv_tableIn (tgt := 781) hx hb dL_law_32 (by rw [c_32_23]; decide) (by rw [c_32_23]; decide) (by rw [c_32_23]; rfl) (by decide) ?_
                                                        refine lv_aload_n hx hb dL_law_781 rfl (lv_at hl 1 rfl) ?_
                                                        refine mx_bi w (va_runV (As := []) (rest := []) X (ct_clearText l G (fun q => s.heap.size ≤ q) _ fo (fun q => ∃ i, i < 5 ∧ q = pp i) vv_18 hW ) (cwV 0 X.2.2.2.2 (lw_V q1840 q1841 q1842 q96 q1843) rfl rfl rfl (by decide +kernel) ⟨by rw [hRf]; exact Nat.le_of_ble_eq_true rfl, by rw [hRl]; exact Nat.le_of_ble_eq_true rfl⟩) (mx_preV w rfl hfx rfl) rfl rfl hl.1 rfl (lv_room (Nat.le_of_ble_eq_true rfl)) dL_law_782 ⟨by rw [hRc]; omega, by rw [hRs]; omega⟩) (fun r1 M1 H locs hp w => ?_)
                                                        obtain ⟨e1, hW1, hZ1⟩ := hp
                                                        have hD1 := hD.keep hZ1
                                                        refine lv_aload_n hx hb dL_law_785 rfl (lv_at hl 0 rfl) ?_
                                                        refine mx_bi w (va_runV (As := []) (rest := [.int r1]) X (mt_clearText l G (fun q => s.heap.size ≤ q) pp M1 vv_18  ) (cwV 0 X.2.2.2.2 (lw_V q2357 q2358 q2359 q113 q2360) rfl rfl rfl (by decide +kernel) ⟨by rw [hRf]; exact Nat.le_of_ble_eq_true rfl, by rw [hRl]; exact Nat.le_of_ble_eq_true rfl⟩) (mx_preV w hD1 hD1.2.1 rfl) rfl rfl hl.1 rfl (lv_room (Nat.le_of_ble_eq_true rfl)) dL_law_786 ⟨by rw [hRc]; omega, by rw [hRs]; omega⟩) (fun r2 M2 H locs hp w => ?_)
                                                        obtain ⟨e2, hD2⟩ := hp
                                                        have hW := hW1.keepZ hD1 hD2
                                                        have hD := hD2.self
                                                        have e12 : r1 = r2 := e1.trans e2.symm
                                                        refine lv_icmp_eq (tgt := 830) hx hb dL_law_789 (by decide) (fun c_789 => ?_) (fun c_789 => ?_)
                                                        · skip
                                                          refine lv_iinc (v := (nI (n3_18 + 4))) (lv' := [(3, .int (nI (n3_18 + 4))), (2, .ref (pp 0)), (1, .ref fo), (0, .ref b)]) hx hb dL_law_830 hl (k := 3) rfl (nI_incr _ 4) (by decide) rfl (fun ls hl => ?_)
                                                          refine lv_goto (tgt := 18) hx hb dL_law_833 (by decide) ?_
                                                          refine W.widen (k := 27 + 4200 * (kk_18 + 1)) (n := 1285 + 11400 * (kk_18 + 1)) (by omega) (by omega) ?_
                                                          exact ih_18 (n3_18 + 4) ((mf_clearText vv_18).2) (kk_18 + 1) _ H locs ls (by first | omega | assumption | exact (by omega)) (by first | omega | assumption | exact (by omega)) (by first | omega | assumption | exact hW) (by first | omega | assumption | exact hD) (by first | omega | assumption) (lv_sub hl [1, 2, 3, 0] rfl) w trivial
                                                        · skip
                                                          have hfin : false = true := absurd e12 c_789
                                                          refine lv_iconst (v := (0 : Int32)) hx hb dL_law_792 (by decide) ?_
                                                          refine W.widen (k := 1200000) (n := 5502250) (by omega) (by omega) ?_
                                                          exact fin false _ H locs ls 793 dL_law_793 (hfin) w
                                                      · skip
                                                        by_cases c_32_24 : ((xs (n3_18)) &&& (31 : Int32)) = (24 : Int32)
                                                        · skip
                                                          refine lv_tableIn (tgt := 794) hx hb dL_law_32 (by rw [c_32_24]; decide) (by rw [c_32_24]; decide) (by rw [c_32_24]; rfl) (by decide) ?_
                                                          refine lv_aload_n hx hb dL_law_794 rfl (lv_at hl 1 rfl) ?_
                                                          refine lv_aload_n hx hb dL_law_795 rfl (lv_at hl 2 rfl) ?_
                                                          refine lv_iload_n hx hb dL_law_796 rfl (lv_at hl 3 rfl) ?_
                                                          refine lv_iconst (v := (1 : Int32)) hx hb dL_law_797 (by decide) ?_
                                                          refine mx_nadd (u := n3_18) (v := 1) hx hb rfl rfl dL_law_798 ?_
                                                          refine va_sld hx hb hX hbl hbA w.2.2.2.1 (vp_in_nI (show n3_18 + 1 < L by omega) (by omega)) dL_law_799 ?_
                                                          rw [nI_clamp (show n3_18 + 1 < 2 ^ 31 by omega)]
                                                          refine mx_bi w (va_runV (As := [.int (xs (n3_18 + 1))]) (rest := []) X (ct_fault l G (fun q => s.heap.size ≤ q) _ fo (fun q => ∃ i, i < 5 ∧ q = pp i) vv_18 hW (xs (n3_18 + 1))) (cwV 1 X.2.2.2.2 (lw_V q1864 q1865 q1866 q96 q1867) rfl rfl rfl (by decide +kernel) ⟨by rw [hRf]; exact Nat.le_of_ble_eq_true rfl, by rw [hRl]; exact Nat.le_of_ble_eq_true rfl⟩) (mx_preV w rfl hfx rfl) rfl rfl hl.1 rfl (lv_room (Nat.le_of_ble_eq_true rfl)) dL_law_800 ⟨by rw [hRc]; omega, by rw [hRs]; omega⟩) (fun r1 M1 H locs hp w => ?_)
                                                          obtain ⟨e1, hW1, hZ1⟩ := hp
                                                          have hD1 := hD.keep hZ1
                                                          refine lv_aload_n hx hb dL_law_803 rfl (lv_at hl 0 rfl) ?_
                                                          refine lv_aload_n hx hb dL_law_804 rfl (lv_at hl 2 rfl) ?_
                                                          refine lv_iload_n hx hb dL_law_805 rfl (lv_at hl 3 rfl) ?_
                                                          refine lv_iconst (v := (1 : Int32)) hx hb dL_law_806 (by decide) ?_
                                                          refine mx_nadd (u := n3_18) (v := 1) hx hb rfl rfl dL_law_807 ?_
                                                          refine va_sld hx hb hX hbl hbA w.2.2.2.1 (vp_in_nI (show n3_18 + 1 < L by omega) (by omega)) dL_law_808 ?_
                                                          rw [nI_clamp (show n3_18 + 1 < 2 ^ 31 by omega)]
                                                          refine mx_bi w (va_runV (As := [.int (xs (n3_18 + 1))]) (rest := [.int r1]) X (mt_fault l G (fun q => s.heap.size ≤ q) pp M1 vv_18 (xs (n3_18 + 1)) T np nz ng hI hT9 ht9) (cwV 1 X.2.2.2.2 (lw_V q2361 q2362 q2363 q113 q2364) rfl rfl rfl (by decide +kernel) ⟨by rw [hRf]; exact Nat.le_of_ble_eq_true rfl, by rw [hRl]; exact Nat.le_of_ble_eq_true rfl⟩) (mx_preV w hD1 hD1.2.1 rfl) rfl rfl hl.1 rfl (lv_room (Nat.le_of_ble_eq_true rfl)) dL_law_809 ⟨by rw [hRc]; omega, by rw [hRs]; omega⟩) (fun r2 M2 H locs hp w => ?_)
                                                          obtain ⟨e2, hD2⟩ := hp
                                                          have hW := hW1.keepZ hD1 hD2
                                                          have hD := hD2.self
                                                          have e12 : r1 = r2 := e1.trans e2.symm
                                                          refine lv_icmp_eq (tgt := 830) hx hb dL_law_812 (by decide) (fun c_812 => ?_) (fun c_812 => ?_)
                                                          · skip
                                                            refine lv_iinc (v := (nI (n3_18 + 4))) (lv' := [(3, .int (nI (n3_18 + 4))), (2, .ref (pp 0)), (1, .ref fo), (0, .ref b)]) hx hb dL_law_830 hl (k := 3) rfl (nI_incr _ 4) (by decide) rfl (fun ls hl => ?_)
                                                            refine lv_goto (tgt := 18) hx hb dL_law_833 (by decide) ?_
                                                            refine W.widen (k := 27 + 4200 * (kk_18 + 1)) (n := 1285 + 11400 * (kk_18 + 1)) (by omega) (by omega) ?_
                                                            exact ih_18 (n3_18 + 4) ((mf_fault vv_18 (xs (n3_18 + 1))).2) (kk_18 + 1) _ H locs ls (by first | omega | assumption | exact (by omega)) (by first | omega | assumption | exact (by omega)) (by first | omega | assumption | exact hW) (by first | omega | assumption | exact hD) (by first | omega | assumption) (lv_sub hl [1, 2, 3, 0] rfl) w trivial
                                                          · skip
                                                            have hfin : false = true := absurd e12 c_812
                                                            refine lv_iconst (v := (0 : Int32)) hx hb dL_law_815 (by decide) ?_
                                                            refine W.widen (k := 1200000) (n := 5502250) (by omega) (by omega) ?_
                                                            exact fin false _ H locs ls 816 dL_law_816 (hfin) w
                                                        · skip
                                                          by_cases c_32_25 : ((xs (n3_18)) &&& (31 : Int32)) = (25 : Int32)
                                                          · skip
                                                            refine lv_tableIn (tgt := 817) hx hb dL_law_32 (by rw [c_32_25]; decide) (by rw [c_32_25]; decide) (by rw [c_32_25]; rfl) (by decide) ?_
                                                            refine lv_aload_n hx hb dL_law_817 rfl (lv_at hl 1 rfl) ?_
                                                            refine mx_bi w (va_runV (As := []) (rest := []) X (ct_play l G (fun q => s.heap.size ≤ q) _ fo (fun q => ∃ i, i < 5 ∧ q = pp i) vv_18 hW ) (cwV 0 X.2.2.2.2 (lw_V q1998 q1999 q2000 q96 q2001) rfl rfl rfl (by decide +kernel) ⟨by rw [hRf]; exact Nat.le_of_ble_eq_true rfl, by rw [hRl]; exact Nat.le_of_ble_eq_true rfl⟩) (mx_preV w rfl hfx rfl) rfl rfl hl.1 rfl (lv_room (Nat.le_of_ble_eq_true rfl)) dL_law_818 ⟨by rw [hRc]; omega, by rw [hRs]; omega⟩) (fun r1 M1 H locs hp w => ?_)
                                                            obtain ⟨e1, hW1, hZ1⟩ := hp
                                                            have hD1 := hD.keep hZ1
                                                            refine lv_aload_n hx hb dL_law_821 rfl (lv_at hl 0 rfl) ?_
                                                            refine mx_bi w (va_runV (As := []) (rest := [.int r1]) X (mt_play l G (fun q => s.heap.size ≤ q) pp M1 vv_18  T np nz ng hI hs9 hT9 ht9) (cwV 0 X.2.2.2.2 (lw_V q2391 q2392 q2393 q113 q2394) rfl rfl rfl (by decide +kernel) ⟨by rw [hRf]; exact Nat.le_of_ble_eq_true rfl, by rw [hRl]; exact Nat.le_of_ble_eq_true rfl⟩) (mx_preV w hD1 hD1.2.1 rfl) rfl rfl hl.1 rfl (lv_room (Nat.le_of_ble_eq_true rfl)) dL_law_822 ⟨by rw [hRc]; omega, by rw [hRs]; omega⟩) (fun r2 M2 H locs hp w => ?_)
                                                            obtain ⟨e2, hD2⟩ := hp
                                                            have hW := hW1.keepZ hD1 hD2
                                                            have hD := hD2.self
                                                            have e12 : r1 = r2 := e1.trans e2.symm
                                                            refine lv_icmp_eq (tgt := 830) hx hb dL_law_825 (by decide) (fun c_825 => ?_) (fun c_825 => ?_)
                                                            · skip
                                                              refine lv_iinc (v := (nI (n3_18 + 4))) (lv' := [(3, .int (nI (n3_18 + 4))), (2, .ref (pp 0)), (1, .ref fo), (0, .ref b)]) hx hb dL_law_830 hl (k := 3) rfl (nI_incr _ 4) (by decide) rfl (fun ls hl => ?_)
                                                              refine lv_goto (tgt := 18) hx hb dL_law_833 (by decide) ?_
                                                              refine W.widen (k := 27 + 4200 * (kk_18 + 1)) (n := 1285 + 11400 * (kk_18 + 1)) (by omega) (by omega) ?_
                                                              exact ih_18 (n3_18 + 4) ((mf_play vv_18).2) (kk_18 + 1) _ H locs ls (by first | omega | assumption | exact (by omega)) (by first | omega | assumption | exact (by omega)) (by first | omega | assumption | exact hW) (by first | omega | assumption | exact hD) (by first | omega | assumption) (lv_sub hl [1, 2, 3, 0] rfl) w trivial
                                                            · skip
                                                              have hfin : false = true := absurd e12 c_825
                                                              refine lv_iconst (v := (0 : Int32)) hx hb dL_law_828 (by decide) ?_
                                                              refine W.widen (k := 1200000) (n := 5502250) (by omega) (by omega) ?_
                                                              exact fin false _ H locs ls 829 dL_law_829 (hfin) w
                                                          · skip
                                                            refine lv_tableOut (tgt := 830) hx hb dL_law_32 (Classical.byContradiction fun hh => by
                                                              have h2 : ((xs (n3_18)) &&& (31 : Int32)).toInt = 0 ∨ ((xs (n3_18)) &&& (31 : Int32)).toInt = 1 ∨ ((xs (n3_18)) &&& (31 : Int32)).toInt = 2 ∨ ((xs (n3_18)) &&& (31 : Int32)).toInt = 3 ∨ ((xs (n3_18)) &&& (31 : Int32)).toInt = 4 ∨ ((xs (n3_18)) &&& (31 : Int32)).toInt = 5 ∨ ((xs (n3_18)) &&& (31 : Int32)).toInt = 6 ∨ ((xs (n3_18)) &&& (31 : Int32)).toInt = 7 ∨ ((xs (n3_18)) &&& (31 : Int32)).toInt = 8 ∨ ((xs (n3_18)) &&& (31 : Int32)).toInt = 9 ∨ ((xs (n3_18)) &&& (31 : Int32)).toInt = 10 ∨ ((xs (n3_18)) &&& (31 : Int32)).toInt = 11 ∨ ((xs (n3_18)) &&& (31 : Int32)).toInt = 12 ∨ ((xs (n3_18)) &&& (31 : Int32)).toInt = 13 ∨ ((xs (n3_18)) &&& (31 : Int32)).toInt = 14 ∨ ((xs (n3_18)) &&& (31 : Int32)).toInt = 15 ∨ ((xs (n3_18)) &&& (31 : Int32)).toInt = 16 ∨ ((xs (n3_18)) &&& (31 : Int32)).toInt = 17 ∨ ((xs (n3_18)) &&& (31 : Int32)).toInt = 18 ∨ ((xs (n3_18)) &&& (31 : Int32)).toInt = 19 ∨ ((xs (n3_18)) &&& (31 : Int32)).toInt = 20 ∨ ((xs (n3_18)) &&& (31 : Int32)).toInt = 21 ∨ ((xs (n3_18)) &&& (31 : Int32)).toInt = 22 ∨ ((xs (n3_18)) &&& (31 : Int32)).toInt = 23 ∨ ((xs (n3_18)) &&& (31 : Int32)).toInt = 24 ∨ ((xs (n3_18)) &&& (31 : Int32)).toInt = 25 := by omega
                                                              rcases h2 with h | h | h | h | h | h | h | h | h | h | h | h | h | h | h | h | h | h | h | h | h | h | h | h | h | h
                                                              · exact lv_neT c_32_0 rfl h
                                                              · exact lv_neT c_32_1 rfl h
                                                              · exact lv_neT c_32_2 rfl h
                                                              · exact lv_neT c_32_3 rfl h
                                                              · exact lv_neT c_32_4 rfl h
                                                              · exact lv_neT c_32_5 rfl h
                                                              · exact lv_neT c_32_6 rfl h
                                                              · exact lv_neT c_32_7 rfl h
                                                              · exact lv_neT c_32_8 rfl h
                                                              · exact lv_neT c_32_9 rfl h
                                                              · exact lv_neT c_32_10 rfl h
                                                              · exact lv_neT c_32_11 rfl h
                                                              · exact lv_neT c_32_12 rfl h
                                                              · exact lv_neT c_32_13 rfl h
                                                              · exact lv_neT c_32_14 rfl h
                                                              · exact lv_neT c_32_15 rfl h
                                                              · exact lv_neT c_32_16 rfl h
                                                              · exact lv_neT c_32_17 rfl h
                                                              · exact lv_neT c_32_18 rfl h
                                                              · exact lv_neT c_32_19 rfl h
                                                              · exact lv_neT c_32_20 rfl h
                                                              · exact lv_neT c_32_21 rfl h
                                                              · exact lv_neT c_32_22 rfl h
                                                              · exact lv_neT c_32_23 rfl h
                                                              · exact lv_neT c_32_24 rfl h
                                                              · exact lv_neT c_32_25 rfl h) (by decide) ?_
                                                            refine lv_iinc (v := (nI (n3_18 + 4))) (lv' := [(3, .int (nI (n3_18 + 4))), (2, .ref (pp 0)), (1, .ref fo), (0, .ref b)]) hx hb dL_law_830 hl (k := 3) rfl (nI_incr _ 4) (by decide) rfl (fun ls hl => ?_)
                                                            refine lv_goto (tgt := 18) hx hb dL_law_833 (by decide) ?_
                                                            refine W.widen (k := 27 + 4200 * (kk_18 + 1)) (n := 1285 + 11400 * (kk_18 + 1)) (by omega) (by omega) ?_
                                                            exact ih_18 (n3_18 + 4) vv_18 (kk_18 + 1) _ H locs ls (by first | omega | assumption | exact (by omega)) (by first | omega | assumption | exact (by omega)) (by first | omega | assumption | exact hW) (by first | omega | assumption | exact hD) (by first | omega | assumption) (lv_sub hl [1, 2, 3, 0] rfl) w trivial
  refine W.widen (k := 27 + 4200 * 0) (n := 1285 + 11400 * 0) (by omega) (by omega) ?_
  exact L18 (L + 5) 0 (mf_init (fun _ _ => 0)) 0 _ H locs ls (by first | omega | assumption | exact rfl) (by first | omega | assumption | exact (Nat.zero_le _)) (by first | omega | assumption | exact hW) (by first | omega | assumption | exact hD) (by first | omega | assumption) (lv_sub hl [1, 2, 3, 0] rfl) w trivial
