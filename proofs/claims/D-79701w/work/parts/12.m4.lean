set_option maxRecDepth 100000
theorem idx_lt {x y : Int32} (hp : rg x 100) (ht : rg y 60) (c : ¬ y ≤ x) : x = nI (tN x) ∧ tN x < 60 := by
  obtain ⟨a, a1, rfl⟩ := hp
  obtain ⟨b, b1, rfl⟩ := ht
  rw [tN_nI (by omega)]
  have : ¬ b ≤ a := fun q => c ((nI_leI (by omega) (by omega)).mpr q)
  exact ⟨rfl, by omega⟩
theorem rd_lt {x y : Int32} {a b : Nat} (hx : x = nI a) (hy : y = nI b) (ha : a ≤ 60) (hb : b ≤ 63) (c : ¬ x + 3 ≤ y) : b < a + 3 := by
  rw [hx, hy, show nI a + 3 = nI (a + 3) from nI_add a 3] at c
  have : ¬ a + 3 ≤ b := fun q => c ((nI_leI (by omega) (by omega)).mpr q)
  omega
theorem rd_b {v : Nat → Nat → Int32} {x : Int32} (hpl : rg (v 0 7) 59) : ∃ b : Nat, (u2 (u2 v 0 8 x) 0 7 (((u2 v 0 8 x) 0 7) + (1 : Int32))) 0 7 = nI b ∧ b ≤ 60 := by
  obtain ⟨q, q1, q2⟩ := hpl
  exact ⟨q + 1, by rw [u2_s, u2_k (by decide), q2]; exact nI_1 q, by omega⟩
def mf_here_24 (v : (Nat → Nat → Int32)) (is0_24 : Int32) : Int32 := is0_24
def mf_here (v : (Nat → Nat → Int32)) : Int32 := (if (v 0 6) ≤ (v 0 7) then (mf_here_24 v (-1 : Int32)) else (mf_here_24 v (v 4 (tN (v 0 7)))))
set_option maxHeartbeats 4000000 in
set_option maxRecDepth 100000 in
theorem mt_here (l : Launch) (G : mg) (A : Nat → Prop) (pp : Nat → Nat) (M0 : mh) (v : Nat → Nat → Int32)  (hpl : rg (v 0 7) 100) (ht : rg (v 0 6) 60) : Met l yX4_here (ws_ yX4_here cX4_here 1 (some .int)) ({ frames := 0, cells := 0, slots := 0, locals := 0 }) (va_Pc [.ref (pp 0)] (mU G A (fun M => Mdl G pp M0 M v))) (mQi G A (fun r M => r = mf_here v ∧ Mdl G pp M0 M v)) 0 0 A := by
  refine mx_ofi (by decide) (Nat.le_of_ble_eq_true rfl) ?_
  intro p e R s m av below meth c M H Q ls X hRf hRl hRc hRs hin hM w fin hl
  have X : CallFix p m c cX4_here 1 s av lw_all "FieldPumpsModel" := X
  have hx := X.1
  have hb := X.2.1
  have hl : lv_has ls 1 [(0, .ref (pp 0))] := hl
  have hRf : R.frames = 0 := hRf
  have hRl : R.locals = 0 := hRl
  generalize ([] : List Loc) = locs at w ⊢
  generalize E : mf_here v = z at fin
  rw [mf_here] at E
  refine lv_aload_n hx hb dX4_here_0 rfl (lv_at hl 0 rfl) ?_
  refine mx_get (v := .int (v 0 7)) X w in_X4 (ci := 3) rfl 7 (by decide) q2018 (fun _ h => h) hM.2.1 rfl dX4_here_1 ?_
  refine lv_aload_n hx hb dX4_here_4 rfl (lv_at hl 0 rfl) ?_
  refine mx_get (v := .int (v 0 6)) X w in_X4 (ci := 3) rfl 6 (by decide) q2017 (fun _ h => h) hM.2.1 rfl dX4_here_5 ?_
  have J24 : ∀ (is0_24 : Int32) (M : mh) (H : Heap) (locs : List Loc) (ls : Array Slot), mf_here_24 v is0_24 = z → lv_has ls 1 [] → mW G A s M H locs → Mdl G pp M0 M v → W p l e R s m av below meth c H locs 0 0 Q (F0 m 24 ls [.int is0_24]) := by
    intro is0_24 M H locs ls  E hl w hM
    rw [mf_here_24] at E
    exact fin is0_24 M H locs ls 24 dX4_here_24 ⟨E, hM⟩ w
  refine lv_icmp_ge (tgt := 23) hx hb dX4_here_8 (by decide) (fun c_8 => ?_) (fun c_8 => ?_)
  · rw [if_pos c_8] at E
    refine lv_iconst (v := (-1 : Int32)) hx hb dX4_here_23 (by decide) ?_
    exact J24 (-1 : Int32) M H locs ls E (lv_sub hl [] rfl) w hM
  · rw [if_neg c_8] at E
    obtain ⟨hx1, hx2⟩ := idx_lt hpl ht c_8
    refine lv_aload_n hx hb dX4_here_11 rfl (lv_at hl 0 rfl) ?_
    refine mx_get (v := .ref (pp 4)) X w in_X4 (ci := 3) rfl 5 (by decide) q2016 (fun _ h => h) hM.2.1 rfl dX4_here_12 ?_
    refine lv_aload_n hx hb dX4_here_15 rfl (lv_at hl 0 rfl) ?_
    refine mx_get (v := .int (v 0 7)) X w in_X4 (ci := 3) rfl 7 (by decide) q2018 (fun _ h => h) hM.2.1 rfl dX4_here_16 ?_
    refine mx_cast (z := nI (tN (v 0 7))) (hx1) ?_
    refine md_ald X w hM 4 (by decide) (by decide) (tN (v 0 7)) rfl (show tN (v 0 7) < 60 by omega) dX4_here_19 ?_
    refine lv_goto (tgt := 24) hx hb dX4_here_20 (by decide) ?_
    exact J24 (v 4 (tN (v 0 7))) M H locs ls E (lv_sub hl [] rfl) w hM
def mf_readsOrder_174 (v : (Nat → Nat → Int32)) (rc_75 : (Nat → Nat → Int32) → (Bool × (Nat → Nat → Int32))) (v_75 : (Nat → Nat → Int32)) (bs0_174 : Bool) : (Bool × (Nat → Nat → Int32)) := (bs0_174, (u2 v_75 0 7 ((v_75 0 7) + (1 : Int32))))
def mf_readsOrder_173 (v : (Nat → Nat → Int32)) (rc_75 : (Nat → Nat → Int32) → (Bool × (Nat → Nat → Int32))) (v_75 : (Nat → Nat → Int32))  : (Bool × (Nat → Nat → Int32)) := (mf_readsOrder_174 v rc_75 v_75 false)
def mf_readsOrder_160 (v : (Nat → Nat → Int32)) (rc_75 : (Nat → Nat → Int32) → (Bool × (Nat → Nat → Int32))) (v_75 : (Nat → Nat → Int32))  : (Bool × (Nat → Nat → Int32)) := (if (mf_here v_75 ) = (59 : Int32) then (mf_readsOrder_174 v rc_75 v_75 true) else (mf_readsOrder_173 v rc_75 v_75 ))
def mf_readsOrder_143 (v : (Nat → Nat → Int32)) (rc_75 : (Nat → Nat → Int32) → (Bool × (Nat → Nat → Int32))) (v_75 : (Nat → Nat → Int32))  : (Bool × (Nat → Nat → Int32)) := (if (v_75 0 8) = (114 : Int32) then (mf_readsOrder_160 v rc_75 v_75 ) else (if (v_75 0 7) ≤ ((u2 (u2 v 0 8 (mf_here v )) 0 7 (((u2 v 0 8 (mf_here v )) 0 7) + (1 : Int32))) 0 7) then (mf_readsOrder_173 v rc_75 v_75 ) else (mf_readsOrder_160 v rc_75 v_75 )))
def mf_readsOrder_75 (v : (Nat → Nat → Int32)) : Nat → (Nat → Nat → Int32) → (Bool × (Nat → Nat → Int32))
  | 0, v_75 => (false, v_75)
  | n_75 + 1, v_75 => (if (v_75 0 8) = (114 : Int32) then (mf_readsOrder_143 v (mf_readsOrder_75 v n_75) v_75 ) else (if (mf_in ((mf_here v_75 ).toInt64) (48 : Int64) (57 : Int64)) = true then (if (((u2 (u2 v 0 8 (mf_here v )) 0 7 (((u2 v 0 8 (mf_here v )) 0 7) + (1 : Int32))) 0 7) + (3 : Int32)) ≤ (v_75 0 7) then (mf_readsOrder_143 v (mf_readsOrder_75 v n_75) v_75 ) else ( (mf_readsOrder_75 v n_75) (u2 (u2 v_75 0 9 ((((10 : Int32) * (v_75 0 9)) + (mf_here v_75 )) - (48 : Int32))) 0 7 (((u2 v_75 0 9 ((((10 : Int32) * (v_75 0 9)) + (mf_here v_75 )) - (48 : Int32))) 0 7) + (1 : Int32))))) else (mf_readsOrder_143 v (mf_readsOrder_75 v n_75) v_75 )))
def mf_readsOrder_65 (v : (Nat → Nat → Int32))  : (Bool × (Nat → Nat → Int32)) := (mf_readsOrder_75 v 5 (u2 (u2 (u2 v 0 8 (mf_here v )) 0 7 (((u2 v 0 8 (mf_here v )) 0 7) + (1 : Int32))) 0 9 (0 : Int32)))
def mf_readsOrder (v : (Nat → Nat → Int32)) : Bool × (Nat → Nat → Int32) := (if ((u2 (u2 v 0 8 (mf_here v )) 0 7 (((u2 v 0 8 (mf_here v )) 0 7) + (1 : Int32))) 0 8) = (111 : Int32) then (mf_readsOrder_65 v ) else (if ((u2 (u2 v 0 8 (mf_here v )) 0 7 (((u2 v 0 8 (mf_here v )) 0 7) + (1 : Int32))) 0 8) = (99 : Int32) then (mf_readsOrder_65 v ) else (if ((u2 (u2 v 0 8 (mf_here v )) 0 7 (((u2 v 0 8 (mf_here v )) 0 7) + (1 : Int32))) 0 8) = (115 : Int32) then (mf_readsOrder_65 v ) else (if ((u2 (u2 v 0 8 (mf_here v )) 0 7 (((u2 v 0 8 (mf_here v )) 0 7) + (1 : Int32))) 0 8) = (112 : Int32) then (mf_readsOrder_65 v ) else (if ((u2 (u2 v 0 8 (mf_here v )) 0 7 (((u2 v 0 8 (mf_here v )) 0 7) + (1 : Int32))) 0 8) = (114 : Int32) then (mf_readsOrder_65 v ) else (false, (u2 (u2 v 0 8 (mf_here v )) 0 7 (((u2 v 0 8 (mf_here v )) 0 7) + (1 : Int32)))))))))
set_option maxHeartbeats 4000000 in
set_option maxRecDepth 100000 in
theorem mt_readsOrder (l : Launch) (G : mg) (A : Nat → Prop) (pp : Nat → Nat) (M0 : mh) (v : Nat → Nat → Int32)  (hpl : rg (v 0 7) 59) (ht : rg (v 0 6) 60) : Met l yX4_readsOrder (ws_ yX4_readsOrder cX4_readsOrder 3 (some .boolean)) ({ frames := 1, cells := 0, slots := 0, locals := 25 }) (va_Pc [.ref (pp 0)] (mU G A (fun M => Mdl G pp M0 M v))) (mQi G A (fun r M => r = bI ((mf_readsOrder v).1) ∧ Mdl G pp M0 M (mf_readsOrder v).2)) 0 0 A := by
  refine mx_ofz (by decide) (Nat.le_of_ble_eq_true rfl) ?_
  intro p e R s m av below meth c M H Q ls X hRf hRl hRc hRs hin hM w fin hl
  have X : CallFix p m c cX4_readsOrder 3 s av lw_all "FieldPumpsModel" := X
  have hx := X.1
  have hb := X.2.1
  have hl : lv_has ls 3 [(0, .ref (pp 0))] := hl
  have hRf : R.frames = 1 := hRf
  have hRl : R.locals = 25 := hRl
  generalize ([] : List Loc) = locs at w ⊢
  generalize E : mf_readsOrder v = z at fin
  rw [mf_readsOrder] at E
  refine lv_aload_n hx hb dX4_readsOrder_0 rfl (lv_at hl 0 rfl) ?_
  refine lv_aload_n hx hb dX4_readsOrder_1 rfl (lv_at hl 0 rfl) ?_
  refine mx_bi w (va_runV (As := []) (rest := [.ref (pp 0)]) X (mt_here l G A pp M0 v   (rg_mono hpl (by decide)) (ht)) (cwV 0 X.2.2.2.2 (lw_V q2377 q2379 qs92 q113 q2380) rfl rfl rfl (by decide +kernel) ⟨by rw [hRf]; decide, by rw [hRl]; decide⟩) (mx_preV w hM hM.2.1 rfl) rfl rfl hl.1 rfl (lv_room (Nat.le_of_ble_eq_true rfl)) dX4_readsOrder_2 ⟨Nat.zero_le _, Nat.zero_le _⟩) (fun r M H locs hp w => ?_)
  obtain ⟨rfl, hM⟩ := hp
  refine md_put (x := (mf_here v )) X w hM 8 (by decide) q2019 rfl rfl rfl dX4_readsOrder_5 (fun M H locs w hM => ?_)
  refine lv_aload_n hx hb dX4_readsOrder_8 rfl (lv_at hl 0 rfl) ?_
  refine lv_dup hx hb dX4_readsOrder_9 rfl ?_
  refine mx_get (v := .int ((u2 v 0 8 (mf_here v )) 0 7)) X w in_X4 (ci := 3) rfl 7 (by decide) q2018 (fun _ h => h) hM.2.1 rfl dX4_readsOrder_10 ?_
  refine lv_iconst (v := (1 : Int32)) hx hb dX4_readsOrder_13 (by decide) ?_
  refine lv_iadd hx hb dX4_readsOrder_14 ?_
  refine md_put (x := (((u2 v 0 8 (mf_here v )) 0 7) + (1 : Int32))) X w hM 7 (by decide) q2018 rfl rfl rfl dX4_readsOrder_15 (fun M H locs w hM => ?_)
  refine lv_aload_n hx hb dX4_readsOrder_18 rfl (lv_at hl 0 rfl) ?_
  refine mx_get (v := .int ((u2 (u2 v 0 8 (mf_here v )) 0 7 (((u2 v 0 8 (mf_here v )) 0 7) + (1 : Int32))) 0 8)) X w in_X4 (ci := 3) rfl 8 (by decide) q2019 (fun _ h => h) hM.2.1 rfl dX4_readsOrder_19 ?_
  refine lv_bipush (v := (111 : Int32)) hx hb dX4_readsOrder_22 (by decide) ?_
  have J65 : ∀  (M : mh) (H : Heap) (locs : List Loc) (ls : Array Slot), mf_readsOrder_65 v  = z → lv_has ls 3 [(0, .ref (pp 0))] → mW G A s M H locs → Mdl G pp M0 M (u2 (u2 v 0 8 (mf_here v )) 0 7 (((u2 v 0 8 (mf_here v )) 0 7) + (1 : Int32))) → W p l e R s m av below meth c H locs 0 0 Q (F0 m 65 ls []) := by
    intro  M H locs ls  E hl w hM
    rw [mf_readsOrder_65] at E
    obtain ⟨pb, hb1, hb2⟩ := rd_b (x := mf_here v) hpl
    refine lv_aload_n hx hb dX4_readsOrder_65 rfl (lv_at hl 0 rfl) ?_
    refine mx_get (v := .int ((u2 (u2 v 0 8 (mf_here v )) 0 7 (((u2 v 0 8 (mf_here v )) 0 7) + (1 : Int32))) 0 7)) X w in_X4 (ci := 3) rfl 7 (by decide) q2018 (fun _ h => h) hM.2.1 rfl dX4_readsOrder_66 ?_
    refine lv_istore_n (lv' := [(1, .int ((u2 (u2 v 0 8 (mf_here v )) 0 7 (((u2 v 0 8 (mf_here v )) 0 7) + (1 : Int32))) 0 7)), (0, .ref (pp 0))]) hx hb dX4_readsOrder_69 rfl hl (by decide) rfl (fun ls hl => ?_)
    refine lv_aload_n hx hb dX4_readsOrder_70 rfl (lv_at hl 1 rfl) ?_
    refine lv_iconst (v := (0 : Int32)) hx hb dX4_readsOrder_71 (by decide) ?_
    refine md_put (x := (0 : Int32)) X w hM 9 (by decide) q2020 rfl rfl rfl dX4_readsOrder_72 (fun M H locs w hM => ?_)
    have L75 : ∀ (n_75 : Nat) (v_75 : (Nat → Nat → Int32)) (M : mh) (H : Heap) (locs : List Loc) (ls : Array Slot), (hq : ∃ q : Nat, v_75 0 7 = nI q ∧ pb ≤ q ∧ q ≤ pb + 3 ∧ pb + 3 < q + n_75) → (ht5 : v_75 0 6 = v 0 6) → mf_readsOrder_75 v n_75 v_75 = z → lv_has ls 3 [(1, .int ((u2 (u2 v 0 8 (mf_here v )) 0 7 (((u2 v 0 8 (mf_here v )) 0 7) + (1 : Int32))) 0 7)), (0, .ref (pp 0))] → mW G A s M H locs → Mdl G pp M0 M v_75 → W p l e R s m av below meth c H locs 0 0 Q (F0 m 75 ls []) := by
      intro n_75
      induction n_75 with
      | zero =>
        intro v_75 M H locs ls hq ht5 E hl w hM
        obtain ⟨q, _, _, h3, h4⟩ := hq; exfalso; omega
      | succ n_75 ih_75 =>
        intro v_75 M H locs ls hq ht5 E hl w hM
        rw [mf_readsOrder_75] at E
        obtain ⟨q7, hq1, hq2, hq3, hq4⟩ := hq
        have hp5 : rg (v_75 0 7) 100 := ⟨q7, by omega, hq1⟩
        have htt : rg (v_75 0 6) 60 := by rw [ht5]; exact ht
        refine lv_aload_n hx hb dX4_readsOrder_75 rfl (lv_at hl 1 rfl) ?_
        refine mx_get (v := .int (v_75 0 8)) X w in_X4 (ci := 3) rfl 8 (by decide) q2019 (fun _ h => h) hM.2.1 rfl dX4_readsOrder_76 ?_
        refine lv_bipush (v := (114 : Int32)) hx hb dX4_readsOrder_79 (by decide) ?_
        have J143 : ∀  (M : mh) (H : Heap) (locs : List Loc) (ls : Array Slot), mf_readsOrder_143 v (mf_readsOrder_75 v n_75) v_75  = z → lv_has ls 3 [(1, .int ((u2 (u2 v 0 8 (mf_here v )) 0 7 (((u2 v 0 8 (mf_here v )) 0 7) + (1 : Int32))) 0 7)), (0, .ref (pp 0))] → mW G A s M H locs → Mdl G pp M0 M v_75 → W p l e R s m av below meth c H locs 0 0 Q (F0 m 143 ls []) := by
          intro  M H locs ls  E hl w hM
          rw [mf_readsOrder_143] at E
          refine lv_aload_n hx hb dX4_readsOrder_143 rfl (lv_at hl 1 rfl) ?_
          refine mx_get (v := .int (v_75 0 8)) X w in_X4 (ci := 3) rfl 8 (by decide) q2019 (fun _ h => h) hM.2.1 rfl dX4_readsOrder_144 ?_
          refine lv_bipush (v := (114 : Int32)) hx hb dX4_readsOrder_147 (by decide) ?_
          have J174 : ∀ (bs0_174 : Bool) (M : mh) (H : Heap) (locs : List Loc) (ls : Array Slot), mf_readsOrder_174 v (mf_readsOrder_75 v n_75) v_75 bs0_174 = z → lv_has ls 3 [(0, .ref (pp 0))] → mW G A s M H locs → Mdl G pp M0 M v_75 → W p l e R s m av below meth c H locs 0 0 Q (F0 m 174 ls [.int (bI bs0_174)]) := by
            intro bs0_174 M H locs ls  E hl w hM
            rw [mf_readsOrder_174] at E
            refine lv_istore_n (lv' := [(2, .int (bI bs0_174)), (0, .ref (pp 0))]) hx hb dX4_readsOrder_174 rfl hl (by decide) rfl (fun ls hl => ?_)
            refine lv_aload_n hx hb dX4_readsOrder_175 rfl (lv_at hl 1 rfl) ?_
            refine lv_dup hx hb dX4_readsOrder_176 rfl ?_
            refine mx_get (v := .int (v_75 0 7)) X w in_X4 (ci := 3) rfl 7 (by decide) q2018 (fun _ h => h) hM.2.1 rfl dX4_readsOrder_177 ?_
            refine lv_iconst (v := (1 : Int32)) hx hb dX4_readsOrder_180 (by decide) ?_
            refine lv_iadd hx hb dX4_readsOrder_181 ?_
            refine md_put (x := ((v_75 0 7) + (1 : Int32))) X w hM 7 (by decide) q2018 rfl rfl rfl dX4_readsOrder_182 (fun M H locs w hM => ?_)
            refine lv_iload_n hx hb dX4_readsOrder_185 rfl (lv_at hl 0 rfl) ?_
            exact fin bs0_174 M H locs ls 186 dX4_readsOrder_186 ⟨by rw [← E], by rw [← E]; exact hM⟩ w
          have J173 : ∀  (M : mh) (H : Heap) (locs : List Loc) (ls : Array Slot), mf_readsOrder_173 v (mf_readsOrder_75 v n_75) v_75  = z → lv_has ls 3 [(0, .ref (pp 0))] → mW G A s M H locs → Mdl G pp M0 M v_75 → W p l e R s m av below meth c H locs 0 0 Q (F0 m 173 ls []) := by
            intro  M H locs ls  E hl w hM
            rw [mf_readsOrder_173] at E
            refine lv_iconst (v := (0 : Int32)) hx hb dX4_readsOrder_173 (by decide) ?_
            exact J174 false M H locs ls E (lv_sub hl [0] rfl) w hM
          have J160 : ∀  (M : mh) (H : Heap) (locs : List Loc) (ls : Array Slot), mf_readsOrder_160 v (mf_readsOrder_75 v n_75) v_75  = z → lv_has ls 3 [(0, .ref (pp 0))] → mW G A s M H locs → Mdl G pp M0 M v_75 → W p l e R s m av below meth c H locs 0 0 Q (F0 m 160 ls []) := by
            intro  M H locs ls  E hl w hM
            rw [mf_readsOrder_160] at E
            refine lv_aload_n hx hb dX4_readsOrder_160 rfl (lv_at hl 0 rfl) ?_
            refine mx_bi w (va_runV (As := []) (rest := []) X (mt_here l G A pp M0 v_75   (hp5) (htt)) (cwV 0 X.2.2.2.2 (lw_V q2377 q2379 qs92 q113 q2380) rfl rfl rfl (by decide +kernel) ⟨by rw [hRf]; decide, by rw [hRl]; decide⟩) (mx_preV w hM hM.2.1 rfl) rfl rfl hl.1 rfl (lv_room (Nat.le_of_ble_eq_true rfl)) dX4_readsOrder_161 ⟨Nat.zero_le _, Nat.zero_le _⟩) (fun r M H locs hp w => ?_)
            obtain ⟨rfl, hM⟩ := hp
            refine lv_bipush (v := (59 : Int32)) hx hb dX4_readsOrder_164 (by decide) ?_
            refine lv_icmp_ne (tgt := 173) hx hb dX4_readsOrder_166 (by decide) (fun c_166 => ?_) (fun c_166 => ?_)
            · rw [if_neg c_166] at E
              exact J173  M H locs ls E (lv_sub hl [0] rfl) w hM
            · rw [if_pos c_166] at E
              refine lv_iconst (v := (1 : Int32)) hx hb dX4_readsOrder_169 (by decide) ?_
              refine lv_goto (tgt := 174) hx hb dX4_readsOrder_170 (by decide) ?_
              exact J174 true M H locs ls E (lv_sub hl [0] rfl) w hM
          refine lv_icmp_eq (tgt := 160) hx hb dX4_readsOrder_149 (by decide) (fun c_149 => ?_) (fun c_149 => ?_)
          · rw [if_pos c_149] at E
            exact J160  M H locs ls E (lv_sub hl [1] rfl) w hM
          · rw [if_neg c_149] at E
            refine lv_aload_n hx hb dX4_readsOrder_152 rfl (lv_at hl 1 rfl) ?_
            refine mx_get (v := .int (v_75 0 7)) X w in_X4 (ci := 3) rfl 7 (by decide) q2018 (fun _ h => h) hM.2.1 rfl dX4_readsOrder_153 ?_
            refine lv_iload_n hx hb dX4_readsOrder_156 rfl (lv_at hl 0 rfl) ?_
            refine lv_icmp_le (tgt := 173) hx hb dX4_readsOrder_157 (by decide) (fun c_157 => ?_) (fun c_157 => ?_)
            · rw [if_pos c_157] at E
              exact J173  M H locs ls E (lv_sub hl [1] rfl) w hM
            · rw [if_neg c_157] at E
              exact J160  M H locs ls E (lv_sub hl [1] rfl) w hM
        refine lv_icmp_eq (tgt := 143) hx hb dX4_readsOrder_81 (by decide) (fun c_81 => ?_) (fun c_81 => ?_)
        · rw [if_pos c_81] at E
          exact J143  M H locs ls E (lv_sub hl [0, 1] rfl) w hM
        · rw [if_neg c_81] at E
          refine lv_aload_n hx hb dX4_readsOrder_84 rfl (lv_at hl 1 rfl) ?_
          refine mx_bi w (va_runV (As := []) (rest := []) X (mt_here l G A pp M0 v_75   (hp5) (htt)) (cwV 0 X.2.2.2.2 (lw_V q2377 q2379 qs92 q113 q2380) rfl rfl rfl (by decide +kernel) ⟨by rw [hRf]; decide, by rw [hRl]; decide⟩) (mx_preV w hM hM.2.1 rfl) rfl rfl hl.1 rfl (lv_room (Nat.le_of_ble_eq_true rfl)) dX4_readsOrder_85 ⟨Nat.zero_le _, Nat.zero_le _⟩) (fun r M H locs hp w => ?_)
          obtain ⟨rfl, hM⟩ := hp
          refine lv_i2l hx hb dX4_readsOrder_88 rfl ?_
          refine lv_ldc2 (v := (48 : Int64)) hx hb X.2.2.2.1 (X.2.2.2.2 _ q2381) dX4_readsOrder_89 ?_
          refine lv_ldc2 (v := (57 : Int64)) hx hb X.2.2.2.1 (X.2.2.2.2 _ q2382) dX4_readsOrder_92 ?_
          refine mx_bi w (va_runS (As := [.long ((mf_here v_75 ).toInt64), .long (48 : Int64), .long (57 : Int64)]) (rest := []) X (mt_in l G A M ((mf_here v_75 ).toInt64) (48 : Int64) (57 : Int64)  ) (va_cwS 3 X.2.2.2.2 (lw_S q2060 q2061 q113 q2062) rfl rfl rfl (by decide +kernel) ⟨by rw [hRf]; decide, by rw [hRl]; decide⟩) (mx_preS w rfl) rfl rfl hl.1 rfl (lv_room (Nat.le_of_ble_eq_true rfl)) dX4_readsOrder_95 ⟨Nat.zero_le _, Nat.zero_le _⟩) (fun r M H locs hp w => ?_)
          obtain ⟨rfl, hp2⟩ := hp; rw [← hp2] at hM; clear hp2
          refine mx_beq (tgt := 143) hx hb dX4_readsOrder_98 (by decide) (fun c_98 => ?_) (fun c_98 => ?_)
          · rw [if_neg c_98] at E
            exact J143  M H locs ls E (lv_sub hl [0, 1] rfl) w hM
          · rw [if_pos c_98] at E
            refine lv_aload_n hx hb dX4_readsOrder_101 rfl (lv_at hl 1 rfl) ?_
            refine mx_get (v := .int (v_75 0 7)) X w in_X4 (ci := 3) rfl 7 (by decide) q2018 (fun _ h => h) hM.2.1 rfl dX4_readsOrder_102 ?_
            refine lv_iload_n hx hb dX4_readsOrder_105 rfl (lv_at hl 0 rfl) ?_
            refine lv_iconst (v := (3 : Int32)) hx hb dX4_readsOrder_106 (by decide) ?_
            refine lv_iadd hx hb dX4_readsOrder_107 ?_
            refine lv_icmp_ge (tgt := 143) hx hb dX4_readsOrder_108 (by decide) (fun c_108 => ?_) (fun c_108 => ?_)
            · rw [if_pos c_108] at E
              exact J143  M H locs ls E (lv_sub hl [0, 1] rfl) w hM
            · rw [if_neg c_108] at E
              have hlt : q7 < pb + 3 := rd_lt hb1 hq1 hb2 (by omega) c_108
              refine lv_aload_n hx hb dX4_readsOrder_111 rfl (lv_at hl 1 rfl) ?_
              refine lv_bipush (v := (10 : Int32)) hx hb dX4_readsOrder_112 (by decide) ?_
              refine lv_aload_n hx hb dX4_readsOrder_114 rfl (lv_at hl 1 rfl) ?_
              refine mx_get (v := .int (v_75 0 9)) X w in_X4 (ci := 3) rfl 9 (by decide) q2020 (fun _ h => h) hM.2.1 rfl dX4_readsOrder_115 ?_
              refine lv_imul hx hb dX4_readsOrder_118 ?_
              refine lv_aload_n hx hb dX4_readsOrder_119 rfl (lv_at hl 1 rfl) ?_
              refine mx_bi w (va_runV (As := []) (rest := [.int ((10 : Int32) * (v_75 0 9)), .ref (pp 0)]) X (mt_here l G A pp M0 v_75   (hp5) (htt)) (cwV 0 X.2.2.2.2 (lw_V q2377 q2379 qs92 q113 q2380) rfl rfl rfl (by decide +kernel) ⟨by rw [hRf]; decide, by rw [hRl]; decide⟩) (mx_preV w hM hM.2.1 rfl) rfl rfl hl.1 rfl (lv_room (Nat.le_of_ble_eq_true rfl)) dX4_readsOrder_120 ⟨Nat.zero_le _, Nat.zero_le _⟩) (fun r M H locs hp w => ?_)
              obtain ⟨rfl, hM⟩ := hp
              refine lv_iadd hx hb dX4_readsOrder_123 ?_
              refine lv_bipush (v := (48 : Int32)) hx hb dX4_readsOrder_124 (by decide) ?_
              refine lv_isub hx hb dX4_readsOrder_126 ?_
              refine md_put (x := ((((10 : Int32) * (v_75 0 9)) + (mf_here v_75 )) - (48 : Int32))) X w hM 9 (by decide) q2020 rfl rfl rfl dX4_readsOrder_127 (fun M H locs w hM => ?_)
              refine lv_aload_n hx hb dX4_readsOrder_130 rfl (lv_at hl 1 rfl) ?_
              refine lv_dup hx hb dX4_readsOrder_131 rfl ?_
              refine mx_get (v := .int ((u2 v_75 0 9 ((((10 : Int32) * (v_75 0 9)) + (mf_here v_75 )) - (48 : Int32))) 0 7)) X w in_X4 (ci := 3) rfl 7 (by decide) q2018 (fun _ h => h) hM.2.1 rfl dX4_readsOrder_132 ?_
              refine lv_iconst (v := (1 : Int32)) hx hb dX4_readsOrder_135 (by decide) ?_
              refine lv_iadd hx hb dX4_readsOrder_136 ?_
              refine md_put (x := (((u2 v_75 0 9 ((((10 : Int32) * (v_75 0 9)) + (mf_here v_75 )) - (48 : Int32))) 0 7) + (1 : Int32))) X w hM 7 (by decide) q2018 rfl rfl rfl dX4_readsOrder_137 (fun M H locs w hM => ?_)
              refine lv_goto (tgt := 75) hx hb dX4_readsOrder_140 (by decide) ?_
              exact ih_75 (u2 (u2 v_75 0 9 ((((10 : Int32) * (v_75 0 9)) + (mf_here v_75 )) - (48 : Int32))) 0 7 (((u2 v_75 0 9 ((((10 : Int32) * (v_75 0 9)) + (mf_here v_75 )) - (48 : Int32))) 0 7) + (1 : Int32))) M H locs ls (by first | omega | assumption | exact ⟨q7 + 1, by rw [u2_s, u2_k (by decide), hq1]; exact nI_1 q7, by omega, by omega, by omega⟩) (by first | omega | assumption | exact (by rw [u2_k (by decide), u2_k (by decide)]; exact ht5)) E (lv_sub hl [0, 1] rfl) w hM
    exact L75 5 (u2 (u2 (u2 v 0 8 (mf_here v )) 0 7 (((u2 v 0 8 (mf_here v )) 0 7) + (1 : Int32))) 0 9 (0 : Int32)) M H locs ls (by first | omega | assumption | exact ⟨pb, by rw [u2_k (by decide)]; exact hb1, by omega, by omega, by omega⟩) (by first | omega | assumption | exact (by rw [u2_k (by decide), u2_k (by decide), u2_k (by decide)])) E (lv_sub hl [0, 1] rfl) w hM
  refine lv_icmp_eq (tgt := 65) hx hb dX4_readsOrder_24 (by decide) (fun c_24 => ?_) (fun c_24 => ?_)
  · rw [if_pos c_24] at E
    exact J65  M H locs ls E (lv_sub hl [0] rfl) w hM
  · rw [if_neg c_24] at E
    refine lv_aload_n hx hb dX4_readsOrder_27 rfl (lv_at hl 0 rfl) ?_
    refine mx_get (v := .int ((u2 (u2 v 0 8 (mf_here v )) 0 7 (((u2 v 0 8 (mf_here v )) 0 7) + (1 : Int32))) 0 8)) X w in_X4 (ci := 3) rfl 8 (by decide) q2019 (fun _ h => h) hM.2.1 rfl dX4_readsOrder_28 ?_
    refine lv_bipush (v := (99 : Int32)) hx hb dX4_readsOrder_31 (by decide) ?_
    refine lv_icmp_eq (tgt := 65) hx hb dX4_readsOrder_33 (by decide) (fun c_33 => ?_) (fun c_33 => ?_)
    · rw [if_pos c_33] at E
      exact J65  M H locs ls E (lv_sub hl [0] rfl) w hM
    · rw [if_neg c_33] at E
      refine lv_aload_n hx hb dX4_readsOrder_36 rfl (lv_at hl 0 rfl) ?_
      refine mx_get (v := .int ((u2 (u2 v 0 8 (mf_here v )) 0 7 (((u2 v 0 8 (mf_here v )) 0 7) + (1 : Int32))) 0 8)) X w in_X4 (ci := 3) rfl 8 (by decide) q2019 (fun _ h => h) hM.2.1 rfl dX4_readsOrder_37 ?_
      refine lv_bipush (v := (115 : Int32)) hx hb dX4_readsOrder_40 (by decide) ?_
      refine lv_icmp_eq (tgt := 65) hx hb dX4_readsOrder_42 (by decide) (fun c_42 => ?_) (fun c_42 => ?_)
      · rw [if_pos c_42] at E
        exact J65  M H locs ls E (lv_sub hl [0] rfl) w hM
      · rw [if_neg c_42] at E
        refine lv_aload_n hx hb dX4_readsOrder_45 rfl (lv_at hl 0 rfl) ?_
        refine mx_get (v := .int ((u2 (u2 v 0 8 (mf_here v )) 0 7 (((u2 v 0 8 (mf_here v )) 0 7) + (1 : Int32))) 0 8)) X w in_X4 (ci := 3) rfl 8 (by decide) q2019 (fun _ h => h) hM.2.1 rfl dX4_readsOrder_46 ?_
        refine lv_bipush (v := (112 : Int32)) hx hb dX4_readsOrder_49 (by decide) ?_
        refine lv_icmp_eq (tgt := 65) hx hb dX4_readsOrder_51 (by decide) (fun c_51 => ?_) (fun c_51 => ?_)
        · rw [if_pos c_51] at E
          exact J65  M H locs ls E (lv_sub hl [0] rfl) w hM
        · rw [if_neg c_51] at E
          refine lv_aload_n hx hb dX4_readsOrder_54 rfl (lv_at hl 0 rfl) ?_
          refine mx_get (v := .int ((u2 (u2 v 0 8 (mf_here v )) 0 7 (((u2 v 0 8 (mf_here v )) 0 7) + (1 : Int32))) 0 8)) X w in_X4 (ci := 3) rfl 8 (by decide) q2019 (fun _ h => h) hM.2.1 rfl dX4_readsOrder_55 ?_
          refine lv_bipush (v := (114 : Int32)) hx hb dX4_readsOrder_58 (by decide) ?_
          refine lv_icmp_eq (tgt := 65) hx hb dX4_readsOrder_60 (by decide) (fun c_60 => ?_) (fun c_60 => ?_)
          · rw [if_pos c_60] at E
            exact J65  M H locs ls E (lv_sub hl [0] rfl) w hM
          · rw [if_neg c_60] at E
            refine lv_iconst (v := (0 : Int32)) hx hb dX4_readsOrder_63 (by decide) ?_
            exact fin false M H locs ls 64 dX4_readsOrder_64 ⟨by rw [← E], by rw [← E]; exact hM⟩ w
def mf_reasonOfOrder_93 (v : (Nat → Nat → Int32)) (is0_93 : Int32) : Int32 := is0_93
def mf_reasonOfOrder_85 (v : (Nat → Nat → Int32)) (bs0_85 : Bool) : Int32 := (if (mf_isOpen v (tN (v 0 9))) = bs0_85 then (mf_reasonOfOrder_93 v (3 : Int32)) else (mf_reasonOfOrder_93 v (0 : Int32)))
def mf_reasonOfOrder_93b (v : (Nat → Nat → Int32)) (is0_93 : Int32) : Int32 := is0_93
def mf_reasonOfOrder_85b (v : (Nat → Nat → Int32)) (bs0_85 : Bool) : Int32 := (if (mf_isOpen v (tN (v 0 9))) = bs0_85 then (mf_reasonOfOrder_93b v (3 : Int32)) else (mf_reasonOfOrder_93b v (0 : Int32)))
def mf_reasonOfOrder_143 (v : (Nat → Nat → Int32)) (is0_143 : Int32) : Int32 := is0_143
def mf_reasonOfOrder_126 (v : (Nat → Nat → Int32)) (is0_126 : Int32) : Int32 := is0_126
def mf_reasonOfOrder_159 (v : (Nat → Nat → Int32)) (is0_159 : Int32) : Int32 := is0_159
def mf_reasonOfOrder (v : (Nat → Nat → Int32)) : Int32 := (if (v 0 8) = (99 : Int32) then (if (mf_isZone v (v 0 9)) = true then (if (v 0 8) = (111 : Int32) then (mf_reasonOfOrder_85 v true) else (mf_reasonOfOrder_85 v false)) else (mf_reasonOfOrder_93 v (2 : Int32))) else (if (v 0 8) = (111 : Int32) then (if (mf_isZone v (v 0 9)) = true then (if (v 0 8) = (111 : Int32) then (mf_reasonOfOrder_85b v true) else (mf_reasonOfOrder_85b v false)) else (mf_reasonOfOrder_93b v (2 : Int32))) else (if (v 0 8) = (112 : Int32) then (if (mf_passFault v (v 0 9)) = 0 then (mf_reasonOfOrder_143 v (0 : Int32)) else (mf_reasonOfOrder_143 v (3 : Int32))) else (if (v 0 8) = (115 : Int32) then (if (mf_isPump v (v 0 9)) = true then (if (mf_of v (tN (v 0 9)) 3) = 0 then (mf_reasonOfOrder_126 v (3 : Int32)) else (mf_reasonOfOrder_126 v (0 : Int32))) else (mf_reasonOfOrder_126 v (2 : Int32))) else (if (v 1 6) = 0 then (mf_reasonOfOrder_159 v (3 : Int32)) else (mf_reasonOfOrder_159 v (0 : Int32)))))))
set_option maxHeartbeats 4000000 in
set_option maxRecDepth 100000 in
theorem mt_reasonOfOrder (l : Launch) (G : mg) (A : Nat → Prop) (pp : Nat → Nat) (M0 : mh) (v : Nat → Nat → Int32)  (T np nz ng : Nat) (hI : IP T np nz ng (v 1)) : Met l yX4_reasonOfOrder (ws_ yX4_reasonOfOrder cX4_reasonOfOrder 1 (some .int)) ({ frames := 2, cells := 0, slots := 0, locals := 46 }) (va_Pc [.ref (pp 0)] (mU G A (fun M => Mdl G pp M0 M v))) (mQi G A (fun r M => r = mf_reasonOfOrder v ∧ Mdl G pp M0 M v)) 0 0 A := by
  refine mx_ofi (by decide) (Nat.le_of_ble_eq_true rfl) ?_
  intro p e R s m av below meth c M H Q ls X hRf hRl hRc hRs hin hM w fin hl
  have X : CallFix p m c cX4_reasonOfOrder 1 s av lw_all "FieldPumpsModel" := X
  have hx := X.1
  have hb := X.2.1
  have hl : lv_has ls 1 [(0, .ref (pp 0))] := hl
  have hRf : R.frames = 2 := hRf
  have hRl : R.locals = 46 := hRl
  generalize ([] : List Loc) = locs at w ⊢
  generalize E : mf_reasonOfOrder v = z at fin
  rw [mf_reasonOfOrder] at E
  have hb6 := hI.b
  have hcp := hI.cp
  have hcz := hI.cz
  have hcg := hI.cg
  refine lv_aload_n hx hb dX4_reasonOfOrder_0 rfl (lv_at hl 0 rfl) ?_
  refine mx_get (v := .int (v 0 8)) X w in_X4 (ci := 3) rfl 8 (by decide) q2019 (fun _ h => h) hM.2.1 rfl dX4_reasonOfOrder_1 ?_
  by_cases c_4_99 : (v 0 8) = (99 : Int32)
  · rw [if_pos c_4_99] at E
    refine lv_lookup (tgt := 48) hx hb dX4_reasonOfOrder_4 (by decide) (by rw [c_4_99]; try rfl) (by decide) ?_
    refine lv_aload_n hx hb dX4_reasonOfOrder_48 rfl (lv_at hl 0 rfl) ?_
    refine lv_aload_n hx hb dX4_reasonOfOrder_49 rfl (lv_at hl 0 rfl) ?_
    refine mx_get (v := .int (v 0 9)) X w in_X4 (ci := 3) rfl 9 (by decide) q2020 (fun _ h => h) hM.2.1 rfl dX4_reasonOfOrder_50 ?_
    refine mx_bi w (va_runV (As := [.int (v 0 9)]) (rest := []) X (mt_isZone l G A pp M0 v (v 0 9)  ) (cwV 1 X.2.2.2.2 (lw_V q2176 q2178 qs61 q113 q2179) rfl rfl rfl (by decide +kernel) ⟨by rw [hRf]; decide, by rw [hRl]; decide⟩) (mx_preV w hM hM.2.1 rfl) rfl rfl hl.1 rfl (lv_room (Nat.le_of_ble_eq_true rfl)) dX4_reasonOfOrder_53 ⟨Nat.zero_le _, Nat.zero_le _⟩) (fun r M H locs hp w => ?_)
    obtain ⟨rfl, hM⟩ := hp
    have J93 : ∀ (is0_93 : Int32) (M : mh) (H : Heap) (locs : List Loc) (ls : Array Slot), mf_reasonOfOrder_93 v is0_93 = z → lv_has ls 1 [] → mW G A s M H locs → Mdl G pp M0 M v → W p l e R s m av below meth c H locs 0 0 Q (F0 m 93 ls [.int is0_93]) := by
      intro is0_93 M H locs ls  E hl w hM
      rw [mf_reasonOfOrder_93] at E
      exact fin is0_93 M H locs ls 93 dX4_reasonOfOrder_93 ⟨E, hM⟩ w
    refine mx_bne (tgt := 63) hx hb dX4_reasonOfOrder_56 (by decide) (fun c_56 => ?_) (fun c_56 => ?_)
    · rw [if_pos c_56] at E
      obtain ⟨hz1, hz2⟩ := isZone_n hI.enz hI.z8 c_56
      refine lv_aload_n hx hb dX4_reasonOfOrder_63 rfl (lv_at hl 0 rfl) ?_
      refine lv_aload_n hx hb dX4_reasonOfOrder_64 rfl (lv_at hl 0 rfl) ?_
      refine mx_get (v := .int (v 0 9)) X w in_X4 (ci := 3) rfl 9 (by decide) q2020 (fun _ h => h) hM.2.1 rfl dX4_reasonOfOrder_65 ?_
      refine mx_cast (z := nI (tN (v 0 9))) (hz1) ?_
      refine mx_bi w (va_runV (As := [.int (nI (tN (v 0 9)))]) (rest := []) X (mt_isOpen l G A pp M0 v (tN (v 0 9))  (by first | omega | assumption)) (cwV 1 X.2.2.2.2 (lw_V q2180 q2182 qs62 q113 q2183) rfl rfl rfl (by decide +kernel) ⟨by rw [hRf]; decide, by rw [hRl]; decide⟩) (mx_preV w hM hM.2.1 rfl) rfl rfl hl.1 rfl (lv_room (Nat.le_of_ble_eq_true rfl)) dX4_reasonOfOrder_68 ⟨Nat.zero_le _, Nat.zero_le _⟩) (fun r M H locs hp w => ?_)
      obtain ⟨rfl, hM⟩ := hp
      refine lv_aload_n hx hb dX4_reasonOfOrder_71 rfl (lv_at hl 0 rfl) ?_
      refine mx_get (v := .int (v 0 8)) X w in_X4 (ci := 3) rfl 8 (by decide) q2019 (fun _ h => h) hM.2.1 rfl dX4_reasonOfOrder_72 ?_
      refine lv_bipush (v := (111 : Int32)) hx hb dX4_reasonOfOrder_75 (by decide) ?_
      have J85 : ∀ (bs0_85 : Bool) (M : mh) (H : Heap) (locs : List Loc) (ls : Array Slot), mf_reasonOfOrder_85 v bs0_85 = z → lv_has ls 1 [] → mW G A s M H locs → Mdl G pp M0 M v → W p l e R s m av below meth c H locs 0 0 Q (F0 m 85 ls [.int (bI bs0_85), .int (bI (mf_isOpen v (tN (v 0 9))))]) := by
        intro bs0_85 M H locs ls  E hl w hM
        rw [mf_reasonOfOrder_85] at E
        refine mx_bbne (tgt := 92) hx hb dX4_reasonOfOrder_85 (by decide) (fun c_85 => ?_) (fun c_85 => ?_)
        · rw [if_neg c_85] at E
          refine lv_iconst (v := (0 : Int32)) hx hb dX4_reasonOfOrder_92 (by decide) ?_
          exact J93 (0 : Int32) M H locs ls E (lv_sub hl [] rfl) w hM
        · rw [if_pos c_85] at E
          refine lv_iconst (v := (3 : Int32)) hx hb dX4_reasonOfOrder_88 (by decide) ?_
          refine lv_goto (tgt := 93) hx hb dX4_reasonOfOrder_89 (by decide) ?_
          exact J93 (3 : Int32) M H locs ls E (lv_sub hl [] rfl) w hM
      refine lv_icmp_ne (tgt := 84) hx hb dX4_reasonOfOrder_77 (by decide) (fun c_77 => ?_) (fun c_77 => ?_)
      · rw [if_neg c_77] at E
        refine lv_iconst (v := (0 : Int32)) hx hb dX4_reasonOfOrder_84 (by decide) ?_
        exact J85 false M H locs ls E (lv_sub hl [] rfl) w hM
      · rw [if_pos c_77] at E
        refine lv_iconst (v := (1 : Int32)) hx hb dX4_reasonOfOrder_80 (by decide) ?_
        refine lv_goto (tgt := 85) hx hb dX4_reasonOfOrder_81 (by decide) ?_
        exact J85 true M H locs ls E (lv_sub hl [] rfl) w hM
    · rw [if_neg c_56] at E
      refine lv_iconst (v := (2 : Int32)) hx hb dX4_reasonOfOrder_59 (by decide) ?_
      refine lv_goto (tgt := 93) hx hb dX4_reasonOfOrder_60 (by decide) ?_
      exact J93 (2 : Int32) M H locs ls E (lv_sub hl [] rfl) w hM
  · rw [if_neg c_4_99] at E
    by_cases c_4_111 : (v 0 8) = (111 : Int32)
    · rw [if_pos c_4_111] at E
      refine lv_lookup (tgt := 48) hx hb dX4_reasonOfOrder_4 (by decide) (by rw [c_4_111]; try rfl) (by decide) ?_
      refine lv_aload_n hx hb dX4_reasonOfOrder_48 rfl (lv_at hl 0 rfl) ?_
      refine lv_aload_n hx hb dX4_reasonOfOrder_49 rfl (lv_at hl 0 rfl) ?_
      refine mx_get (v := .int (v 0 9)) X w in_X4 (ci := 3) rfl 9 (by decide) q2020 (fun _ h => h) hM.2.1 rfl dX4_reasonOfOrder_50 ?_
      refine mx_bi w (va_runV (As := [.int (v 0 9)]) (rest := []) X (mt_isZone l G A pp M0 v (v 0 9)  ) (cwV 1 X.2.2.2.2 (lw_V q2176 q2178 qs61 q113 q2179) rfl rfl rfl (by decide +kernel) ⟨by rw [hRf]; decide, by rw [hRl]; decide⟩) (mx_preV w hM hM.2.1 rfl) rfl rfl hl.1 rfl (lv_room (Nat.le_of_ble_eq_true rfl)) dX4_reasonOfOrder_53 ⟨Nat.zero_le _, Nat.zero_le _⟩) (fun r M H locs hp w => ?_)
      obtain ⟨rfl, hM⟩ := hp
      have J93 : ∀ (is0_93 : Int32) (M : mh) (H : Heap) (locs : List Loc) (ls : Array Slot), mf_reasonOfOrder_93b v is0_93 = z → lv_has ls 1 [] → mW G A s M H locs → Mdl G pp M0 M v → W p l e R s m av below meth c H locs 0 0 Q (F0 m 93 ls [.int is0_93]) := by
        intro is0_93 M H locs ls  E hl w hM
        rw [mf_reasonOfOrder_93b] at E
        exact fin is0_93 M H locs ls 93 dX4_reasonOfOrder_93 ⟨E, hM⟩ w
      refine mx_bne (tgt := 63) hx hb dX4_reasonOfOrder_56 (by decide) (fun c_56 => ?_) (fun c_56 => ?_)
      · rw [if_pos c_56] at E
        obtain ⟨hz1, hz2⟩ := isZone_n hI.enz hI.z8 c_56
        refine lv_aload_n hx hb dX4_reasonOfOrder_63 rfl (lv_at hl 0 rfl) ?_
        refine lv_aload_n hx hb dX4_reasonOfOrder_64 rfl (lv_at hl 0 rfl) ?_
        refine mx_get (v := .int (v 0 9)) X w in_X4 (ci := 3) rfl 9 (by decide) q2020 (fun _ h => h) hM.2.1 rfl dX4_reasonOfOrder_65 ?_
        refine mx_cast (z := nI (tN (v 0 9))) (hz1) ?_
        refine mx_bi w (va_runV (As := [.int (nI (tN (v 0 9)))]) (rest := []) X (mt_isOpen l G A pp M0 v (tN (v 0 9))  (by first | omega | assumption)) (cwV 1 X.2.2.2.2 (lw_V q2180 q2182 qs62 q113 q2183) rfl rfl rfl (by decide +kernel) ⟨by rw [hRf]; decide, by rw [hRl]; decide⟩) (mx_preV w hM hM.2.1 rfl) rfl rfl hl.1 rfl (lv_room (Nat.le_of_ble_eq_true rfl)) dX4_reasonOfOrder_68 ⟨Nat.zero_le _, Nat.zero_le _⟩) (fun r M H locs hp w => ?_)
        obtain ⟨rfl, hM⟩ := hp
        refine lv_aload_n hx hb dX4_reasonOfOrder_71 rfl (lv_at hl 0 rfl) ?_
        refine mx_get (v := .int (v 0 8)) X w in_X4 (ci := 3) rfl 8 (by decide) q2019 (fun _ h => h) hM.2.1 rfl dX4_reasonOfOrder_72 ?_
        refine lv_bipush (v := (111 : Int32)) hx hb dX4_reasonOfOrder_75 (by decide) ?_
        have J85 : ∀ (bs0_85 : Bool) (M : mh) (H : Heap) (locs : List Loc) (ls : Array Slot), mf_reasonOfOrder_85b v bs0_85 = z → lv_has ls 1 [] → mW G A s M H locs → Mdl G pp M0 M v → W p l e R s m av below meth c H locs 0 0 Q (F0 m 85 ls [.int (bI bs0_85), .int (bI (mf_isOpen v (tN (v 0 9))))]) := by
          intro bs0_85 M H locs ls  E hl w hM
          rw [mf_reasonOfOrder_85b] at E
          refine mx_bbne (tgt := 92) hx hb dX4_reasonOfOrder_85 (by decide) (fun c_85 => ?_) (fun c_85 => ?_)
          · rw [if_neg c_85] at E
            refine lv_iconst (v := (0 : Int32)) hx hb dX4_reasonOfOrder_92 (by decide) ?_
            exact J93 (0 : Int32) M H locs ls E (lv_sub hl [] rfl) w hM
          · rw [if_pos c_85] at E
            refine lv_iconst (v := (3 : Int32)) hx hb dX4_reasonOfOrder_88 (by decide) ?_
            refine lv_goto (tgt := 93) hx hb dX4_reasonOfOrder_89 (by decide) ?_
            exact J93 (3 : Int32) M H locs ls E (lv_sub hl [] rfl) w hM
        refine lv_icmp_ne (tgt := 84) hx hb dX4_reasonOfOrder_77 (by decide) (fun c_77 => ?_) (fun c_77 => ?_)
        · rw [if_neg c_77] at E
          refine lv_iconst (v := (0 : Int32)) hx hb dX4_reasonOfOrder_84 (by decide) ?_
          exact J85 false M H locs ls E (lv_sub hl [] rfl) w hM
        · rw [if_pos c_77] at E
          refine lv_iconst (v := (1 : Int32)) hx hb dX4_reasonOfOrder_80 (by decide) ?_
          refine lv_goto (tgt := 85) hx hb dX4_reasonOfOrder_81 (by decide) ?_
          exact J85 true M H locs ls E (lv_sub hl [] rfl) w hM
      · rw [if_neg c_56] at E
        refine lv_iconst (v := (2 : Int32)) hx hb dX4_reasonOfOrder_59 (by decide) ?_
        refine lv_goto (tgt := 93) hx hb dX4_reasonOfOrder_60 (by decide) ?_
        exact J93 (2 : Int32) M H locs ls E (lv_sub hl [] rfl) w hM
    · rw [if_neg c_4_111] at E
      by_cases c_4_112 : (v 0 8) = (112 : Int32)
      · rw [if_pos c_4_112] at E
        refine lv_lookup (tgt := 127) hx hb dX4_reasonOfOrder_4 (by decide) (by rw [c_4_112]; try rfl) (by decide) ?_
        refine lv_aload_n hx hb dX4_reasonOfOrder_127 rfl (lv_at hl 0 rfl) ?_
        refine lv_aload_n hx hb dX4_reasonOfOrder_128 rfl (lv_at hl 0 rfl) ?_
        refine mx_get (v := .int (v 0 9)) X w in_X4 (ci := 3) rfl 9 (by decide) q2020 (fun _ h => h) hM.2.1 rfl dX4_reasonOfOrder_129 ?_
        refine mx_bi w (va_runV (As := [.int (v 0 9)]) (rest := []) X (mt_passFault l G A pp M0 v (v 0 9)  ) (cwV 1 X.2.2.2.2 (lw_V q2222 q2224 qs66 q113 q2225) rfl rfl rfl (by decide +kernel) ⟨by rw [hRf]; decide, by rw [hRl]; decide⟩) (mx_preV w hM hM.2.1 rfl) rfl rfl hl.1 rfl (lv_room (Nat.le_of_ble_eq_true rfl)) dX4_reasonOfOrder_132 ⟨Nat.zero_le _, Nat.zero_le _⟩) (fun r M H locs hp w => ?_)
        obtain ⟨rfl, hM⟩ := hp
        have J143 : ∀ (is0_143 : Int32) (M : mh) (H : Heap) (locs : List Loc) (ls : Array Slot), mf_reasonOfOrder_143 v is0_143 = z → lv_has ls 1 [] → mW G A s M H locs → Mdl G pp M0 M v → W p l e R s m av below meth c H locs 0 0 Q (F0 m 143 ls [.int is0_143]) := by
          intro is0_143 M H locs ls  E hl w hM
          rw [mf_reasonOfOrder_143] at E
          exact fin is0_143 M H locs ls 143 dX4_reasonOfOrder_143 ⟨E, hM⟩ w
        refine lv_if_eq (tgt := 142) hx hb dX4_reasonOfOrder_135 (by decide) (fun c_135 => ?_) (fun c_135 => ?_)
        · rw [if_pos c_135] at E
          refine lv_iconst (v := (0 : Int32)) hx hb dX4_reasonOfOrder_142 (by decide) ?_
          exact J143 (0 : Int32) M H locs ls E (lv_sub hl [] rfl) w hM
        · rw [if_neg c_135] at E
          refine lv_iconst (v := (3 : Int32)) hx hb dX4_reasonOfOrder_138 (by decide) ?_
          refine lv_goto (tgt := 143) hx hb dX4_reasonOfOrder_139 (by decide) ?_
          exact J143 (3 : Int32) M H locs ls E (lv_sub hl [] rfl) w hM
      · rw [if_neg c_4_112] at E
        by_cases c_4_115 : (v 0 8) = (115 : Int32)
        · rw [if_pos c_4_115] at E
          refine lv_lookup (tgt := 94) hx hb dX4_reasonOfOrder_4 (by decide) (by rw [c_4_115]; try rfl) (by decide) ?_
          refine lv_aload_n hx hb dX4_reasonOfOrder_94 rfl (lv_at hl 0 rfl) ?_
          refine lv_aload_n hx hb dX4_reasonOfOrder_95 rfl (lv_at hl 0 rfl) ?_
          refine mx_get (v := .int (v 0 9)) X w in_X4 (ci := 3) rfl 9 (by decide) q2020 (fun _ h => h) hM.2.1 rfl dX4_reasonOfOrder_96 ?_
          refine mx_bi w (va_runV (As := [.int (v 0 9)]) (rest := []) X (mt_isPump l G A pp M0 v (v 0 9)  ) (cwV 1 X.2.2.2.2 (lw_V q2097 q2099 qs49 q113 q2100) rfl rfl rfl (by decide +kernel) ⟨by rw [hRf]; decide, by rw [hRl]; decide⟩) (mx_preV w hM hM.2.1 rfl) rfl rfl hl.1 rfl (lv_room (Nat.le_of_ble_eq_true rfl)) dX4_reasonOfOrder_99 ⟨Nat.zero_le _, Nat.zero_le _⟩) (fun r M H locs hp w => ?_)
          obtain ⟨rfl, hM⟩ := hp
          have J126 : ∀ (is0_126 : Int32) (M : mh) (H : Heap) (locs : List Loc) (ls : Array Slot), mf_reasonOfOrder_126 v is0_126 = z → lv_has ls 1 [] → mW G A s M H locs → Mdl G pp M0 M v → W p l e R s m av below meth c H locs 0 0 Q (F0 m 126 ls [.int is0_126]) := by
            intro is0_126 M H locs ls  E hl w hM
            rw [mf_reasonOfOrder_126] at E
            exact fin is0_126 M H locs ls 126 dX4_reasonOfOrder_126 ⟨E, hM⟩ w
          refine mx_bne (tgt := 109) hx hb dX4_reasonOfOrder_102 (by decide) (fun c_102 => ?_) (fun c_102 => ?_)
          · rw [if_pos c_102] at E
            obtain ⟨hz1, hz2⟩ := isPump_n hI.enp hI.n6 c_102
            refine lv_aload_n hx hb dX4_reasonOfOrder_109 rfl (lv_at hl 0 rfl) ?_
            refine lv_aload_n hx hb dX4_reasonOfOrder_110 rfl (lv_at hl 0 rfl) ?_
            refine mx_get (v := .int (v 0 9)) X w in_X4 (ci := 3) rfl 9 (by decide) q2020 (fun _ h => h) hM.2.1 rfl dX4_reasonOfOrder_111 ?_
            refine mx_cast (z := nI (tN (v 0 9))) (hz1) ?_
            refine lv_iconst (v := (3 : Int32)) hx hb dX4_reasonOfOrder_114 (by decide) ?_
            refine mx_bi w (va_runV (As := [.int (nI (tN (v 0 9))), .int (nI 3)]) (rest := []) X (mt_of l G A pp M0 v (tN (v 0 9)) 3  (by first | omega | assumption) (by first | omega | assumption)) (cwV 2 X.2.2.2.2 (lw_V q2101 q2103 qs50 q113 q2104) rfl rfl rfl (by decide +kernel) ⟨by rw [hRf]; decide, by rw [hRl]; decide⟩) (mx_preV w hM hM.2.1 rfl) rfl rfl hl.1 rfl (lv_room (Nat.le_of_ble_eq_true rfl)) dX4_reasonOfOrder_115 ⟨Nat.zero_le _, Nat.zero_le _⟩) (fun r M H locs hp w => ?_)
            obtain ⟨rfl, hM⟩ := hp
            refine lv_if_ne (tgt := 125) hx hb dX4_reasonOfOrder_118 (by decide) (fun c_118 => ?_) (fun c_118 => ?_)
            · rw [if_neg c_118] at E
              refine lv_iconst (v := (0 : Int32)) hx hb dX4_reasonOfOrder_125 (by decide) ?_
              exact J126 (0 : Int32) M H locs ls E (lv_sub hl [] rfl) w hM
            · rw [if_pos c_118] at E
              refine lv_iconst (v := (3 : Int32)) hx hb dX4_reasonOfOrder_121 (by decide) ?_
              refine lv_goto (tgt := 126) hx hb dX4_reasonOfOrder_122 (by decide) ?_
              exact J126 (3 : Int32) M H locs ls E (lv_sub hl [] rfl) w hM
          · rw [if_neg c_102] at E
            refine lv_iconst (v := (2 : Int32)) hx hb dX4_reasonOfOrder_105 (by decide) ?_
            refine lv_goto (tgt := 126) hx hb dX4_reasonOfOrder_106 (by decide) ?_
            exact J126 (2 : Int32) M H locs ls E (lv_sub hl [] rfl) w hM
        · rw [if_neg c_4_115] at E
          refine lv_lookup (tgt := 144) hx hb dX4_reasonOfOrder_4 (by decide) (off := 140) (by show Op.lookupswitch.offset [(99, 44), (111, 44), (112, 123), (115, 90)] 140 _ = _; rw [lv_osw (a := 99) c_4_99 rfl, lv_osw (a := 111) c_4_111 rfl, lv_osw (a := 112) c_4_112 rfl, lv_osw (a := 115) c_4_115 rfl]; rfl) (by decide) ?_
          refine lv_aload_n hx hb dX4_reasonOfOrder_144 rfl (lv_at hl 0 rfl) ?_
          refine mx_get (v := .ref (pp 1)) X w in_X4 (ci := 3) rfl 0 (by decide) q2011 (fun _ h => h) hM.2.1 rfl dX4_reasonOfOrder_145 ?_
          refine lv_bipush (v := (6 : Int32)) hx hb dX4_reasonOfOrder_148 (by decide) ?_
          refine md_ald X w hM 1 (by decide) (by decide) 6 rfl (show 6 < 170 by decide) dX4_reasonOfOrder_150 ?_
          have J159 : ∀ (is0_159 : Int32) (M : mh) (H : Heap) (locs : List Loc) (ls : Array Slot), mf_reasonOfOrder_159 v is0_159 = z → lv_has ls 1 [] → mW G A s M H locs → Mdl G pp M0 M v → W p l e R s m av below meth c H locs 0 0 Q (F0 m 159 ls [.int is0_159]) := by
            intro is0_159 M H locs ls  E hl w hM
            rw [mf_reasonOfOrder_159] at E
            exact fin is0_159 M H locs ls 159 dX4_reasonOfOrder_159 ⟨E, hM⟩ w
          refine lv_if_ne (tgt := 158) hx hb dX4_reasonOfOrder_151 (by decide) (fun c_151 => ?_) (fun c_151 => ?_)
          · rw [if_neg c_151] at E
            refine lv_iconst (v := (0 : Int32)) hx hb dX4_reasonOfOrder_158 (by decide) ?_
            exact J159 (0 : Int32) M H locs ls E (lv_sub hl [] rfl) w hM
          · rw [if_pos c_151] at E
            refine lv_iconst (v := (3 : Int32)) hx hb dX4_reasonOfOrder_154 (by decide) ?_
            refine lv_goto (tgt := 159) hx hb dX4_reasonOfOrder_155 (by decide) ?_
            exact J159 (3 : Int32) M H locs ls E (lv_sub hl [] rfl) w hM
theorem reason_z {T np nz ng : Nat} {v : Nat → Nat → Int32} (h : IP T np nz ng (v 1)) (ho : v 0 8 = 111 ∨ v 0 8 = 99) (hr : mf_reasonOfOrder v = 0) : v 0 9 = nI (tN (v 0 9)) ∧ tN (v 0 9) < nz := by
  by_cases c : mf_isZone v (v 0 9) = true
  · exact isZone_n h.enz h.z8 c
  · exfalso
    rcases ho with e | e <;> simp [mf_reasonOfOrder, e, c, mf_reasonOfOrder_93, mf_reasonOfOrder_93b] at hr
theorem reason_p {T np nz ng : Nat} {v : Nat → Nat → Int32} (h : IP T np nz ng (v 1)) (e : v 0 8 = 115) (hr : mf_reasonOfOrder v = 0) : v 0 9 = nI (tN (v 0 9)) ∧ tN (v 0 9) < np := by
  by_cases c : mf_isPump v (v 0 9) = true
  · exact isPump_n h.enp h.n6 c
  · exfalso
    simp [mf_reasonOfOrder, e, c, mf_reasonOfOrder_126] at hr
theorem reason_m {v : Nat → Nat → Int32} (e : v 0 8 = 112) (hr : mf_reasonOfOrder v = 0) : mf_passFault v (v 0 9) = 0 := by
  by_cases c : mf_passFault v (v 0 9) = 0
  · exact c
  · exfalso
    simp [mf_reasonOfOrder, e, c, mf_reasonOfOrder_143] at hr
theorem passFault_t {T np nz ng : Nat} {v : Nat → Nat → Int32} {mins : Int32} (h : IP T np nz ng (v 1)) (hT : T ≤ 20000) (hr : mf_passFault v mins = 0) : T + tN mins ≤ 20000 := by
  obtain ⟨e1, e2, e3⟩ := passFault_n hr
  rw [mf_passFault] at hr
  by_cases c : mf_in mins.toInt64 1 240 = true
  · rw [if_pos c, h.time] at hr
    by_cases c2 : nI T + mins ≤ 20000
    · rw [e1, nI_add] at c2
      exact (nI_leI (b := 20000) (by omega) (by decide)).mp c2
    · rw [if_neg c2, mf_passFault_37] at hr
      exact absurd hr (by decide)
  · rw [if_neg c, mf_passFault_37] at hr
    exact absurd hr (by decide)
theorem reason_u11 (v : Nat → Nat → Int32) (x : Int32) : mf_reasonOfOrder (u2 v 0 11 x) = mf_reasonOfOrder v := by
  have e8 : u2 v 0 11 x 0 8 = v 0 8 := u2_k (by decide)
  have e9 : u2 v 0 11 x 0 9 = v 0 9 := u2_k (by decide)
  have e1 : u2 v 0 11 x 1 = v 1 := u2_r (by decide)
  have eZ : ∀ y, mf_isZone (u2 v 0 11 x) y = mf_isZone v y := fun y => by rw [mf_isZone, mf_isZone, e1]
  have eP : ∀ y, mf_isPump (u2 v 0 11 x) y = mf_isPump v y := fun y => by rw [mf_isPump, mf_isPump, e1]
  have eO : ∀ y, mf_isOpen (u2 v 0 11 x) y = mf_isOpen v y := fun y => by rw [mf_isOpen, mf_isOpen, e1]; simp only [mf_isOpen_22]
  have eF : ∀ y, mf_passFault (u2 v 0 11 x) y = mf_passFault v y := fun y => by rw [mf_passFault, mf_passFault, e1]; simp only [mf_passFault_37]
  have eG : ∀ y z, mf_of (u2 v 0 11 x) y z = mf_of v y z := fun y z => by rw [mf_of, mf_of, e1]
  simp only [mf_reasonOfOrder, mf_reasonOfOrder_85, mf_reasonOfOrder_85b, mf_reasonOfOrder_93, mf_reasonOfOrder_93b, mf_reasonOfOrder_126, mf_reasonOfOrder_143, mf_reasonOfOrder_159, e8, e9, eZ, eP, eO, eF, eG, e1]
theorem ro_143 (v : Nat → Nat → Int32) (rc : (Nat → Nat → Int32) → (Bool × (Nat → Nat → Int32))) (w : Nat → Nat → Int32) : ∃ b, mf_readsOrder_143 v rc w = (b, u2 w 0 7 (w 0 7 + 1)) := by
  rw [mf_readsOrder_143]
  simp only [mf_readsOrder_160, mf_readsOrder_173, mf_readsOrder_174]
  repeat' split
  all_goals exact ⟨_, rfl⟩
theorem ro_75 (v : Nat → Nat → Int32) : ∀ (n : Nat) (w : Nat → Nat → Int32), (∀ r, r ≠ 0 → (mf_readsOrder_75 v n w).2 r = w r) ∧ (∀ k, k ≠ 7 → k ≠ 9 → (mf_readsOrder_75 v n w).2 0 k = w 0 k) ∧ ∀ q, w 0 7 = nI q → ∃ q', (mf_readsOrder_75 v n w).2 0 7 = nI q' ∧ q ≤ q' ∧ q' ≤ q + n + 1 := by
  intro n
  induction n with
  | zero => intro w; exact ⟨fun _ _ => rfl, fun _ _ _ => rfl, fun q hq => ⟨q, hq, by omega, by omega⟩⟩
  | succ n ih =>
    intro w
    have ex : ∀ (z : Bool × (Nat → Nat → Int32)), (∃ b, z = (b, u2 w 0 7 (w 0 7 + 1))) → (∀ r, r ≠ 0 → z.2 r = w r) ∧ (∀ k, k ≠ 7 → k ≠ 9 → z.2 0 k = w 0 k) ∧ ∀ q, w 0 7 = nI q → ∃ q', z.2 0 7 = nI q' ∧ q ≤ q' ∧ q' ≤ q + (n + 1) + 1 := fun z hz => by
      obtain ⟨b, rfl⟩ := hz
      exact ⟨fun r hr => (show u2 w 0 7 (w 0 7 + 1) r = w r from u2_r hr), fun k h7 _ => (show u2 w 0 7 (w 0 7 + 1) 0 k = w 0 k from u2_k h7), fun q hq => ⟨q + 1, by show u2 w 0 7 (w 0 7 + 1) 0 7 = _; rw [u2_s, hq]; exact nI_1 q, by omega, by omega⟩⟩
    rw [mf_readsOrder_75]
    split
    · exact ex _ (ro_143 _ _ _)
    · split
      · split
        · exact ex _ (ro_143 _ _ _)
        · obtain ⟨i1, i2, i3⟩ := ih (u2 (u2 w 0 9 ((((10 : Int32) * (w 0 9)) + (mf_here w )) - (48 : Int32))) 0 7 (((u2 w 0 9 ((((10 : Int32) * (w 0 9)) + (mf_here w )) - (48 : Int32))) 0 7) + (1 : Int32)))
          refine ⟨fun r hr => (i1 r hr).trans (by rw [u2_r hr, u2_r hr]), fun k h7 h9 => (i2 k h7 h9).trans (by rw [u2_k h7, u2_k h9]), fun q hq => ?_⟩
          obtain ⟨q', a1, a2, a3⟩ := i3 (q + 1) (by rw [u2_s, u2_k (by decide), hq]; exact nI_1 q)
          exact ⟨q', a1, by omega, by omega⟩
      · exact ex _ (ro_143 _ _ _)
theorem ro_base (v : Nat → Nat → Int32) (x : Int32) : (∀ r, r ≠ 0 → (u2 (u2 v 0 8 x) 0 7 (((u2 v 0 8 x) 0 7) + (1 : Int32))) r = v r) ∧ (∀ k, k ≠ 7 → k ≠ 8 → k ≠ 9 → (u2 (u2 v 0 8 x) 0 7 (((u2 v 0 8 x) 0 7) + (1 : Int32))) 0 k = v 0 k) ∧ ∀ q, v 0 7 = nI q → ∃ q', (u2 (u2 v 0 8 x) 0 7 (((u2 v 0 8 x) 0 7) + (1 : Int32))) 0 7 = nI q' ∧ q + 1 ≤ q' ∧ q' ≤ q + 8 :=
  ⟨fun r hr => by rw [u2_r hr, u2_r hr], fun k h7 h8 h9 => by rw [u2_k h7, u2_k h8], fun q hq => ⟨q + 1, by rw [u2_s, u2_k (by decide), hq]; exact nI_1 q, by omega, by omega⟩⟩
theorem reads_f (v : Nat → Nat → Int32) : (∀ r, r ≠ 0 → (mf_readsOrder v).2 r = v r) ∧ (∀ k, k ≠ 7 → k ≠ 8 → k ≠ 9 → (mf_readsOrder v).2 0 k = v 0 k) ∧ ∀ q, v 0 7 = nI q → ∃ q', (mf_readsOrder v).2 0 7 = nI q' ∧ q + 1 ≤ q' ∧ q' ≤ q + 8 := by
  have k65 : (∀ r, r ≠ 0 → (mf_readsOrder_65 v).2 r = v r) ∧ (∀ k, k ≠ 7 → k ≠ 8 → k ≠ 9 → (mf_readsOrder_65 v).2 0 k = v 0 k) ∧ ∀ q, v 0 7 = nI q → ∃ q', (mf_readsOrder_65 v).2 0 7 = nI q' ∧ q + 1 ≤ q' ∧ q' ≤ q + 8 := by
    rw [mf_readsOrder_65]
    obtain ⟨i1, i2, i3⟩ := ro_75 v 5 (u2 (u2 (u2 v 0 8 (mf_here v )) 0 7 (((u2 v 0 8 (mf_here v )) 0 7) + (1 : Int32))) 0 9 (0 : Int32))
    refine ⟨fun r hr => (i1 r hr).trans (by rw [u2_r hr, u2_r hr, u2_r hr]), fun k h7 h8 h9 => (i2 k h7 h9).trans (by rw [u2_k h9, u2_k h7, u2_k h8]), fun q hq => ?_⟩
    obtain ⟨q', a1, a2, a3⟩ := i3 (q + 1) (by rw [u2_k (by decide), u2_s, u2_k (by decide), hq]; exact nI_1 q)
    exact ⟨q', a1, by omega, by omega⟩
  rw [mf_readsOrder]
  repeat' split
  all_goals first | exact k65 | exact ro_base v (mf_here v)
def mf_does_98 (v : (Nat → Nat → Int32)) (v_98 : (Nat → Nat → Int32)) : (Nat → Nat → Int32) := v_98
def mf_does_47 (v : (Nat → Nat → Int32)) (bs0_47 : Bool) : (Nat → Nat → Int32) := (mf_does_98 v (u2 v 1 (87 + 2 * tN (v 0 9) + 1) (bI bs0_47)))
def mf_does_18 (v : (Nat → Nat → Int32))  : (Nat → Nat → Int32) := (if (v 0 8) = (111 : Int32) then (mf_does_47 v true) else (mf_does_47 v false))
def mf_does_c94 (v : (Nat → Nat → Int32)) (v_94 : (Nat → Nat → Int32)) (r_94 : Int32) : (Nat → Nat → Int32) := (mf_does_98 v v_94)
def mf_does_c87 (v : (Nat → Nat → Int32)) (v_87 : (Nat → Nat → Int32)) : (Nat → Nat → Int32) := (mf_does_98 v v_87)
def mf_does_c66 (v : (Nat → Nat → Int32)) (v_66 : (Nat → Nat → Int32)) (r_66 : Int32) : (Nat → Nat → Int32) := (mf_does_98 v v_66)
def mf_does (v : (Nat → Nat → Int32)) : (Nat → Nat → Int32) := (if (v 0 8) = (111 : Int32) then (mf_does_18 v ) else (if (v 0 8) = (99 : Int32) then (mf_does_18 v ) else (if (v 0 8) = (115 : Int32) then (mf_does_c66 v ((mf_serves v (tN (v 0 9)) (0 : Int32)).2) ((mf_serves v (tN (v 0 9)) (0 : Int32)).1)) else (if (v 0 8) = (112 : Int32) then (mf_does_c87 v (mf_minutes v (tN (v 0 9)))) else (mf_does_c94 v ((mf_resets v ).2) ((mf_resets v ).1))))))
set_option maxHeartbeats 4000000 in
set_option maxRecDepth 100000 in
theorem mt_does (l : Launch) (G : mg) (A : Nat → Prop) (pp : Nat → Nat) (M0 : mh) (v : Nat → Nat → Int32)  (T np nz ng : Nat) (hI : IP T np nz ng (v 1)) (hT : T ≤ 20000) (hr : mf_reasonOfOrder v = 0) : Met l yX4_does (ws_ yX4_does cX4_does 2 (none)) ({ frames := 8, cells := 0, slots := 0, locals := 175 }) (va_Pc [.ref (pp 0)] (mU G A (fun M => Mdl G pp M0 M v))) (mQv G A (fun M => Mdl G pp M0 M (mf_does v))) 0 0 A := by
  refine mx_ofv (by decide) (Nat.le_of_ble_eq_true rfl) ?_
  intro p e R s m av below meth c M H Q ls X hRf hRl hRc hRs hin hM w fin hl
  have X : CallFix p m c cX4_does 2 s av lw_all "FieldPumpsModel" := X
  have hx := X.1
  have hb := X.2.1
  have hl : lv_has ls 2 [(0, .ref (pp 0))] := hl
  have hRf : R.frames = 8 := hRf
  have hRl : R.locals = 175 := hRl
  generalize ([] : List Loc) = locs at w ⊢
  generalize E : mf_does v = z at fin
  rw [mf_does] at E
  have hb6 := hI.b
  have hcp := hI.cp
  have hcz := hI.cz
  have hcg := hI.cg
  refine lv_aload_n hx hb dX4_does_0 rfl (lv_at hl 0 rfl) ?_
  refine mx_get (v := .int (v 0 8)) X w in_X4 (ci := 3) rfl 8 (by decide) q2019 (fun _ h => h) hM.2.1 rfl dX4_does_1 ?_
  refine lv_bipush (v := (111 : Int32)) hx hb dX4_does_4 (by decide) ?_
  have J98 : ∀ (v_98 : (Nat → Nat → Int32)) (M : mh) (H : Heap) (locs : List Loc) (ls : Array Slot), mf_does_98 v v_98 = z → lv_has ls 2 [] → mW G A s M H locs → Mdl G pp M0 M v_98 → W p l e R s m av below meth c H locs 0 0 Q (F0 m 98 ls []) := by
    intro v_98 M H locs ls  E hl w hM
    rw [mf_does_98] at E
    exact fin M H locs ls 98 dX4_does_98 (by rw [← E]; exact hM) w
  have J18 : ∀  (M : mh) (H : Heap) (locs : List Loc) (ls : Array Slot), (hz : v 0 8 = 111 ∨ v 0 8 = 99) → mf_does_18 v  = z → lv_has ls 2 [(0, .ref (pp 0))] → mW G A s M H locs → Mdl G pp M0 M v → W p l e R s m av below meth c H locs 0 0 Q (F0 m 18 ls []) := by
    intro  M H locs ls hz E hl w hM
    rw [mf_does_18] at E
    obtain ⟨hz1, hz2⟩ := reason_z hI hz hr
    refine lv_aload_n hx hb dX4_does_18 rfl (lv_at hl 0 rfl) ?_
    refine mx_get (v := .ref (pp 1)) X w in_X4 (ci := 3) rfl 0 (by decide) q2011 (fun _ h => h) hM.2.1 rfl dX4_does_19 ?_
    refine lv_bipush (v := (87 : Int32)) hx hb dX4_does_22 (by decide) ?_
    refine lv_iconst (v := (2 : Int32)) hx hb dX4_does_24 (by decide) ?_
    refine lv_aload_n hx hb dX4_does_25 rfl (lv_at hl 0 rfl) ?_
    refine mx_get (v := .int (v 0 9)) X w in_X4 (ci := 3) rfl 9 (by decide) q2020 (fun _ h => h) hM.2.1 rfl dX4_does_26 ?_
    refine mx_cast (z := nI (tN (v 0 9))) (hz1) ?_
    refine mx_nmul (u := 2) (v := tN (v 0 9)) hx hb rfl rfl dX4_does_29 ?_
    refine mx_nadd (u := 87) (v := 2 * tN (v 0 9)) hx hb rfl rfl dX4_does_30 ?_
    refine lv_iconst (v := (1 : Int32)) hx hb dX4_does_31 (by decide) ?_
    refine mx_nadd (u := 87 + 2 * tN (v 0 9)) (v := 1) hx hb rfl rfl dX4_does_32 ?_
    refine lv_aload_n hx hb dX4_does_33 rfl (lv_at hl 0 rfl) ?_
    refine mx_get (v := .int (v 0 8)) X w in_X4 (ci := 3) rfl 8 (by decide) q2019 (fun _ h => h) hM.2.1 rfl dX4_does_34 ?_
    refine lv_bipush (v := (111 : Int32)) hx hb dX4_does_37 (by decide) ?_
    have J47 : ∀ (bs0_47 : Bool) (M : mh) (H : Heap) (locs : List Loc) (ls : Array Slot), mf_does_47 v bs0_47 = z → lv_has ls 2 [] → mW G A s M H locs → Mdl G pp M0 M v → W p l e R s m av below meth c H locs 0 0 Q (F0 m 47 ls [.int (bI bs0_47), .int (nI (87 + 2 * tN (v 0 9) + 1)), .ref (pp 1)]) := by
      intro bs0_47 M H locs ls  E hl w hM
      rw [mf_does_47] at E
      refine md_ast (x := (bI bs0_47)) X w hM 1 (by decide) (by decide) (87 + 2 * tN (v 0 9) + 1) rfl (show 87 + 2 * tN (v 0 9) + 1 < 170 by omega) dX4_does_47 (fun M H locs w hM => ?_)
      refine lv_goto (tgt := 98) hx hb dX4_does_48 (by decide) ?_
      exact J98 (u2 v 1 (87 + 2 * tN (v 0 9) + 1) (bI bs0_47)) M H locs ls E (lv_sub hl [] rfl) w hM
    refine lv_icmp_ne (tgt := 46) hx hb dX4_does_39 (by decide) (fun c_39 => ?_) (fun c_39 => ?_)
    · rw [if_neg c_39] at E
      refine lv_iconst (v := (0 : Int32)) hx hb dX4_does_46 (by decide) ?_
      exact J47 false M H locs ls E (lv_sub hl [] rfl) w hM
    · rw [if_pos c_39] at E
      refine lv_iconst (v := (1 : Int32)) hx hb dX4_does_42 (by decide) ?_
      refine lv_goto (tgt := 47) hx hb dX4_does_43 (by decide) ?_
      exact J47 true M H locs ls E (lv_sub hl [] rfl) w hM
  refine lv_icmp_eq (tgt := 18) hx hb dX4_does_6 (by decide) (fun c_6 => ?_) (fun c_6 => ?_)
  · rw [if_pos c_6] at E
    exact J18  M H locs ls (by first | exact Or.inl c_6 | exact Or.inr c_15) E (lv_sub hl [0] rfl) w hM
  · rw [if_neg c_6] at E
    refine lv_aload_n hx hb dX4_does_9 rfl (lv_at hl 0 rfl) ?_
    refine mx_get (v := .int (v 0 8)) X w in_X4 (ci := 3) rfl 8 (by decide) q2019 (fun _ h => h) hM.2.1 rfl dX4_does_10 ?_
    refine lv_bipush (v := (99 : Int32)) hx hb dX4_does_13 (by decide) ?_
    refine lv_icmp_ne (tgt := 51) hx hb dX4_does_15 (by decide) (fun c_15 => ?_) (fun c_15 => ?_)
    · rw [if_neg c_15] at E
      refine lv_aload_n hx hb dX4_does_51 rfl (lv_at hl 0 rfl) ?_
      refine mx_get (v := .int (v 0 8)) X w in_X4 (ci := 3) rfl 8 (by decide) q2019 (fun _ h => h) hM.2.1 rfl dX4_does_52 ?_
      refine lv_bipush (v := (115 : Int32)) hx hb dX4_does_55 (by decide) ?_
      refine lv_icmp_ne (tgt := 73) hx hb dX4_does_57 (by decide) (fun c_57 => ?_) (fun c_57 => ?_)
      · rw [if_neg c_57] at E
        refine lv_aload_n hx hb dX4_does_73 rfl (lv_at hl 0 rfl) ?_
        refine mx_get (v := .int (v 0 8)) X w in_X4 (ci := 3) rfl 8 (by decide) q2019 (fun _ h => h) hM.2.1 rfl dX4_does_74 ?_
        refine lv_bipush (v := (112 : Int32)) hx hb dX4_does_77 (by decide) ?_
        refine lv_icmp_ne (tgt := 93) hx hb dX4_does_79 (by decide) (fun c_79 => ?_) (fun c_79 => ?_)
        · rw [if_neg c_79] at E
          refine lv_aload_n hx hb dX4_does_93 rfl (lv_at hl 0 rfl) ?_
          refine mx_bi w (va_runV (As := []) (rest := []) X (mt_resets l G A pp M0 v   ) (cwV 0 X.2.2.2.2 (lw_V q2214 q2216 qs65 q113 q2217) rfl rfl rfl (by decide +kernel) ⟨by rw [hRf]; decide, by rw [hRl]; decide⟩) (mx_preV w hM hM.2.1 rfl) rfl rfl hl.1 rfl (lv_room (Nat.le_of_ble_eq_true rfl)) dX4_does_94 ⟨Nat.zero_le _, Nat.zero_le _⟩) (fun r M H locs hp w => ?_)
          obtain ⟨rfl, hM⟩ := hp
          rw [mf_does_c94] at E
          obtain ⟨v_94, ev_94⟩ : ∃ y, y = (mf_resets v ).2 := ⟨_, rfl⟩
          obtain ⟨r_94, er_94⟩ : ∃ y, y = (mf_resets v ).1 := ⟨_, rfl⟩
          rw [← ev_94] at E hM; (try rw [← er_94] at E); rw [← er_94]
          refine lv_istore_n (lv' := [(1, .int r_94), (0, .ref (pp 0))]) hx hb dX4_does_97 rfl hl (by decide) rfl (fun ls hl => ?_)
          exact J98 v_94 M H locs ls E (lv_sub hl [] rfl) w hM
        · rw [if_pos c_79] at E
          obtain ⟨hz1, _, hz2⟩ := passFault_n (reason_m c_79 hr)
          refine lv_aload_n hx hb dX4_does_82 rfl (lv_at hl 0 rfl) ?_
          refine lv_aload_n hx hb dX4_does_83 rfl (lv_at hl 0 rfl) ?_
          refine mx_get (v := .int (v 0 9)) X w in_X4 (ci := 3) rfl 9 (by decide) q2020 (fun _ h => h) hM.2.1 rfl dX4_does_84 ?_
          refine mx_cast (z := nI (tN (v 0 9))) (hz1) ?_
          refine mx_bv w (va_runV (As := [.int (nI (tN (v 0 9)))]) (rest := []) X (mt_minutes l G A pp M0 v (tN (v 0 9)) T np nz ng (hI) (by omega)) (cwV 1 X.2.2.2.2 (lw_V q2227 q2229 qs67 q113 q2230) rfl rfl rfl (by decide +kernel) ⟨by rw [hRf]; decide, by rw [hRl]; decide⟩) (mx_preV w hM hM.2.1 rfl) rfl rfl hl.1 rfl (lv_room (Nat.le_of_ble_eq_true rfl)) dX4_does_87 ⟨Nat.zero_le _, Nat.zero_le _⟩) (fun M H locs hM w => ?_)
          rw [mf_does_c87] at E
          obtain ⟨v_87, ev_87⟩ : ∃ y, y = (mf_minutes v (tN (v 0 9))) := ⟨_, rfl⟩
          rw [← ev_87] at E hM
          refine lv_goto (tgt := 98) hx hb dX4_does_90 (by decide) ?_
          exact J98 v_87 M H locs ls E (lv_sub hl [] rfl) w hM
      · rw [if_pos c_57] at E
        obtain ⟨hz1, hz2⟩ := reason_p hI c_57 hr
        refine lv_aload_n hx hb dX4_does_60 rfl (lv_at hl 0 rfl) ?_
        refine lv_aload_n hx hb dX4_does_61 rfl (lv_at hl 0 rfl) ?_
        refine mx_get (v := .int (v 0 9)) X w in_X4 (ci := 3) rfl 9 (by decide) q2020 (fun _ h => h) hM.2.1 rfl dX4_does_62 ?_
        refine mx_cast (z := nI (tN (v 0 9))) (hz1) ?_
        refine lv_iconst (v := (0 : Int32)) hx hb dX4_does_65 (by decide) ?_
        refine mx_bi w (va_runV (As := [.int (nI (tN (v 0 9))), .int (0 : Int32)]) (rest := []) X (mt_serves l G A pp M0 v (tN (v 0 9)) (0 : Int32) T np nz ng (hI) (by omega) (rg_0)) (cwV 2 X.2.2.2.2 (lw_V q2106 q2108 qs51 q113 q2109) rfl rfl rfl (by decide +kernel) ⟨by rw [hRf]; decide, by rw [hRl]; decide⟩) (mx_preV w hM hM.2.1 rfl) rfl rfl hl.1 rfl (lv_room (Nat.le_of_ble_eq_true rfl)) dX4_does_66 ⟨Nat.zero_le _, Nat.zero_le _⟩) (fun r M H locs hp w => ?_)
        obtain ⟨rfl, hM⟩ := hp
        rw [mf_does_c66] at E
        obtain ⟨v_66, ev_66⟩ : ∃ y, y = (mf_serves v (tN (v 0 9)) (0 : Int32)).2 := ⟨_, rfl⟩
        obtain ⟨r_66, er_66⟩ : ∃ y, y = (mf_serves v (tN (v 0 9)) (0 : Int32)).1 := ⟨_, rfl⟩
        rw [← ev_66] at E hM; (try rw [← er_66] at E); rw [← er_66]
        refine lv_istore_n (lv' := [(1, .int r_66), (0, .ref (pp 0))]) hx hb dX4_does_69 rfl hl (by decide) rfl (fun ls hl => ?_)
        refine lv_goto (tgt := 98) hx hb dX4_does_70 (by decide) ?_
        exact J98 v_66 M H locs ls E (lv_sub hl [] rfl) w hM
    · rw [if_pos c_15] at E
      exact J18  M H locs ls (by first | exact Or.inl c_6 | exact Or.inr c_15) E (lv_sub hl [0] rfl) w hM
theorem save_51_06 (v w0 : Nat → Nat → Int32) : ∀ (n k : Nat) (w : Nat → Nat → Int32) (j : Nat), j ≠ 2 → mf_save_51 v w0 n k w 0 j = w 0 j := by
  intro n
  induction n with
  | zero => intro k w j _; rfl
  | succ n ih =>
    intro k w j h
    rw [mf_save_51]
    split
    · exact u2_k h
    · rw [ih _ _ _ h, u2_r (by decide)]
theorem save_10_06 (v : Nat → Nat → Int32) : ∀ (n k : Nat) (w : Nat → Nat → Int32) (j : Nat), j ≠ 2 → mf_save_10 v n k w 0 j = w 0 j := by
  intro n
  induction n with
  | zero => intro k w j _; rfl
  | succ n ih =>
    intro k w j h
    rw [mf_save_10]
    split
    · rw [mf_save_49, save_51_06 _ _ _ _ _ _ h, u2_k h]
    · rw [ih _ _ _ h, u2_r (by decide)]
theorem save_0 {v : Nat → Nat → Int32} {j : Nat} (h : j ≠ 2) : mf_save v 0 j = v 0 j := by
  rw [mf_save]
  split
  · rw [save_10_06 _ _ _ _ _ h]
  · rw [mf_save_49, save_51_06 _ _ _ _ _ _ h]
theorem resets_row {v : Nat → Nat → Int32} {r : Nat} (h : r ≠ 1) : (mf_resets v).2 r = v r := by
  simp only [mf_resets, mf_resets_54, mf_resets_c51]
  repeat' split
  all_goals first | exact u2_r h | exact (event_row h).trans ((u2_r h).trans (u2_r h))
theorem IP_resets {T np nz ng : Nat} {v : Nat → Nat → Int32} (h : IP T np nz ng (v 1)) : IP T np nz ng ((mf_resets v).2 1) := by
  have h6 : IP T np nz ng (u2 v 1 6 0 1) := h.up (okc_6 h.b rg_0)
  simp only [mf_resets, mf_resets_54, mf_resets_c51]
  repeat' split
  all_goals first | exact h6 | exact IP_event (h6.up (okc_5 h.b rg_0))
theorem does_row {v : Nat → Nat → Int32} {r : Nat} (h : r ≠ 1) : mf_does v r = v r := by
  have k18 : mf_does_18 v r = v r := by
    rw [mf_does_18]
    split <;> rw [mf_does_47, mf_does_98, u2_r h]
  rw [mf_does]
  split
  · exact k18
  · split
    · exact k18
    · split
      · rw [mf_does_c66, mf_does_98, serves_row h]
      · split
        · rw [mf_does_c87, mf_does_98, minutes_row h]
        · rw [mf_does_c94, mf_does_98, resets_row h]
theorem IP_serves {T np nz ng : Nat} {v : Nat → Nat → Int32} {k : Nat} {is : Int32} (hk : k < 6) (his : rg is 1) (h : IP T np nz ng (v 1)) : IP T np nz ng ((mf_serves v k is).2 1) := by
  have h2 : IP T np nz ng (mf_put v k 3 is 1) := IP_put hk (by decide) h (fun _ => pmR_3 his)
  simp only [mf_serves, mf_serves_16, mf_serves_17, mf_serves_c22, mf_serves_34, mf_serves_43, mf_serves_c31]
  repeat' split
  all_goals first | exact h2 | exact IP_stop hk h2
theorem IP_does {T np nz ng : Nat} {v : Nat → Nat → Int32} (h : IP T np nz ng (v 1)) (hT : T ≤ 20000) (hr : mf_reasonOfOrder v = 0) : ∃ T2, T2 ≤ 20000 ∧ IP T2 np nz ng (mf_does v 1) := by
  have hb := h.b
  have k18 : (v 0 8 = 111 ∨ v 0 8 = 99) → IP T np nz ng (mf_does_18 v 1) := fun ho => by
    obtain ⟨z1, z2⟩ := reason_z h ho hr
    have key : ∀ b : Bool, IP T np nz ng (mf_does_47 v b 1) := fun b => by
      rw [mf_does_47, mf_does_98]
      exact h.up (okc_open hb (by omega) ⟨by cases b; exact rg_0; exact rg_1 (by decide), fun z => absurd z2 (by omega)⟩)
    rw [mf_does_18]
    split <;> exact key _
  rw [mf_does]
  split
  · rename_i e
    exact ⟨T, hT, k18 (Or.inl e)⟩
  · split
    · rename_i e
      exact ⟨T, hT, k18 (Or.inr e)⟩
    · split
      · rename_i e
        obtain ⟨z1, z2⟩ := reason_p h e hr
        rw [mf_does_c66, mf_does_98]
        exact ⟨T, hT, IP_serves (by omega) rg_0 h⟩
      · split
        · rename_i e
          have ht := passFault_t h hT (reason_m e hr)
          rw [mf_does_c87, mf_does_98]
          exact ⟨T + tN (v 0 9), ht, IP_minutes h (by omega)⟩
        · rw [mf_does_c94, mf_does_98]
          exact ⟨T, hT, IP_resets h⟩
theorem do_lt {x y : Int32} {q : Nat} (hy : rg y 60) (hx : x = nI q) (hq : q ≤ 70) (c : ¬ y ≤ x) : q ≤ 59 := by
  obtain ⟨b, b1, rfl⟩ := hy
  rw [hx] at c
  have : ¬ b ≤ q := fun z => c ((nI_leI (by omega) (by omega)).mpr z)
  omega
def mf_doOrders_84 (v : (Nat → Nat → Int32)) (rc_15 : (Nat → Nat → Int32) → (Nat → Nat → Int32)) (v_15 : (Nat → Nat → Int32))  : (Nat → Nat → Int32) := v_15
def mf_doOrders_c68 (v : (Nat → Nat → Int32)) (rc_15 : (Nat → Nat → Int32) → (Nat → Nat → Int32)) (v_15 : (Nat → Nat → Int32)) (v_43 : (Nat → Nat → Int32)) (r_43 : Bool) (is0_57 : Int32) (v_68 : (Nat → Nat → Int32)) : (Nat → Nat → Int32) := ( rc_15 (u2 v_68 0 12 ((v_68 0 12) + (1 : Int32))))
def mf_doOrders_57 (v : (Nat → Nat → Int32)) (rc_15 : (Nat → Nat → Int32) → (Nat → Nat → Int32)) (v_15 : (Nat → Nat → Int32)) (v_43 : (Nat → Nat → Int32)) (r_43 : Bool) (is0_57 : Int32) : (Nat → Nat → Int32) := (if ((u2 v_43 0 11 is0_57) 0 11) = 0 then (mf_doOrders_c68 v rc_15 v_15 v_43 r_43 is0_57 (mf_does (u2 v_43 0 11 is0_57) )) else ( rc_15 (u2 v_43 0 11 is0_57)))
def mf_doOrders_c43 (v : (Nat → Nat → Int32)) (rc_15 : (Nat → Nat → Int32) → (Nat → Nat → Int32)) (v_15 : (Nat → Nat → Int32)) (v_43 : (Nat → Nat → Int32)) (r_43 : Bool) : (Nat → Nat → Int32) := (if r_43 = true then (mf_doOrders_57 v rc_15 v_15 v_43 r_43 (mf_reasonOfOrder v_43 )) else (mf_doOrders_57 v rc_15 v_15 v_43 r_43 (1 : Int32)))
def mf_doOrders_15 (v : (Nat → Nat → Int32)) : Nat → (Nat → Nat → Int32) → (Nat → Nat → Int32)
  | 0, v_15 => v_15
  | n_15 + 1, v_15 => (if (v_15 0 6) ≤ (v_15 0 7) then (mf_doOrders_84 v (mf_doOrders_15 v n_15) v_15 ) else (if (v_15 0 11) = 0 then (mf_doOrders_c43 v (mf_doOrders_15 v n_15) v_15 ((mf_readsOrder (u2 v_15 0 10 (v_15 0 7)) ).2) ((mf_readsOrder (u2 v_15 0 10 (v_15 0 7)) ).1)) else (mf_doOrders_84 v (mf_doOrders_15 v n_15) v_15 )))
def mf_doOrders (v : (Nat → Nat → Int32)) : (Nat → Nat → Int32) := (mf_doOrders_15 v 71 (u2 (u2 (u2 v 0 11 (0 : Int32)) 0 12 (0 : Int32)) 0 7 (0 : Int32)))
set_option maxHeartbeats 4000000 in
set_option maxRecDepth 100000 in
theorem mt_doOrders (l : Launch) (G : mg) (A : Nat → Prop) (pp : Nat → Nat) (M0 : mh) (v : Nat → Nat → Int32)  (T np nz ng : Nat) (hI : IP T np nz ng (v 1)) (hT : T ≤ 20000) (ht : rg (v 0 6) 60) : Met l yX4_doOrders (ws_ yX4_doOrders cX4_doOrders 1 (none)) ({ frames := 9, cells := 0, slots := 0, locals := 196 }) (va_Pc [.ref (pp 0)] (mU G A (fun M => Mdl G pp M0 M v))) (mQv G A (fun M => Mdl G pp M0 M (mf_doOrders v))) 0 0 A := by
  refine mx_ofv (by decide) (Nat.le_of_ble_eq_true rfl) ?_
  intro p e R s m av below meth c M H Q ls X hRf hRl hRc hRs hin hM w fin hl
  have X : CallFix p m c cX4_doOrders 1 s av lw_all "FieldPumpsModel" := X
  have hx := X.1
  have hb := X.2.1
  have hl : lv_has ls 1 [(0, .ref (pp 0))] := hl
  have hRf : R.frames = 9 := hRf
  have hRl : R.locals = 196 := hRl
  generalize ([] : List Loc) = locs at w ⊢
  generalize E : mf_doOrders v = z at fin
  rw [mf_doOrders] at E
  have hb6 := hI.b
  have hcp := hI.cp
  have hcz := hI.cz
  have hcg := hI.cg
  refine lv_aload_n hx hb dX4_doOrders_0 rfl (lv_at hl 0 rfl) ?_
  refine lv_iconst (v := (0 : Int32)) hx hb dX4_doOrders_1 (by decide) ?_
  refine md_put (x := (0 : Int32)) X w hM 11 (by decide) q2022 rfl rfl rfl dX4_doOrders_2 (fun M H locs w hM => ?_)
  refine lv_aload_n hx hb dX4_doOrders_5 rfl (lv_at hl 0 rfl) ?_
  refine lv_iconst (v := (0 : Int32)) hx hb dX4_doOrders_6 (by decide) ?_
  refine md_put (x := (0 : Int32)) X w hM 12 (by decide) q2023 rfl rfl rfl dX4_doOrders_7 (fun M H locs w hM => ?_)
  refine lv_aload_n hx hb dX4_doOrders_10 rfl (lv_at hl 0 rfl) ?_
  refine lv_iconst (v := (0 : Int32)) hx hb dX4_doOrders_11 (by decide) ?_
  refine md_put (x := (0 : Int32)) X w hM 7 (by decide) q2018 rfl rfl rfl dX4_doOrders_12 (fun M H locs w hM => ?_)
  have L15 : ∀ (n_15 : Nat) (v_15 : (Nat → Nat → Int32)) (M : mh) (H : Heap) (locs : List Loc) (ls : Array Slot), (hq : ∃ T2, T2 ≤ 20000 ∧ IP T2 np nz ng (v_15 1)) → (hp : ∃ q : Nat, v_15 0 7 = nI q ∧ q ≤ 70 ∧ 70 < q + n_15) → (ht5 : v_15 0 6 = v 0 6) → mf_doOrders_15 v n_15 v_15 = z → lv_has ls 1 [(0, .ref (pp 0))] → mW G A s M H locs → Mdl G pp M0 M v_15 → W p l e R s m av below meth c H locs 0 0 Q (F0 m 15 ls []) := by
    intro n_15
    induction n_15 with
    | zero =>
      intro v_15 M H locs ls hq hp ht5 E hl w hM
      obtain ⟨q, _, h3, h4⟩ := hp; exfalso; omega
    | succ n_15 ih_15 =>
      intro v_15 M H locs ls hq hp ht5 E hl w hM
      rw [mf_doOrders_15] at E
      obtain ⟨T2, hT2, hI2⟩ := hq
      obtain ⟨q7, hp1, hp2, hp3⟩ := hp
      have htt : rg (v_15 0 6) 60 := by rw [ht5]; exact ht
      refine lv_aload_n hx hb dX4_doOrders_15 rfl (lv_at hl 0 rfl) ?_
      refine mx_get (v := .int (v_15 0 7)) X w in_X4 (ci := 3) rfl 7 (by decide) q2018 (fun _ h => h) hM.2.1 rfl dX4_doOrders_16 ?_
      refine lv_aload_n hx hb dX4_doOrders_19 rfl (lv_at hl 0 rfl) ?_
      refine mx_get (v := .int (v_15 0 6)) X w in_X4 (ci := 3) rfl 6 (by decide) q2017 (fun _ h => h) hM.2.1 rfl dX4_doOrders_20 ?_
      have J84 : ∀  (M : mh) (H : Heap) (locs : List Loc) (ls : Array Slot), mf_doOrders_84 v (mf_doOrders_15 v n_15) v_15  = z → lv_has ls 1 [] → mW G A s M H locs → Mdl G pp M0 M v_15 → W p l e R s m av below meth c H locs 0 0 Q (F0 m 84 ls []) := by
        intro  M H locs ls  E hl w hM
        rw [mf_doOrders_84] at E
        exact fin M H locs ls 84 dX4_doOrders_84 (by rw [← E]; exact hM) w
      refine lv_icmp_ge (tgt := 84) hx hb dX4_doOrders_23 (by decide) (fun c_23 => ?_) (fun c_23 => ?_)
      · rw [if_pos c_23] at E
        exact J84  M H locs ls E (lv_sub hl [] rfl) w hM
      · rw [if_neg c_23] at E
        refine lv_aload_n hx hb dX4_doOrders_26 rfl (lv_at hl 0 rfl) ?_
        refine mx_get (v := .int (v_15 0 11)) X w in_X4 (ci := 3) rfl 11 (by decide) q2022 (fun _ h => h) hM.2.1 rfl dX4_doOrders_27 ?_
        refine lv_if_ne (tgt := 84) hx hb dX4_doOrders_30 (by decide) (fun c_30 => ?_) (fun c_30 => ?_)
        · rw [if_neg c_30] at E
          exact J84  M H locs ls E (lv_sub hl [] rfl) w hM
        · rw [if_pos c_30] at E
          have hq59 := do_lt htt hp1 hp2 c_23
          refine lv_aload_n hx hb dX4_doOrders_33 rfl (lv_at hl 0 rfl) ?_
          refine lv_aload_n hx hb dX4_doOrders_34 rfl (lv_at hl 0 rfl) ?_
          refine mx_get (v := .int (v_15 0 7)) X w in_X4 (ci := 3) rfl 7 (by decide) q2018 (fun _ h => h) hM.2.1 rfl dX4_doOrders_35 ?_
          refine md_put (x := (v_15 0 7)) X w hM 10 (by decide) q2021 rfl rfl rfl dX4_doOrders_38 (fun M H locs w hM => ?_)
          refine lv_aload_n hx hb dX4_doOrders_41 rfl (lv_at hl 0 rfl) ?_
          refine lv_aload_n hx hb dX4_doOrders_42 rfl (lv_at hl 0 rfl) ?_
          refine mx_bi w (va_runV (As := []) (rest := [.ref (pp 0)]) X (mt_readsOrder l G A pp M0 (u2 v_15 0 10 (v_15 0 7))   (⟨q7, hq59, by rw [u2_k (by decide)]; exact hp1⟩) (by rw [u2_k (by decide)]; exact htt)) (cwV 0 X.2.2.2.2 (lw_V q2373 q2375 qs91 q113 q2376) rfl rfl rfl (by decide +kernel) ⟨by rw [hRf]; decide, by rw [hRl]; decide⟩) (mx_preV w hM hM.2.1 rfl) rfl rfl hl.1 rfl (lv_room (Nat.le_of_ble_eq_true rfl)) dX4_doOrders_43 ⟨Nat.zero_le _, Nat.zero_le _⟩) (fun r M H locs hp w => ?_)
          obtain ⟨rfl, hM⟩ := hp
          rw [mf_doOrders_c43] at E
          obtain ⟨v_43, ev_43⟩ : ∃ y, y = (mf_readsOrder (u2 v_15 0 10 (v_15 0 7)) ).2 := ⟨_, rfl⟩
          obtain ⟨r_43, er_43⟩ : ∃ y, y = (mf_readsOrder (u2 v_15 0 10 (v_15 0 7)) ).1 := ⟨_, rfl⟩
          rw [← ev_43] at E hM; (try rw [← er_43] at E); rw [← er_43]
          have hf := reads_f (u2 v_15 0 10 (v_15 0 7))
          rw [← ev_43] at hf
          obtain ⟨hf1, hf2, hf3⟩ := hf
          have hI4 : IP T2 np nz ng (v_43 1) := by rw [hf1 1 (by decide), u2_r (by decide)]; exact hI2
          obtain ⟨q8, hg1, hg2, hg3⟩ := hf3 q7 (by rw [u2_k (by decide)]; exact hp1)
          have ht6 : v_43 0 6 = v 0 6 := by rw [hf2 6 (by decide) (by decide) (by decide), u2_k (by decide)]; exact ht5
          have J57 : ∀ (is0_57 : Int32) (M : mh) (H : Heap) (locs : List Loc) (ls : Array Slot), (h57 : is0_57 = 0 → mf_reasonOfOrder v_43 = 0) → mf_doOrders_57 v (mf_doOrders_15 v n_15) v_15 v_43 r_43 is0_57 = z → lv_has ls 1 [(0, .ref (pp 0))] → mW G A s M H locs → Mdl G pp M0 M v_43 → W p l e R s m av below meth c H locs 0 0 Q (F0 m 57 ls [.int is0_57, .ref (pp 0)]) := by
            intro is0_57 M H locs ls h57 E hl w hM
            rw [mf_doOrders_57] at E
            refine md_put (x := is0_57) X w hM 11 (by decide) q2022 rfl rfl rfl dX4_doOrders_57 (fun M H locs w hM => ?_)
            refine lv_aload_n hx hb dX4_doOrders_60 rfl (lv_at hl 0 rfl) ?_
            refine mx_get (v := .int ((u2 v_43 0 11 is0_57) 0 11)) X w in_X4 (ci := 3) rfl 11 (by decide) q2022 (fun _ h => h) hM.2.1 rfl dX4_doOrders_61 ?_
            refine lv_if_ne (tgt := 15) hx hb dX4_doOrders_64 (by decide) (fun c_64 => ?_) (fun c_64 => ?_)
            · rw [if_neg c_64] at E
              exact ih_15 (u2 v_43 0 11 is0_57) M H locs ls (by first | omega | assumption | exact (by first | exact ⟨T3, hT3, by rw [u2_r (by decide)]; exact hI5⟩ | exact ⟨T2, hT2, by rw [u2_r (by decide)]; exact hI4⟩)) (by first | omega | assumption | exact (by first | exact ⟨q8, by rw [u2_k (by decide), hd0, u2_k (by decide)]; exact hg1, by omega, by omega⟩ | exact ⟨q8, by rw [u2_k (by decide)]; exact hg1, by omega, by omega⟩)) (by first | omega | assumption | exact (by first | (rw [u2_k (by decide), hd0, u2_k (by decide)]; exact ht6) | (rw [u2_k (by decide)]; exact ht6))) E (lv_sub hl [0] rfl) w hM
            · rw [if_pos c_64] at E
              have h64 : is0_57 = 0 := by rw [u2_s] at c_64; exact c_64
              refine lv_aload_n hx hb dX4_doOrders_67 rfl (lv_at hl 0 rfl) ?_
              refine mx_bv w (va_runV (As := []) (rest := []) X (mt_does l G A pp M0 (u2 v_43 0 11 is0_57)  T2 np nz ng (by rw [u2_r (by decide)]; exact hI4) (hT2) (by rw [reason_u11]; exact h57 h64)) (cwV 0 X.2.2.2.2 (lw_V q2387 q2389 qs94 q113 q2390) rfl rfl rfl (by decide +kernel) ⟨by rw [hRf]; decide, by rw [hRl]; decide⟩) (mx_preV w hM hM.2.1 rfl) rfl rfl hl.1 rfl (lv_room (Nat.le_of_ble_eq_true rfl)) dX4_doOrders_68 ⟨Nat.zero_le _, Nat.zero_le _⟩) (fun M H locs hM w => ?_)
              rw [mf_doOrders_c68] at E
              obtain ⟨v_68, ev_68⟩ : ∃ y, y = (mf_does (u2 v_43 0 11 is0_57) ) := ⟨_, rfl⟩
              rw [← ev_68] at E hM
              obtain ⟨T3, hT3, hI5⟩ := IP_does (v := u2 v_43 0 11 is0_57) (by rw [u2_r (by decide)]; exact hI4) hT2 (by rw [reason_u11]; exact h57 h64)
              rw [← ev_68] at hI5
              have hd0 : v_68 0 = u2 v_43 0 11 is0_57 0 := by rw [ev_68]; exact does_row (by decide)
              refine lv_aload_n hx hb dX4_doOrders_71 rfl (lv_at hl 0 rfl) ?_
              refine lv_dup hx hb dX4_doOrders_72 rfl ?_
              refine mx_get (v := .int (v_68 0 12)) X w in_X4 (ci := 3) rfl 12 (by decide) q2023 (fun _ h => h) hM.2.1 rfl dX4_doOrders_73 ?_
              refine lv_iconst (v := (1 : Int32)) hx hb dX4_doOrders_76 (by decide) ?_
              refine lv_iadd hx hb dX4_doOrders_77 ?_
              refine md_put (x := ((v_68 0 12) + (1 : Int32))) X w hM 12 (by decide) q2023 rfl rfl rfl dX4_doOrders_78 (fun M H locs w hM => ?_)
              refine lv_goto (tgt := 15) hx hb dX4_doOrders_81 (by decide) ?_
              exact ih_15 (u2 v_68 0 12 ((v_68 0 12) + (1 : Int32))) M H locs ls (by first | omega | assumption | exact (by first | exact ⟨T3, hT3, by rw [u2_r (by decide)]; exact hI5⟩ | exact ⟨T2, hT2, by rw [u2_r (by decide)]; exact hI4⟩)) (by first | omega | assumption | exact (by first | exact ⟨q8, by rw [u2_k (by decide), hd0, u2_k (by decide)]; exact hg1, by omega, by omega⟩ | exact ⟨q8, by rw [u2_k (by decide)]; exact hg1, by omega, by omega⟩)) (by first | omega | assumption | exact (by first | (rw [u2_k (by decide), hd0, u2_k (by decide)]; exact ht6) | (rw [u2_k (by decide)]; exact ht6))) E (lv_sub hl [0] rfl) w hM
          refine mx_beq (tgt := 56) hx hb dX4_doOrders_46 (by decide) (fun c_46 => ?_) (fun c_46 => ?_)
          · rw [if_neg c_46] at E
            refine lv_iconst (v := (1 : Int32)) hx hb dX4_doOrders_56 (by decide) ?_
            exact J57 (1 : Int32) M H locs ls (by first | exact (fun h => h) | exact (fun h => absurd h (by decide))) E (lv_sub hl [0] rfl) w hM
          · rw [if_pos c_46] at E
            refine lv_aload_n hx hb dX4_doOrders_49 rfl (lv_at hl 0 rfl) ?_
            refine mx_bi w (va_runV (As := []) (rest := [.ref (pp 0)]) X (mt_reasonOfOrder l G A pp M0 v_43  T2 np nz ng (hI4)) (cwV 0 X.2.2.2.2 (lw_V q2383 q2385 qs93 q113 q2386) rfl rfl rfl (by decide +kernel) ⟨by rw [hRf]; decide, by rw [hRl]; decide⟩) (mx_preV w hM hM.2.1 rfl) rfl rfl hl.1 rfl (lv_room (Nat.le_of_ble_eq_true rfl)) dX4_doOrders_50 ⟨Nat.zero_le _, Nat.zero_le _⟩) (fun r M H locs hp w => ?_)
            obtain ⟨rfl, hM⟩ := hp
            refine lv_goto (tgt := 57) hx hb dX4_doOrders_53 (by decide) ?_
            exact J57 (mf_reasonOfOrder v_43 ) M H locs ls (by first | exact (fun h => h) | exact (fun h => absurd h (by decide))) E (lv_sub hl [0] rfl) w hM
  exact L15 71 (u2 (u2 (u2 v 0 11 (0 : Int32)) 0 12 (0 : Int32)) 0 7 (0 : Int32)) M H locs ls (by first | omega | assumption | exact ⟨T, hT, by rw [u2_r (by decide), u2_r (by decide), u2_r (by decide)]; exact hI⟩) (by first | omega | assumption | exact ⟨0, by rw [u2_s]; rfl, by omega, by omega⟩) (by first | omega | assumption | exact (by rw [u2_k (by decide), u2_k (by decide), u2_k (by decide)])) E (lv_sub hl [0] rfl) w hM
theorem takeBack_2_at (v : Nat → Nat → Int32) : ∀ (n k : Nat) (w : Nat → Nat → Int32), k ≤ 170 → 170 < k + n → ∀ j, mf_takeBack_2 v n k w 1 j = if k ≤ j ∧ j < 170 then w 3 j else w 1 j := by
  intro n
  induction n with
  | zero => intro k w h1 h2; exfalso; omega
  | succ n ih =>
    intro k w h1 h2 j
    rw [mf_takeBack_2]
    split
    · rw [if_neg (by omega)]
    · rw [ih (k + 1) _ (by omega) (by omega), u2_r (by decide)]
      by_cases e : j = k
      · subst e
        rw [if_neg (by omega), if_pos ⟨Nat.le_refl _, by omega⟩, u2_s]
      · rw [u2_k e]
        by_cases c : k + 1 ≤ j ∧ j < 170
        · rw [if_pos c, if_pos ⟨by omega, c.2⟩]
        · rw [if_neg c, if_neg (by omega)]
theorem takeBack_2_row {r : Nat} (h : r ≠ 1) (v : Nat → Nat → Int32) : ∀ (n k : Nat) (w : Nat → Nat → Int32), mf_takeBack_2 v n k w r = w r := by
  intro n
  induction n with
  | zero => intro k w; rfl
  | succ n ih =>
    intro k w
    rw [mf_takeBack_2]
    split
    · rfl
    · rw [ih, u2_r h]
theorem takeBack_at {v : Nat → Nat → Int32} {j : Nat} : mf_takeBack v 1 j = if j < 170 then v 3 j else v 1 j := by
  rw [mf_takeBack, takeBack_2_at v 180 0 v (by decide) (by decide)]
  by_cases c : j < 170
  · rw [if_pos c, if_pos ⟨by omega, c⟩]
  · rw [if_neg c, if_neg (by omega)]
theorem takeBack_row {v : Nat → Nat → Int32} {r : Nat} (h : r ≠ 1) : mf_takeBack v r = v r := by rw [mf_takeBack]; exact takeBack_2_row h v _ _ _
theorem layAside_2_at (v : Nat → Nat → Int32) : ∀ (n k : Nat) (w : Nat → Nat → Int32), k ≤ 170 → 170 < k + n → ∀ j, mf_layAside_2 v n k w 3 j = if k ≤ j ∧ j < 170 then w 1 j else w 3 j := by
  intro n
  induction n with
  | zero => intro k w h1 h2; exfalso; omega
  | succ n ih =>
    intro k w h1 h2 j
    rw [mf_layAside_2]
    split
    · rw [if_neg (by omega)]
    · rw [ih (k + 1) _ (by omega) (by omega), u2_r (by decide)]
      by_cases e : j = k
      · subst e
        rw [if_neg (by omega), if_pos ⟨Nat.le_refl _, by omega⟩, u2_s]
      · rw [u2_k e]
        by_cases c : k + 1 ≤ j ∧ j < 170
        · rw [if_pos c, if_pos ⟨by omega, c.2⟩]
        · rw [if_neg c, if_neg (by omega)]
theorem layAside_at {v : Nat → Nat → Int32} {j : Nat} (h : j < 170) : mf_layAside v 3 j = v 1 j := by
  rw [mf_layAside, layAside_2_at v 180 0 v (by decide) (by decide), if_pos ⟨by omega, h⟩]
theorem doOrders_15_f (v : Nat → Nat → Int32) : ∀ (n : Nat) (w : Nat → Nat → Int32), (∀ r, r ≠ 0 → r ≠ 1 → mf_doOrders_15 v n w r = w r) ∧ ∀ k, k < 7 → mf_doOrders_15 v n w 0 k = w 0 k := by
  intro n
  induction n with
  | zero => intro w; exact ⟨fun _ _ _ => rfl, fun _ _ => rfl⟩
  | succ n ih =>
    intro w
    obtain ⟨f1, f2, _⟩ := reads_f (u2 w 0 10 (w 0 7))
    have key : ∀ x : Int32, (∀ r, r ≠ 0 → r ≠ 1 → u2 (mf_readsOrder (u2 w 0 10 (w 0 7))).2 0 11 x r = w r) ∧ ∀ k, k < 7 → u2 (mf_readsOrder (u2 w 0 10 (w 0 7))).2 0 11 x 0 k = w 0 k := fun x =>
      ⟨fun r h0 _ => by rw [u2_r h0, f1 r h0, u2_r h0], fun k hk => by rw [u2_k (by omega), f2 k (by omega) (by omega) (by omega), u2_k (by omega)]⟩
    have k57 : ∀ b x, (∀ r, r ≠ 0 → r ≠ 1 → mf_doOrders_57 v (mf_doOrders_15 v n) w (mf_readsOrder (u2 w 0 10 (w 0 7))).2 b x r = w r) ∧ ∀ k, k < 7 → mf_doOrders_57 v (mf_doOrders_15 v n) w (mf_readsOrder (u2 w 0 10 (w 0 7))).2 b x 0 k = w 0 k := fun b x => by
      obtain ⟨g1, g2⟩ := key x
      rw [mf_doOrders_57]
      split
      · rw [mf_doOrders_c68]
        obtain ⟨i1, i2⟩ := ih (u2 (mf_does (u2 (mf_readsOrder (u2 w 0 10 (w 0 7))).2 0 11 x)) 0 12 ((mf_does (u2 (mf_readsOrder (u2 w 0 10 (w 0 7))).2 0 11 x) 0 12) + 1))
        exact ⟨fun r h0 h1 => (i1 r h0 h1).trans (by rw [u2_r h0, does_row h1]; exact g1 r h0 h1), fun k hk => (i2 k hk).trans (by rw [u2_k (by omega), does_row (by decide)]; exact g2 k hk)⟩
      · obtain ⟨i1, i2⟩ := ih (u2 (mf_readsOrder (u2 w 0 10 (w 0 7))).2 0 11 x)
        exact ⟨fun r h0 h1 => (i1 r h0 h1).trans (g1 r h0 h1), fun k hk => (i2 k hk).trans (g2 k hk)⟩
    have k84 : (∀ r, r ≠ 0 → r ≠ 1 → mf_doOrders_84 v (mf_doOrders_15 v n) w r = w r) ∧ ∀ k, k < 7 → mf_doOrders_84 v (mf_doOrders_15 v n) w 0 k = w 0 k := by
      rw [mf_doOrders_84]
      exact ⟨fun _ _ _ => rfl, fun _ _ => rfl⟩
    rw [mf_doOrders_15]
    split
    · exact k84
    · split
      · rw [mf_doOrders_c43]
        split
        · exact k57 (mf_readsOrder (u2 w 0 10 (w 0 7))).1 (mf_reasonOfOrder (mf_readsOrder (u2 w 0 10 (w 0 7))).2)
        · exact k57 (mf_readsOrder (u2 w 0 10 (w 0 7))).1 1
      · exact k84
theorem doOrders_row {v : Nat → Nat → Int32} {r : Nat} (h0 : r ≠ 0) (h1 : r ≠ 1) : mf_doOrders v r = v r := by
  rw [mf_doOrders, (doOrders_15_f v _ _).1 r h0 h1, u2_r h0, u2_r h0, u2_r h0]
theorem doOrders_0 {v : Nat → Nat → Int32} {k : Nat} (h : k < 7) : mf_doOrders v 0 k = v 0 k := by
  rw [mf_doOrders, (doOrders_15_f v _ _).2 k h, u2_k (by omega), u2_k (by omega), u2_k (by omega)]
def mf_tryOrders_c9 (v : (Nat → Nat → Int32)) (v_1 : (Nat → Nat → Int32)) (v_5 : (Nat → Nat → Int32)) (v_9 : (Nat → Nat → Int32)) : (Nat → Nat → Int32) := v_9
def mf_tryOrders_c5 (v : (Nat → Nat → Int32)) (v_1 : (Nat → Nat → Int32)) (v_5 : (Nat → Nat → Int32)) : (Nat → Nat → Int32) := (mf_tryOrders_c9 v v_1 v_5 (mf_takeBack v_5 ))
def mf_tryOrders_c1 (v : (Nat → Nat → Int32)) (v_1 : (Nat → Nat → Int32)) : (Nat → Nat → Int32) := (mf_tryOrders_c5 v v_1 (mf_doOrders v_1 ))
def mf_tryOrders (v : (Nat → Nat → Int32)) : (Nat → Nat → Int32) := (mf_tryOrders_c1 v (mf_layAside v ))
set_option maxHeartbeats 4000000 in
set_option maxRecDepth 100000 in
theorem mt_tryOrders (l : Launch) (G : mg) (A : Nat → Prop) (pp : Nat → Nat) (M0 : mh) (v : Nat → Nat → Int32)  (T np nz ng : Nat) (hI : IP T np nz ng (v 1)) (hT : T ≤ 20000) (ht : rg (v 0 6) 60) : Met l yX4_tryOrders (ws_ yX4_tryOrders cX4_tryOrders 1 (none)) ({ frames := 10, cells := 0, slots := 0, locals := 216 }) (va_Pc [.ref (pp 0)] (mU G A (fun M => Mdl G pp M0 M v))) (mQv G A (fun M => Mdl G pp M0 M (mf_tryOrders v))) 0 0 A := by
  refine mx_ofv (by decide) (Nat.le_of_ble_eq_true rfl) ?_
  intro p e R s m av below meth c M H Q ls X hRf hRl hRc hRs hin hM w fin hl
  have X : CallFix p m c cX4_tryOrders 1 s av lw_all "FieldPumpsModel" := X
  have hx := X.1
  have hb := X.2.1
  have hl : lv_has ls 1 [(0, .ref (pp 0))] := hl
  have hRf : R.frames = 10 := hRf
  have hRl : R.locals = 216 := hRl
  generalize ([] : List Loc) = locs at w ⊢
  generalize E : mf_tryOrders v = z at fin
  rw [mf_tryOrders] at E
  have hb6 := hI.b
  have hcp := hI.cp
  have hcz := hI.cz
  have hcg := hI.cg
  refine lv_aload_n hx hb dX4_tryOrders_0 rfl (lv_at hl 0 rfl) ?_
  refine mx_bv w (va_runV (As := []) (rest := []) X (mt_layAside l G A pp M0 v   ) (cwV 0 X.2.2.2.2 (lw_V q2311 q2313 qs86 q113 q2314) rfl rfl rfl (by decide +kernel) ⟨by rw [hRf]; decide, by rw [hRl]; decide⟩) (mx_preV w hM hM.2.1 rfl) rfl rfl hl.1 rfl (lv_room (Nat.le_of_ble_eq_true rfl)) dX4_tryOrders_1 ⟨Nat.zero_le _, Nat.zero_le _⟩) (fun M H locs hM w => ?_)
  rw [mf_tryOrders_c1] at E
  obtain ⟨v_1, ev_1⟩ : ∃ y, y = (mf_layAside v ) := ⟨_, rfl⟩
  rw [← ev_1] at E hM
  refine lv_aload_n hx hb dX4_tryOrders_4 rfl (lv_at hl 0 rfl) ?_
  refine mx_bv w (va_runV (As := []) (rest := []) X (mt_doOrders l G A pp M0 v_1  T np nz ng (by rw [ev_1, layAside_r (by decide)]; exact hI) (hT) (by rw [ev_1, layAside_r (by decide)]; exact ht)) (cwV 0 X.2.2.2.2 (lw_V q2369 q2371 qs90 q113 q2372) rfl rfl rfl (by decide +kernel) ⟨by rw [hRf]; decide, by rw [hRl]; decide⟩) (mx_preV w hM hM.2.1 rfl) rfl rfl hl.1 rfl (lv_room (Nat.le_of_ble_eq_true rfl)) dX4_tryOrders_5 ⟨Nat.zero_le _, Nat.zero_le _⟩) (fun M H locs hM w => ?_)
  rw [mf_tryOrders_c5] at E
  obtain ⟨v_5, ev_5⟩ : ∃ y, y = (mf_doOrders v_1 ) := ⟨_, rfl⟩
  rw [← ev_5] at E hM
  refine lv_aload_n hx hb dX4_tryOrders_8 rfl (lv_at hl 0 rfl) ?_
  refine mx_bv w (va_runV (As := []) (rest := []) X (mt_takeBack l G A pp M0 v_5   ) (cwV 0 X.2.2.2.2 (lw_V q2315 q2317 qs87 q113 q2318) rfl rfl rfl (by decide +kernel) ⟨by rw [hRf]; decide, by rw [hRl]; decide⟩) (mx_preV w hM hM.2.1 rfl) rfl rfl hl.1 rfl (lv_room (Nat.le_of_ble_eq_true rfl)) dX4_tryOrders_9 ⟨Nat.zero_le _, Nat.zero_le _⟩) (fun M H locs hM w => ?_)
  rw [mf_tryOrders_c9] at E
  obtain ⟨v_9, ev_9⟩ : ∃ y, y = (mf_takeBack v_5 ) := ⟨_, rfl⟩
  rw [← ev_9] at E hM
  exact fin M H locs ls 12 dX4_tryOrders_12 (by rw [← E]; exact hM) w
theorem tryOrders_1 {v : Nat → Nat → Int32} {j : Nat} (h : j < 170) : mf_tryOrders v 1 j = v 1 j := by
  rw [mf_tryOrders, mf_tryOrders_c1, mf_tryOrders_c5, mf_tryOrders_c9, takeBack_at, if_pos h, doOrders_row (by decide) (by decide), layAside_at h]
theorem tryOrders_0 {v : Nat → Nat → Int32} {k : Nat} (h : k < 7) : mf_tryOrders v 0 k = v 0 k := by
  rw [mf_tryOrders, mf_tryOrders_c1, mf_tryOrders_c5, mf_tryOrders_c9, takeBack_row (by decide), doOrders_0 h, layAside_r (by decide)]
theorem IP_tryOrders {T np nz ng : Nat} {v : Nat → Nat → Int32} (h : IP T np nz ng (v 1)) : IP T np nz ng (mf_tryOrders v 1) := h.at fun j => by
  by_cases c : j < 170
  · exact Or.inl (tryOrders_1 c)
  · exact Or.inr (okc_free h.b (by omega))
def mf_fault_44 (v : (Nat → Nat → Int32)) (what : Int32) (v_14 : (Nat → Nat → Int32)) (is0_44 : Int32) : (Int32 × (Nat → Nat → Int32)) := (is0_44, v_14)
def mf_fault_c14 (v : (Nat → Nat → Int32)) (what : Int32) (v_14 : (Nat → Nat → Int32)) : (Int32 × (Nat → Nat → Int32)) := (if (v_14 0 11) = 0 then (mf_fault_44 v what v_14 (-1000004 : Int32)) else (if what = 0 then (mf_fault_44 v what v_14 (v_14 0 10)) else (mf_fault_44 v what v_14 (v_14 0 11))))
def mf_fault (v : (Nat → Nat → Int32)) (what : Int32) : Int32 × (Nat → Nat → Int32) := (if (mf_in what.toInt64 (0 : Int64) (1 : Int64)) = true then (mf_fault_c14 v what (mf_tryOrders v )) else ((-1000001 : Int32), v))
set_option maxHeartbeats 4000000 in
set_option maxRecDepth 100000 in
theorem mt_fault (l : Launch) (G : mg) (A : Nat → Prop) (pp : Nat → Nat) (M0 : mh) (v : Nat → Nat → Int32) (what : Int32) (T np nz ng : Nat) (hI : IP T np nz ng (v 1)) (hT : T ≤ 20000) (ht : rg (v 0 6) 60) : Met l yX4_fault (ws_ yX4_fault cX4_fault 2 (some .int)) ({ frames := 11, cells := 0, slots := 0, locals := 236 }) (va_Pc [.ref (pp 0), .int what] (mU G A (fun M => Mdl G pp M0 M v))) (mQi G A (fun r M => r = (mf_fault v what).1 ∧ Mdl G pp M0 M (mf_fault v what).2)) 0 0 A := by
  refine mx_ofi (by decide) (Nat.le_of_ble_eq_true rfl) ?_
  intro p e R s m av below meth c M H Q ls X hRf hRl hRc hRs hin hM w fin hl
  have X : CallFix p m c cX4_fault 2 s av lw_all "FieldPumpsModel" := X
  have hx := X.1
  have hb := X.2.1
  have hl : lv_has ls 2 [(0, .ref (pp 0)), (1, .int what)] := hl
  have hRf : R.frames = 11 := hRf
  have hRl : R.locals = 236 := hRl
  generalize ([] : List Loc) = locs at w ⊢
  generalize E : mf_fault v what = z at fin
  rw [mf_fault] at E
  have hb6 := hI.b
  have hcp := hI.cp
  have hcz := hI.cz
  have hcg := hI.cg
  refine lv_iload_n hx hb dX4_fault_0 rfl (lv_at hl 1 rfl) ?_
  refine lv_i2l hx hb dX4_fault_1 rfl ?_
  refine lv_lconst (v := (0 : Int64)) hx hb dX4_fault_2 (by decide) ?_
  refine lv_lconst (v := (1 : Int64)) hx hb dX4_fault_3 (by decide) ?_
  refine mx_bi w (va_runS (As := [.long what.toInt64, .long (0 : Int64), .long (1 : Int64)]) (rest := []) X (mt_in l G A M what.toInt64 (0 : Int64) (1 : Int64)  ) (va_cwS 3 X.2.2.2.2 (lw_S q2060 q2061 q113 q2062) rfl rfl rfl (by decide +kernel) ⟨by rw [hRf]; decide, by rw [hRl]; decide⟩) (mx_preS w rfl) rfl rfl hl.1 rfl (lv_room (Nat.le_of_ble_eq_true rfl)) dX4_fault_4 ⟨Nat.zero_le _, Nat.zero_le _⟩) (fun r M H locs hp w => ?_)
  obtain ⟨rfl, hp2⟩ := hp; rw [← hp2] at hM; clear hp2
  refine mx_bne (tgt := 13) hx hb dX4_fault_7 (by decide) (fun c_7 => ?_) (fun c_7 => ?_)
  · rw [if_pos c_7] at E
    refine lv_aload_n hx hb dX4_fault_13 rfl (lv_at hl 0 rfl) ?_
    refine mx_bv w (va_runV (As := []) (rest := []) X (mt_tryOrders l G A pp M0 v  T np nz ng (by first | omega | assumption) (by first | omega | assumption) (by first | omega | assumption)) (cwV 0 X.2.2.2.2 (lw_V q2365 q2367 qs89 q113 q2368) rfl rfl rfl (by decide +kernel) ⟨by rw [hRf]; decide, by rw [hRl]; decide⟩) (mx_preV w hM hM.2.1 rfl) rfl rfl hl.1 rfl (lv_room (Nat.le_of_ble_eq_true rfl)) dX4_fault_14 ⟨Nat.zero_le _, Nat.zero_le _⟩) (fun M H locs hM w => ?_)
    rw [mf_fault_c14] at E
    obtain ⟨v_14, ev_14⟩ : ∃ y, y = (mf_tryOrders v ) := ⟨_, rfl⟩
    rw [← ev_14] at E hM
    refine lv_aload_n hx hb dX4_fault_17 rfl (lv_at hl 0 rfl) ?_
    refine mx_get (v := .int (v_14 0 11)) X w in_X4 (ci := 3) rfl 11 (by decide) q2022 (fun _ h => h) hM.2.1 rfl dX4_fault_18 ?_
    have J44 : ∀ (is0_44 : Int32) (M : mh) (H : Heap) (locs : List Loc) (ls : Array Slot), mf_fault_44 v what v_14 is0_44 = z → lv_has ls 2 [] → mW G A s M H locs → Mdl G pp M0 M v_14 → W p l e R s m av below meth c H locs 0 0 Q (F0 m 44 ls [.int is0_44]) := by
      intro is0_44 M H locs ls  E hl w hM
      rw [mf_fault_44] at E
      exact fin is0_44 M H locs ls 44 dX4_fault_44 ⟨by rw [← E], by rw [← E]; exact hM⟩ w
    refine lv_if_ne (tgt := 29) hx hb dX4_fault_21 (by decide) (fun c_21 => ?_) (fun c_21 => ?_)
    · rw [if_neg c_21] at E
      refine lv_iload_n hx hb dX4_fault_29 rfl (lv_at hl 1 rfl) ?_
      refine lv_if_ne (tgt := 40) hx hb dX4_fault_30 (by decide) (fun c_30 => ?_) (fun c_30 => ?_)
      · rw [if_neg c_30] at E
        refine lv_aload_n hx hb dX4_fault_40 rfl (lv_at hl 0 rfl) ?_
        refine mx_get (v := .int (v_14 0 11)) X w in_X4 (ci := 3) rfl 11 (by decide) q2022 (fun _ h => h) hM.2.1 rfl dX4_fault_41 ?_
        exact J44 (v_14 0 11) M H locs ls E (lv_sub hl [] rfl) w hM
      · rw [if_pos c_30] at E
        refine lv_aload_n hx hb dX4_fault_33 rfl (lv_at hl 0 rfl) ?_
        refine mx_get (v := .int (v_14 0 10)) X w in_X4 (ci := 3) rfl 10 (by decide) q2021 (fun _ h => h) hM.2.1 rfl dX4_fault_34 ?_
        refine lv_goto (tgt := 44) hx hb dX4_fault_37 (by decide) ?_
        exact J44 (v_14 0 10) M H locs ls E (lv_sub hl [] rfl) w hM
    · rw [if_pos c_21] at E
      refine lv_ldc (v := (-1000004 : Int32)) hx hb X.2.2.2.1 (X.2.2.2.2 _ q2163) dX4_fault_24 ?_
      refine lv_goto (tgt := 44) hx hb dX4_fault_26 (by decide) ?_
      exact J44 (-1000004 : Int32) M H locs ls E (lv_sub hl [] rfl) w hM
  · rw [if_neg c_7] at E
    refine lv_ldc (v := (-1000001 : Int32)) hx hb X.2.2.2.1 (X.2.2.2.2 _ q2073) dX4_fault_10 ?_
    exact fin (-1000001 : Int32) M H locs ls 12 dX4_fault_12 ⟨by rw [← E], by rw [← E]; exact hM⟩ w
def mf_play_c19 (v : (Nat → Nat → Int32)) (v_1 : (Nat → Nat → Int32)) (v_15 : (Nat → Nat → Int32)) (v_19 : (Nat → Nat → Int32)) : (Int32 × (Nat → Nat → Int32)) := ((v_19 0 12), v_19)
def mf_play_c15 (v : (Nat → Nat → Int32)) (v_1 : (Nat → Nat → Int32)) (v_15 : (Nat → Nat → Int32)) : (Int32 × (Nat → Nat → Int32)) := (mf_play_c19 v v_1 v_15 (mf_doOrders v_15 ))
def mf_play_c1 (v : (Nat → Nat → Int32)) (v_1 : (Nat → Nat → Int32)) : (Int32 × (Nat → Nat → Int32)) := (if (v_1 0 11) = 0 then (mf_play_c15 v v_1 (mf_save v_1 )) else ((-1000002 : Int32), v_1))
def mf_play (v : (Nat → Nat → Int32)) : Int32 × (Nat → Nat → Int32) := (mf_play_c1 v (mf_tryOrders v ))
set_option maxHeartbeats 4000000 in
set_option maxRecDepth 100000 in
theorem mt_play (l : Launch) (G : mg) (A : Nat → Prop) (pp : Nat → Nat) (M0 : mh) (v : Nat → Nat → Int32)  (T np nz ng : Nat) (hI : IP T np nz ng (v 1)) (hs : rg (v 0 2) 4) (hT : T ≤ 20000) (ht : rg (v 0 6) 60) : Met l yX4_play (ws_ yX4_play cX4_play 1 (some .int)) ({ frames := 11, cells := 0, slots := 0, locals := 236 }) (va_Pc [.ref (pp 0)] (mU G A (fun M => Mdl G pp M0 M v))) (mQi G A (fun r M => r = (mf_play v).1 ∧ Mdl G pp M0 M (mf_play v).2)) 0 0 A := by
  refine mx_ofi (by decide) (Nat.le_of_ble_eq_true rfl) ?_
  intro p e R s m av below meth c M H Q ls X hRf hRl hRc hRs hin hM w fin hl
  have X : CallFix p m c cX4_play 1 s av lw_all "FieldPumpsModel" := X
  have hx := X.1
  have hb := X.2.1
  have hl : lv_has ls 1 [(0, .ref (pp 0))] := hl
  have hRf : R.frames = 11 := hRf
  have hRl : R.locals = 236 := hRl
  generalize ([] : List Loc) = locs at w ⊢
  generalize E : mf_play v = z at fin
  rw [mf_play] at E
  have hb6 := hI.b
  have hcp := hI.cp
  have hcz := hI.cz
  have hcg := hI.cg
  refine lv_aload_n hx hb dX4_play_0 rfl (lv_at hl 0 rfl) ?_
  refine mx_bv w (va_runV (As := []) (rest := []) X (mt_tryOrders l G A pp M0 v  T np nz ng (by first | omega | assumption) (by first | omega | assumption) (by first | omega | assumption)) (cwV 0 X.2.2.2.2 (lw_V q2365 q2367 qs89 q113 q2368) rfl rfl rfl (by decide +kernel) ⟨by rw [hRf]; decide, by rw [hRl]; decide⟩) (mx_preV w hM hM.2.1 rfl) rfl rfl hl.1 rfl (lv_room (Nat.le_of_ble_eq_true rfl)) dX4_play_1 ⟨Nat.zero_le _, Nat.zero_le _⟩) (fun M H locs hM w => ?_)
  rw [mf_play_c1] at E
  obtain ⟨v_1, ev_1⟩ : ∃ y, y = (mf_tryOrders v ) := ⟨_, rfl⟩
  rw [← ev_1] at E hM
  refine lv_aload_n hx hb dX4_play_4 rfl (lv_at hl 0 rfl) ?_
  refine mx_get (v := .int (v_1 0 11)) X w in_X4 (ci := 3) rfl 11 (by decide) q2022 (fun _ h => h) hM.2.1 rfl dX4_play_5 ?_
  refine lv_if_eq (tgt := 14) hx hb dX4_play_8 (by decide) (fun c_8 => ?_) (fun c_8 => ?_)
  · rw [if_pos c_8] at E
    refine lv_aload_n hx hb dX4_play_14 rfl (lv_at hl 0 rfl) ?_
    refine mx_bv w (va_runV (As := []) (rest := []) X (mt_save l G A pp M0 v_1   (by rw [ev_1, tryOrders_0 (by decide)]; exact hs)) (cwV 0 X.2.2.2.2 (lw_V q2074 q2076 qs46 q113 q2077) rfl rfl rfl (by decide +kernel) ⟨by rw [hRf]; decide, by rw [hRl]; decide⟩) (mx_preV w hM hM.2.1 rfl) rfl rfl hl.1 rfl (lv_room (Nat.le_of_ble_eq_true rfl)) dX4_play_15 ⟨Nat.zero_le _, Nat.zero_le _⟩) (fun M H locs hM w => ?_)
    rw [mf_play_c15] at E
    obtain ⟨v_15, ev_15⟩ : ∃ y, y = (mf_save v_1 ) := ⟨_, rfl⟩
    rw [← ev_15] at E hM
    refine lv_aload_n hx hb dX4_play_18 rfl (lv_at hl 0 rfl) ?_
    refine mx_bv w (va_runV (As := []) (rest := []) X (mt_doOrders l G A pp M0 v_15  T np nz ng (by rw [ev_15, save_1, ev_1]; exact IP_tryOrders hI) (hT) (by rw [ev_15, save_0 (by decide), ev_1, tryOrders_0 (by decide)]; exact ht)) (cwV 0 X.2.2.2.2 (lw_V q2369 q2371 qs90 q113 q2372) rfl rfl rfl (by decide +kernel) ⟨by rw [hRf]; decide, by rw [hRl]; decide⟩) (mx_preV w hM hM.2.1 rfl) rfl rfl hl.1 rfl (lv_room (Nat.le_of_ble_eq_true rfl)) dX4_play_19 ⟨Nat.zero_le _, Nat.zero_le _⟩) (fun M H locs hM w => ?_)
    rw [mf_play_c19] at E
    obtain ⟨v_19, ev_19⟩ : ∃ y, y = (mf_doOrders v_15 ) := ⟨_, rfl⟩
    rw [← ev_19] at E hM
    refine lv_aload_n hx hb dX4_play_22 rfl (lv_at hl 0 rfl) ?_
    refine mx_get (v := .int (v_19 0 12)) X w in_X4 (ci := 3) rfl 12 (by decide) q2023 (fun _ h => h) hM.2.1 rfl dX4_play_23 ?_
    exact fin (v_19 0 12) M H locs ls 26 dX4_play_26 ⟨by rw [← E], by rw [← E]; exact hM⟩ w
  · rw [if_neg c_8] at E
    refine lv_ldc (v := (-1000002 : Int32)) hx hb X.2.2.2.1 (X.2.2.2.2 _ q2105) dX4_play_11 ?_
    exact fin (-1000002 : Int32) M H locs ls 13 dX4_play_13 ⟨by rw [← E], by rw [← E]; exact hM⟩ w
