set_option maxRecDepth 100000
def mf_init_57 (v : (Nat → Nat → Int32)) : Nat → Nat → (Nat → Nat → Int32) → (Nat → Nat → Int32)
  | 0, _, v_57 => v_57
  | n_57 + 1, n1_57, v_57 => (if 19 ≤ n1_57 then v_57 else ( (mf_init_57 v n_57) (n1_57 + 1) (u2 v_57 1 (20 + n1_57) (mf_firstOf (nI n1_57)))))
def mf_init (v : (Nat → Nat → Int32)) : (Nat → Nat → Int32) := (mf_init_57 v 20 0 (u2 (u2 v 1 2 (10000 : Int32)) 1 4 (-1 : Int32)))
set_option maxHeartbeats 4000000 in
set_option maxRecDepth 100000 in
theorem mt_init (l : Launch) (G : mg) (A : Nat → Prop) (h0 : Nat) (M1 : mh) (h00 : M1 h0 = some (.inr (3, mdZ))) : Met l yX4_init (ws_ yX4_init cX4_init 2 none) ({ frames := 1, cells := 4, slots := 1080, locals := 20 }) (va_Pc [.ref h0] (mU G A (fun M => M = M1))) (mQv G A (fun M => ∃ pp : Nat → Nat, pp 0 = h0 ∧ Mdl G pp M M (mf_init (fun _ _ => 0)) ∧ (∀ q, M1 q ≠ none → q ≠ h0 → M q = M1 q) ∧ ∀ i, 1 ≤ i → i < 5 → M1 (pp i) = none)) 4 1080 A := by
  refine mx_ofv (by decide) (Nat.le_of_ble_eq_true rfl) ?_
  intro p e R s m av below meth c M H Q ls X hRf hRl hRc hRs hin hM w fin hl
  subst hM
  have X : CallFix p m c cX4_init 2 s av lw_all "FieldPumpsModel" := X
  have hx := X.1
  have hb := X.2.1
  have hin : meth.name = "<init>" := hin
  have hl : lv_has ls 2 [(0, .ref h0)] := hl
  have hRf : R.frames = 1 := hRf
  have hRl : R.locals = 20 := hRl
  have hRc : R.cells = 4 := hRc
  have hRs : R.slots = 1080 := hRs
  refine lv_aload_n hx hb dX4_init_0 rfl (lv_at hl 0 rfl) ?_
  refine W.objInit hx hb X.2.2.2.1 (X.2.2.2.2 _ q2007) (X.2.2.2.2 _ q144) (X.2.2.2.2 _ q145) rfl (by rw [X.2.2.1]; exact hl.1) rfl dX4_init_1 (by rw [hRf]; decide) (by rw [hRl]; exact Nat.le_of_ble_eq_true rfl) ?_
  refine W.eq (g2 := F0 m 4 ls []) rfl ?_
  refine lv_aload_n hx hb dX4_init_4 rfl (lv_at hl 0 rfl) ?_
  refine lv_sipush (v := (170 : Int32)) hx hb dX4_init_5 (by decide) ?_
  refine mx_newI X w q184 170 rfl (by decide) (by rw [hRc]; decide) (by rw [hRs]; decide) dX4_init_8 (fun a1 H n1 w => ?_)
  have z1 : a1 ≠ h0 := fun e => by rw [e] at n1;  rw [h00] at n1; cases n1
  have o1 : M a1 = none := by exact n1
  refine mx_putF X w in_X4 tyX4 tyX4_ok nmX4 (ci := 3) rfl 0 (by decide) q2011 (fun _ h => h) rfl hin rfl (fs := mdZ) (v := .ref a1) rfl rfl (by rw [va_up_k (Ne.symm z1)]; exact h00) (show 0 < 13 by decide) dX4_init_10 (fun H locs w => ?_)
  refine lv_aload_n hx hb dX4_init_13 rfl (lv_at hl 0 rfl) ?_
  refine lv_sipush (v := (680 : Int32)) hx hb dX4_init_14 (by decide) ?_
  refine mx_newI X w q184 680 rfl (by decide) (by rw [hRc]; decide) (by rw [hRs]; decide) dX4_init_17 (fun a2 H n2 w => ?_)
  have z2 : a2 ≠ h0 := fun e => by rw [e] at n2; rw [va_up_s] at n2; cases n2
  have y21 : a2 ≠ a1 := fun e => by rw [e] at n2; rw [va_up_k z1] at n2;  rw [va_up_s] at n2; cases n2
  have o2 : M a2 = none := by rw [va_up_k z2, va_up_k y21] at n2; exact n2
  refine mx_putF X w in_X4 tyX4 tyX4_ok nmX4 (ci := 3) rfl 1 (by decide) q2012 (fun _ h => h) rfl hin rfl (fs := (mdZ.set 0 (.ref a1))) (v := .ref a2) rfl rfl (by rw [va_up_k (Ne.symm z2), va_up_s]) (show 1 < 13 by decide) dX4_init_19 (fun H locs w => ?_)
  refine lv_aload_n hx hb dX4_init_22 rfl (lv_at hl 0 rfl) ?_
  refine lv_sipush (v := (170 : Int32)) hx hb dX4_init_23 (by decide) ?_
  refine mx_newI X w q184 170 rfl (by decide) (by rw [hRc]; decide) (by rw [hRs]; decide) dX4_init_26 (fun a3 H n3 w => ?_)
  have z3 : a3 ≠ h0 := fun e => by rw [e] at n3; rw [va_up_s] at n3; cases n3
  have y31 : a3 ≠ a1 := fun e => by rw [e] at n3; rw [va_up_k z1] at n3; rw [va_up_k (Ne.symm y21), va_up_k z1] at n3; rw [va_up_s] at n3; cases n3
  have y32 : a3 ≠ a2 := fun e => by rw [e] at n3; rw [va_up_k z2] at n3;  rw [va_up_s] at n3; cases n3
  have o3 : M a3 = none := by rw [va_up_k z3, va_up_k y32, va_up_k z3, va_up_k y31] at n3; exact n3
  refine mx_putF X w in_X4 tyX4 tyX4_ok nmX4 (ci := 3) rfl 3 (by decide) q2014 (fun _ h => h) rfl hin rfl (fs := ((mdZ.set 0 (.ref a1)).set 1 (.ref a2))) (v := .ref a3) rfl rfl (by rw [va_up_k (Ne.symm z3), va_up_s]) (show 3 < 13 by decide) dX4_init_28 (fun H locs w => ?_)
  refine lv_aload_n hx hb dX4_init_31 rfl (lv_at hl 0 rfl) ?_
  refine lv_bipush (v := (60 : Int32)) hx hb dX4_init_32 (by decide) ?_
  refine mx_newI X w q184 60 rfl (by decide) (by rw [hRc]; decide) (by rw [hRs]; decide) dX4_init_34 (fun a4 H n4 w => ?_)
  have z4 : a4 ≠ h0 := fun e => by rw [e] at n4; rw [va_up_s] at n4; cases n4
  have y41 : a4 ≠ a1 := fun e => by rw [e] at n4; rw [va_up_k z1] at n4; rw [va_up_k (Ne.symm y31), va_up_k z1] at n4; rw [va_up_k (Ne.symm y21), va_up_k z1] at n4; rw [va_up_s] at n4; cases n4
  have y42 : a4 ≠ a2 := fun e => by rw [e] at n4; rw [va_up_k z2] at n4; rw [va_up_k (Ne.symm y32), va_up_k z2] at n4; rw [va_up_s] at n4; cases n4
  have y43 : a4 ≠ a3 := fun e => by rw [e] at n4; rw [va_up_k z3] at n4;  rw [va_up_s] at n4; cases n4
  have o4 : M a4 = none := by rw [va_up_k z4, va_up_k y43, va_up_k z4, va_up_k y42, va_up_k z4, va_up_k y41] at n4; exact n4
  refine mx_putF X w in_X4 tyX4 tyX4_ok nmX4 (ci := 3) rfl 5 (by decide) q2016 (fun _ h => h) rfl hin rfl (fs := (((mdZ.set 0 (.ref a1)).set 1 (.ref a2)).set 3 (.ref a3))) (v := .ref a4) rfl rfl (by rw [va_up_k (Ne.symm z4), va_up_s]) (show 5 < 13 by decide) dX4_init_36 (fun H locs w => ?_)
  obtain ⟨pp, hpp⟩ : ∃ pp : Nat → Nat, pp = fun i => match i with | 0 => h0 | 1 => a1 | 2 => a2 | 3 => a3 | _ => a4 := ⟨_, rfl⟩
  have p0 : h0 = pp 0 := (congrFun hpp 0).symm
  have p1 : a1 = pp 1 := (congrFun hpp 1).symm
  have p2 : a2 = pp 2 := (congrFun hpp 2).symm
  have p3 : a3 = pp 3 := (congrFun hpp 3).symm
  have p4 : a4 = pp 4 := (congrFun hpp 4).symm
  obtain ⟨v, hv⟩ : ∃ v : Nat → Nat → Int32, v = fun _ _ => 0 := ⟨_, rfl⟩
  obtain ⟨M9, hM9⟩ : ∃ M9 : mh, M9 = (va_up (va_up (va_up (va_up (va_up (va_up (va_up (va_up M a1 (some (.inl (G.1.1 100, 170, .inl (fun _ => 0))))) h0 (some (.inr (3, (mdZ.set 0 (.ref a1)))))) a2 (some (.inl (G.1.1 100, 680, .inl (fun _ => 0))))) h0 (some (.inr (3, ((mdZ.set 0 (.ref a1)).set 1 (.ref a2)))))) a3 (some (.inl (G.1.1 100, 170, .inl (fun _ => 0))))) h0 (some (.inr (3, (((mdZ.set 0 (.ref a1)).set 1 (.ref a2)).set 3 (.ref a3)))))) a4 (some (.inl (G.1.1 100, 60, .inl (fun _ => 0))))) h0 (some (.inr (3, ((((mdZ.set 0 (.ref a1)).set 1 (.ref a2)).set 3 (.ref a3)).set 5 (.ref a4)))))) := ⟨_, rfl⟩
  rw [← hM9] at w
  have g0 : M9 h0 = some (.inr (3, mdF pp v)) := by rw [hM9, va_up_s, hpp, hv]; rfl
  have g1 : M9 a1 = some (.inl (G.1.1 100, 170, .inl (fun _ => 0))) := by rw [hM9, va_up_k z1, va_up_k (Ne.symm y41), va_up_k z1, va_up_k (Ne.symm y31), va_up_k z1, va_up_k (Ne.symm y21), va_up_k z1, va_up_s]
  have g2 : M9 a2 = some (.inl (G.1.1 100, 680, .inl (fun _ => 0))) := by rw [hM9, va_up_k z2, va_up_k (Ne.symm y42), va_up_k z2, va_up_k (Ne.symm y32), va_up_k z2, va_up_s]
  have g3 : M9 a3 = some (.inl (G.1.1 100, 170, .inl (fun _ => 0))) := by rw [hM9, va_up_k z3, va_up_k (Ne.symm y43), va_up_k z3, va_up_s]
  have g4 : M9 a4 = some (.inl (G.1.1 100, 60, .inl (fun _ => 0))) := by rw [hM9, va_up_k z4, va_up_s]
  have gk : ∀ q, M q ≠ none → q ≠ h0 → M9 q = M q := fun q h1 h2 => by
    have b1 : q ≠ a1 := fun e => h1 (by rw [e]; exact o1)
    have b2 : q ≠ a2 := fun e => h1 (by rw [e]; exact o2)
    have b3 : q ≠ a3 := fun e => h1 (by rw [e]; exact o3)
    have b4 : q ≠ a4 := fun e => h1 (by rw [e]; exact o4)
    rw [hM9, va_up_k h2, va_up_k b4, va_up_k h2, va_up_k b3, va_up_k h2, va_up_k b2, va_up_k h2, va_up_k b1]
  have hM : Mdl G pp M9 M9 v := by
    refine ⟨fun i j hi hj hij => ?_, by rw [← p0]; exact g0, fun r r1 r5 => ?_, fun _ _ => rfl⟩
    · rw [hpp] at hij
      rcases (show i = 0 ∨ i = 1 ∨ i = 2 ∨ i = 3 ∨ i = 4 by omega) with rfl | rfl | rfl | rfl | rfl <;> rcases (show j = 0 ∨ j = 1 ∨ j = 2 ∨ j = 3 ∨ j = 4 by omega) with rfl | rfl | rfl | rfl | rfl <;> first | rfl | exact absurd hij z1 | exact absurd hij z2 | exact absurd hij z3 | exact absurd hij z4 | exact absurd hij.symm z1 | exact absurd hij.symm z2 | exact absurd hij.symm z3 | exact absurd hij.symm z4 | exact absurd hij y21 | exact absurd hij.symm y21 | exact absurd hij y31 | exact absurd hij.symm y31 | exact absurd hij y32 | exact absurd hij.symm y32 | exact absurd hij y41 | exact absurd hij.symm y41 | exact absurd hij y42 | exact absurd hij.symm y42 | exact absurd hij y43 | exact absurd hij.symm y43
    · rcases (show r = 1 ∨ r = 2 ∨ r = 3 ∨ r = 4 by omega) with rfl | rfl | rfl | rfl
      · exact ⟨fun _ => 0, by rw [← p1]; exact g1, fun _ _ => by rw [hv]⟩
      · exact ⟨fun _ => 0, by rw [← p2]; exact g2, fun _ _ => by rw [hv]⟩
      · exact ⟨fun _ => 0, by rw [← p3]; exact g3, fun _ _ => by rw [hv]⟩
      · exact ⟨fun _ => 0, by rw [← p4]; exact g4, fun _ _ => by rw [hv]⟩
  have fin : ∀ (M : mh) (H : Heap) (locs : List Loc) (ls : Array Slot) (pc : Nat), decode cX4_init pc = .ok (.return_, 1) → Mdl G pp M9 M (mf_init v) → mW G A s M H locs → W p l e R s m av below meth c H locs 4 1080 Q (F0 m pc ls []) := fun M8 H locs ls pc hd hm w => fin M8 H locs ls pc hd ⟨pp, p0.symm, ?_, ?_, fun i i1 i5 => ?_⟩ w
  rotate_left
  · rw [hv] at hm
    exact ⟨hm.1, hm.2.1, hm.2.2.1, fun _ _ => rfl⟩
  · intro q h1 h2
    rw [hm.2.2.2 q (fun i hi e => ?_), gk q h1 h2]
    rcases (show i = 0 ∨ i = 1 ∨ i = 2 ∨ i = 3 ∨ i = 4 by omega) with rfl | rfl | rfl | rfl | rfl
    · exact h2 (by rw [e, p0])
    · exact h1 (by rw [e, ← p1]; exact o1)
    · exact h1 (by rw [e, ← p2]; exact o2)
    · exact h1 (by rw [e, ← p3]; exact o3)
    · exact h1 (by rw [e, ← p4]; exact o4)
  · rcases (show i = 1 ∨ i = 2 ∨ i = 3 ∨ i = 4 by omega) with rfl | rfl | rfl | rfl
    · rw [← p1]; exact o1
    · rw [← p2]; exact o2
    · rw [← p3]; exact o3
    · rw [← p4]; exact o4
  have hl : lv_has ls 2 [(0, .ref (pp 0))] := by rw [← p0]; exact hl
  generalize E : mf_init v = z at fin
  rw [mf_init] at E
  refine lv_aload_n hx hb dX4_init_39 rfl (lv_at hl 0 rfl) ?_
  refine mx_get (v := .ref (pp 1)) X w in_X4 (ci := 3) rfl 0 (by decide) q2011 (fun _ h => h) hM.2.1 rfl dX4_init_40 ?_
  refine lv_iconst (v := (2 : Int32)) hx hb dX4_init_43 (by decide) ?_
  refine lv_sipush (v := (10000 : Int32)) hx hb dX4_init_44 (by decide) ?_
  refine md_ast (x := (10000 : Int32)) X w hM 1 (by decide) (by decide) 2 rfl (show 2 < 170 by decide) dX4_init_47 (fun M H locs w hM => ?_)
  refine lv_aload_n hx hb dX4_init_48 rfl (lv_at hl 0 rfl) ?_
  refine mx_get (v := .ref (pp 1)) X w in_X4 (ci := 3) rfl 0 (by decide) q2011 (fun _ h => h) hM.2.1 rfl dX4_init_49 ?_
  refine lv_iconst (v := (4 : Int32)) hx hb dX4_init_52 (by decide) ?_
  refine lv_iconst (v := (-1 : Int32)) hx hb dX4_init_53 (by decide) ?_
  refine md_ast (x := (-1 : Int32)) X w hM 1 (by decide) (by decide) 4 rfl (show 4 < 170 by decide) dX4_init_54 (fun M H locs w hM => ?_)
  refine lv_iconst (v := (0 : Int32)) hx hb dX4_init_55 (by decide) ?_
  refine lv_istore_n (lv' := [(1, .int (0 : Int32)), (0, .ref (pp 0))]) hx hb dX4_init_56 rfl hl (by decide) rfl (fun ls hl => ?_)
  have L57 : ∀ (n_57 : Nat) (n1_57 : Nat) (v_57 : (Nat → Nat → Int32)) (M : mh) (H : Heap) (locs : List Loc) (ls : Array Slot), (hi : n1_57 ≤ 19) → (hm : 19 < n1_57 + n_57) → mf_init_57 v n_57 n1_57 v_57 = z → lv_has ls 2 [(0, .ref (pp 0)), (1, .int (nI n1_57))] → mW G A s M H locs → Mdl G pp M9 M v_57 → W p l e R s m av below meth c H locs 4 1080 Q (F0 m 57 ls []) := by
    intro n_57
    induction n_57 with
    | zero =>
      intro n1_57 v_57 M H locs ls hi hm E hl w hM
      exfalso; omega
    | succ n_57 ih_57 =>
      intro n1_57 v_57 M H locs ls hi hm E hl w hM
      rw [mf_init_57] at E
      refine lv_iload_n hx hb dX4_init_57 rfl (lv_at hl 1 rfl) ?_
      refine lv_bipush (v := (19 : Int32)) hx hb dX4_init_58 (by decide) ?_
      refine mx_nge (u := n1_57) (v := 19) (tgt := 82) hx hb rfl rfl (by omega) (by omega) dX4_init_60 (by decide) (fun c_60 => ?_) (fun c_60 => ?_)
      · rw [if_pos c_60] at E
        exact fin M H locs ls 82 dX4_init_82 (by rw [← E]; exact hM) w
      · rw [if_neg c_60] at E
        refine lv_aload_n hx hb dX4_init_63 rfl (lv_at hl 0 rfl) ?_
        refine mx_get (v := .ref (pp 1)) X w in_X4 (ci := 3) rfl 0 (by decide) q2011 (fun _ h => h) hM.2.1 rfl dX4_init_64 ?_
        refine lv_bipush (v := (20 : Int32)) hx hb dX4_init_67 (by decide) ?_
        refine lv_iload_n hx hb dX4_init_69 rfl (lv_at hl 1 rfl) ?_
        refine mx_nadd (u := 20) (v := n1_57) hx hb rfl rfl dX4_init_70 ?_
        refine lv_iload_n hx hb dX4_init_71 rfl (lv_at hl 1 rfl) ?_
        refine mx_bi w (va_runS (As := [.int (nI n1_57)]) (rest := [.int (nI (20 + n1_57)), .ref (pp 1)]) X (mt_firstOf l G A M (nI n1_57)  ) (va_cwS 1 X.2.2.2.2 (lw_S q2008 q2009 q113 q2010) rfl rfl rfl (by decide +kernel) ⟨by rw [hRf]; decide, by rw [hRl]; decide⟩) (mx_preS w rfl) rfl rfl hl.1 rfl (lv_room (Nat.le_of_ble_eq_true rfl)) dX4_init_72 ⟨by rw [hRc]; decide, by rw [hRs]; decide⟩) (fun r M H locs hp w => ?_)
        obtain ⟨rfl, hp2⟩ := hp; rw [← hp2] at hM; clear hp2
        refine md_ast (x := (mf_firstOf (nI n1_57))) X w hM 1 (by decide) (by decide) (20 + n1_57) rfl (show 20 + n1_57 < 170 by omega) dX4_init_75 (fun M H locs w hM => ?_)
        refine lv_iinc (v := (nI (n1_57 + 1))) (lv' := [(1, .int (nI (n1_57 + 1))), (0, .ref (pp 0))]) hx hb dX4_init_76 hl (k := 1) rfl (nI_incr _ 1) (by decide) rfl (fun ls hl => ?_)
        refine lv_goto (tgt := 57) hx hb dX4_init_79 (by decide) ?_
        exact ih_57 (n1_57 + 1) (u2 v_57 1 (20 + n1_57) (mf_firstOf (nI n1_57))) M H locs ls (by first | omega | assumption) (by first | omega | assumption) E (lv_sub hl [1, 0] rfl) w hM
  exact L57 20 0 (u2 (u2 v 1 2 (10000 : Int32)) 1 4 (-1 : Int32)) M H locs ls (by first | omega | assumption) (by first | omega | assumption) E (lv_sub hl [1, 0] rfl) w hM
