set_option maxRecDepth 100000
/-! CV: the first station -/
/-! SD: the settings of a station at first -/
def sdA0 : Nat → Int32 := fun _ => 0
def sdA1 : Nat → Int32 := upd sdA0 0 (400 : Int32)
def sdA2 : Nat → Int32 := upd sdA1 1 (20 : Int32)
def sdA3 : Nat → Int32 := upd sdA2 2 (20 : Int32)
def sdA4 : Nat → Int32 := upd sdA3 3 (100 : Int32)
def sdA5 : Nat → Int32 := upd sdA4 4 (500 : Int32)
def sdA6 : Nat → Int32 := upd sdA5 5 (3 : Int32)
def sdA7 : Nat → Int32 := upd sdA6 6 (5 : Int32)
def sdA8 : Nat → Int32 := upd sdA7 7 (60 : Int32)
def sdA9 : Nat → Int32 := upd sdA8 8 (4 : Int32)
def sdA10 : Nat → Int32 := upd sdA9 9 (60 : Int32)
def sdA11 : Nat → Int32 := upd sdA10 10 (20 : Int32)
def sdA12 : Nat → Int32 := upd sdA11 11 (500 : Int32)
def sdA13 : Nat → Int32 := upd sdA12 12 (2000 : Int32)
def sdA14 : Nat → Int32 := upd sdA13 13 (2 : Int32)
def sdA15 : Nat → Int32 := upd sdA14 14 (300 : Int32)
def sdA16 : Nat → Int32 := upd sdA15 15 (60 : Int32)
def sdA17 : Nat → Int32 := upd sdA16 16 (180 : Int32)
def sdA18 : Nat → Int32 := upd sdA17 17 (3000 : Int32)
def sdA19 : Nat → Int32 := upd sdA18 18 (0 : Int32)
def sdF : Nat → Int32 := fun p => sdA19 (p - 20)
theorem sdA_F : sdA19 = fun k => if k < 19 then sdF (20 + k) else 0 := by
  funext k
  by_cases c : k < 19
  · rw [if_pos c]
    show sdA19 k = sdA19 (20 + k - 20)
    rw [show 20 + k - 20 = k by omega]
  · rw [if_neg c]
    simp only [sdA0, sdA1, sdA2, sdA3, sdA4, sdA5, sdA6, sdA7, sdA8, sdA9, sdA10, sdA11, sdA12, sdA13, sdA14, sdA15, sdA16, sdA17, sdA18, sdA19]
    rw [pk_un (by omega), pk_un (by omega), pk_un (by omega), pk_un (by omega), pk_un (by omega), pk_un (by omega), pk_un (by omega), pk_un (by omega), pk_un (by omega), pk_un (by omega), pk_un (by omega), pk_un (by omega), pk_un (by omega), pk_un (by omega), pk_un (by omega), pk_un (by omega), pk_un (by omega), pk_un (by omega), pk_un (by omega)]
    rfl
theorem cp_F2 {M1 Mc : mh} {o sa : Nat} {ad : Nat → Nat} (zsa : M1 sa = none) (hk : ∀ q, q ≠ sa → Mc q = M1 q) (h : ∀ r, r < 32 → ad r = o ∨ ad r = sa ∨ Mc (ad r) = none) : adF M1 o ad := fun r hr => by
  rcases h r hr with z | z | z
  · exact Or.inl z
  · exact Or.inr (by rw [z]; exact zsa)
  · by_cases c : ad r = sa
    · exact Or.inr (by rw [c]; exact zsa)
    · rw [hk _ c] at z
      exact Or.inr z

set_option maxHeartbeats 4000000 in
set_option maxRecDepth 100000 in
theorem ct_st_first (l : Launch) (G : mg) (A : Nat → Prop) (M1 : mh) (o : Nat) (h_o : M1 o = some (.inr (1, [.null, .null, .null, .null, .null, .int (0 : Int32), .null, .null, .null, .null, .null, .null, .null, .null, .int (0 : Int32), .null, .int (0 : Int32), .int (0 : Int32), .int (0 : Int32), .int (0 : Int32), .int (0 : Int32), .int (0 : Int32), .int (0 : Int32), .int (0 : Int32), .int (0 : Int32), .int (0 : Int32), .int (0 : Int32), .int (0 : Int32), .int (0 : Int32), .int (0 : Int32)]))) : Met l yX1_init (ws_ yX1_init cX1_init 1 (none)) ({ frames := 5, cells := 16, slots := 109, locals := 3111 }) (va_Pc [.ref o] (mU G A (fun M => M = M1))) (mQv G A (fun M => ∃ ad : Nat → Nat, Sta G ad 0 0 M1 M (f00 sdF) ∧ ad 0 = o ∧ adF M1 o ad ∧ adN 0 0 ad)) 16 109 A := by
  refine mx_ofv (by decide) (Nat.le_of_ble_eq_true rfl) ?_
  intro p e R s m av below meth c M H Q ls X hRf hRl hRc hRs hin eM w fin hl
  subst M
  have X : CallFix p m c cX1_init 1 s av lw_all "FieldPumps$Station" := X
  have hx := X.1
  have hb := X.2.1
  have hl : lv_has ls 1 [(0, .ref o)] := hl
  have hRf : R.frames = 5 := hRf
  have hRl : R.locals = 3111 := hRl
  have hRc : R.cells = 16 := hRc
  have hRs : R.slots = 109 := hRs
  have hin : meth.name = "<init>" := hin
  generalize ([] : List Loc) = locs at w ⊢
  refine lv_aload_n hx hb dX1_init_0 rfl (lv_at hl 0 rfl) ?_
  refine lv_bipush (v := (19 : Int32)) hx hb dX1_init_1 (by decide) ?_
  refine mx_newI X w q184 19 rfl (by decide) (by rw [hRc]; omega) (by rw [hRs]; omega) dX1_init_3 (fun sa H zsa w => ?_)
  have hA : va_up M1 sa (some (mIc (G.1.1 100) 19 (fun _ => 0))) sa = some (mIc (G.1.1 100) 19 sdA0) := va_up_s
  have hk : ∀ q, q ≠ sa → va_up M1 sa (some (mIc (G.1.1 100) 19 (fun _ => 0))) q = M1 q := fun q hq => va_up_k hq
  refine raw_gen (P := fun M => M sa = some (mIc (G.1.1 100) 19 sdA0) ∧ ∀ q, q ≠ sa → M q = M1 q) w ⟨hA, hk⟩ (fun M w hP => ?_)
  obtain ⟨hA, hk⟩ := hP
  refine lv_dup hx hb dX1_init_5 rfl ?_
  refine lv_iconst (v := (0 : Int32)) hx hb dX1_init_6 (by decide) ?_
  refine lv_sipush (v := (400 : Int32)) hx hb dX1_init_7 (by decide) ?_
  refine mx_iast (x := (400 : Int32)) X w hA 0 (by decide) (by decide) dX1_init_10 (fun H locs w => ?_)
  refine raw_gen (P := fun M => M sa = some (mIc (G.1.1 100) 19 sdA1) ∧ ∀ q, q ≠ sa → M q = M1 q) w ⟨va_up_s, fun q hq => (va_up_k hq).trans (hk q hq)⟩ (fun M w hP => ?_)
  obtain ⟨hA, hk⟩ := hP
  refine lv_dup hx hb dX1_init_11 rfl ?_
  refine lv_iconst (v := (1 : Int32)) hx hb dX1_init_12 (by decide) ?_
  refine lv_bipush (v := (20 : Int32)) hx hb dX1_init_13 (by decide) ?_
  refine mx_iast (x := (20 : Int32)) X w hA 1 (by decide) (by decide) dX1_init_15 (fun H locs w => ?_)
  refine raw_gen (P := fun M => M sa = some (mIc (G.1.1 100) 19 sdA2) ∧ ∀ q, q ≠ sa → M q = M1 q) w ⟨va_up_s, fun q hq => (va_up_k hq).trans (hk q hq)⟩ (fun M w hP => ?_)
  obtain ⟨hA, hk⟩ := hP
  refine lv_dup hx hb dX1_init_16 rfl ?_
  refine lv_iconst (v := (2 : Int32)) hx hb dX1_init_17 (by decide) ?_
  refine lv_bipush (v := (20 : Int32)) hx hb dX1_init_18 (by decide) ?_
  refine mx_iast (x := (20 : Int32)) X w hA 2 (by decide) (by decide) dX1_init_20 (fun H locs w => ?_)
  refine raw_gen (P := fun M => M sa = some (mIc (G.1.1 100) 19 sdA3) ∧ ∀ q, q ≠ sa → M q = M1 q) w ⟨va_up_s, fun q hq => (va_up_k hq).trans (hk q hq)⟩ (fun M w hP => ?_)
  obtain ⟨hA, hk⟩ := hP
  refine lv_dup hx hb dX1_init_21 rfl ?_
  refine lv_iconst (v := (3 : Int32)) hx hb dX1_init_22 (by decide) ?_
  refine lv_bipush (v := (100 : Int32)) hx hb dX1_init_23 (by decide) ?_
  refine mx_iast (x := (100 : Int32)) X w hA 3 (by decide) (by decide) dX1_init_25 (fun H locs w => ?_)
  refine raw_gen (P := fun M => M sa = some (mIc (G.1.1 100) 19 sdA4) ∧ ∀ q, q ≠ sa → M q = M1 q) w ⟨va_up_s, fun q hq => (va_up_k hq).trans (hk q hq)⟩ (fun M w hP => ?_)
  obtain ⟨hA, hk⟩ := hP
  refine lv_dup hx hb dX1_init_26 rfl ?_
  refine lv_iconst (v := (4 : Int32)) hx hb dX1_init_27 (by decide) ?_
  refine lv_sipush (v := (500 : Int32)) hx hb dX1_init_28 (by decide) ?_
  refine mx_iast (x := (500 : Int32)) X w hA 4 (by decide) (by decide) dX1_init_31 (fun H locs w => ?_)
  refine raw_gen (P := fun M => M sa = some (mIc (G.1.1 100) 19 sdA5) ∧ ∀ q, q ≠ sa → M q = M1 q) w ⟨va_up_s, fun q hq => (va_up_k hq).trans (hk q hq)⟩ (fun M w hP => ?_)
  obtain ⟨hA, hk⟩ := hP
  refine lv_dup hx hb dX1_init_32 rfl ?_
  refine lv_iconst (v := (5 : Int32)) hx hb dX1_init_33 (by decide) ?_
  refine lv_iconst (v := (3 : Int32)) hx hb dX1_init_34 (by decide) ?_
  refine mx_iast (x := (3 : Int32)) X w hA 5 (by decide) (by decide) dX1_init_35 (fun H locs w => ?_)
  refine raw_gen (P := fun M => M sa = some (mIc (G.1.1 100) 19 sdA6) ∧ ∀ q, q ≠ sa → M q = M1 q) w ⟨va_up_s, fun q hq => (va_up_k hq).trans (hk q hq)⟩ (fun M w hP => ?_)
  obtain ⟨hA, hk⟩ := hP
  refine lv_dup hx hb dX1_init_36 rfl ?_
  refine lv_bipush (v := (6 : Int32)) hx hb dX1_init_37 (by decide) ?_
  refine lv_iconst (v := (5 : Int32)) hx hb dX1_init_39 (by decide) ?_
  refine mx_iast (x := (5 : Int32)) X w hA 6 (by decide) (by decide) dX1_init_40 (fun H locs w => ?_)
  refine raw_gen (P := fun M => M sa = some (mIc (G.1.1 100) 19 sdA7) ∧ ∀ q, q ≠ sa → M q = M1 q) w ⟨va_up_s, fun q hq => (va_up_k hq).trans (hk q hq)⟩ (fun M w hP => ?_)
  obtain ⟨hA, hk⟩ := hP
  refine lv_dup hx hb dX1_init_41 rfl ?_
  refine lv_bipush (v := (7 : Int32)) hx hb dX1_init_42 (by decide) ?_
  refine lv_bipush (v := (60 : Int32)) hx hb dX1_init_44 (by decide) ?_
  refine mx_iast (x := (60 : Int32)) X w hA 7 (by decide) (by decide) dX1_init_46 (fun H locs w => ?_)
  refine raw_gen (P := fun M => M sa = some (mIc (G.1.1 100) 19 sdA8) ∧ ∀ q, q ≠ sa → M q = M1 q) w ⟨va_up_s, fun q hq => (va_up_k hq).trans (hk q hq)⟩ (fun M w hP => ?_)
  obtain ⟨hA, hk⟩ := hP
  refine lv_dup hx hb dX1_init_47 rfl ?_
  refine lv_bipush (v := (8 : Int32)) hx hb dX1_init_48 (by decide) ?_
  refine lv_iconst (v := (4 : Int32)) hx hb dX1_init_50 (by decide) ?_
  refine mx_iast (x := (4 : Int32)) X w hA 8 (by decide) (by decide) dX1_init_51 (fun H locs w => ?_)
  refine raw_gen (P := fun M => M sa = some (mIc (G.1.1 100) 19 sdA9) ∧ ∀ q, q ≠ sa → M q = M1 q) w ⟨va_up_s, fun q hq => (va_up_k hq).trans (hk q hq)⟩ (fun M w hP => ?_)
  obtain ⟨hA, hk⟩ := hP
  refine lv_dup hx hb dX1_init_52 rfl ?_
  refine lv_bipush (v := (9 : Int32)) hx hb dX1_init_53 (by decide) ?_
  refine lv_bipush (v := (60 : Int32)) hx hb dX1_init_55 (by decide) ?_
  refine mx_iast (x := (60 : Int32)) X w hA 9 (by decide) (by decide) dX1_init_57 (fun H locs w => ?_)
  refine raw_gen (P := fun M => M sa = some (mIc (G.1.1 100) 19 sdA10) ∧ ∀ q, q ≠ sa → M q = M1 q) w ⟨va_up_s, fun q hq => (va_up_k hq).trans (hk q hq)⟩ (fun M w hP => ?_)
  obtain ⟨hA, hk⟩ := hP
  refine lv_dup hx hb dX1_init_58 rfl ?_
  refine lv_bipush (v := (10 : Int32)) hx hb dX1_init_59 (by decide) ?_
  refine lv_bipush (v := (20 : Int32)) hx hb dX1_init_61 (by decide) ?_
  refine mx_iast (x := (20 : Int32)) X w hA 10 (by decide) (by decide) dX1_init_63 (fun H locs w => ?_)
  refine raw_gen (P := fun M => M sa = some (mIc (G.1.1 100) 19 sdA11) ∧ ∀ q, q ≠ sa → M q = M1 q) w ⟨va_up_s, fun q hq => (va_up_k hq).trans (hk q hq)⟩ (fun M w hP => ?_)
  obtain ⟨hA, hk⟩ := hP
  refine lv_dup hx hb dX1_init_64 rfl ?_
  refine lv_bipush (v := (11 : Int32)) hx hb dX1_init_65 (by decide) ?_
  refine lv_sipush (v := (500 : Int32)) hx hb dX1_init_67 (by decide) ?_
  refine mx_iast (x := (500 : Int32)) X w hA 11 (by decide) (by decide) dX1_init_70 (fun H locs w => ?_)
  refine raw_gen (P := fun M => M sa = some (mIc (G.1.1 100) 19 sdA12) ∧ ∀ q, q ≠ sa → M q = M1 q) w ⟨va_up_s, fun q hq => (va_up_k hq).trans (hk q hq)⟩ (fun M w hP => ?_)
  obtain ⟨hA, hk⟩ := hP
  refine lv_dup hx hb dX1_init_71 rfl ?_
  refine lv_bipush (v := (12 : Int32)) hx hb dX1_init_72 (by decide) ?_
  refine lv_sipush (v := (2000 : Int32)) hx hb dX1_init_74 (by decide) ?_
  refine mx_iast (x := (2000 : Int32)) X w hA 12 (by decide) (by decide) dX1_init_77 (fun H locs w => ?_)
  refine raw_gen (P := fun M => M sa = some (mIc (G.1.1 100) 19 sdA13) ∧ ∀ q, q ≠ sa → M q = M1 q) w ⟨va_up_s, fun q hq => (va_up_k hq).trans (hk q hq)⟩ (fun M w hP => ?_)
  obtain ⟨hA, hk⟩ := hP
  refine lv_dup hx hb dX1_init_78 rfl ?_
  refine lv_bipush (v := (13 : Int32)) hx hb dX1_init_79 (by decide) ?_
  refine lv_iconst (v := (2 : Int32)) hx hb dX1_init_81 (by decide) ?_
  refine mx_iast (x := (2 : Int32)) X w hA 13 (by decide) (by decide) dX1_init_82 (fun H locs w => ?_)
  refine raw_gen (P := fun M => M sa = some (mIc (G.1.1 100) 19 sdA14) ∧ ∀ q, q ≠ sa → M q = M1 q) w ⟨va_up_s, fun q hq => (va_up_k hq).trans (hk q hq)⟩ (fun M w hP => ?_)
  obtain ⟨hA, hk⟩ := hP
  refine lv_dup hx hb dX1_init_83 rfl ?_
  refine lv_bipush (v := (14 : Int32)) hx hb dX1_init_84 (by decide) ?_
  refine lv_sipush (v := (300 : Int32)) hx hb dX1_init_86 (by decide) ?_
  refine mx_iast (x := (300 : Int32)) X w hA 14 (by decide) (by decide) dX1_init_89 (fun H locs w => ?_)
  refine raw_gen (P := fun M => M sa = some (mIc (G.1.1 100) 19 sdA15) ∧ ∀ q, q ≠ sa → M q = M1 q) w ⟨va_up_s, fun q hq => (va_up_k hq).trans (hk q hq)⟩ (fun M w hP => ?_)
  obtain ⟨hA, hk⟩ := hP
  refine lv_dup hx hb dX1_init_90 rfl ?_
  refine lv_bipush (v := (15 : Int32)) hx hb dX1_init_91 (by decide) ?_
  refine lv_bipush (v := (60 : Int32)) hx hb dX1_init_93 (by decide) ?_
  refine mx_iast (x := (60 : Int32)) X w hA 15 (by decide) (by decide) dX1_init_95 (fun H locs w => ?_)
  refine raw_gen (P := fun M => M sa = some (mIc (G.1.1 100) 19 sdA16) ∧ ∀ q, q ≠ sa → M q = M1 q) w ⟨va_up_s, fun q hq => (va_up_k hq).trans (hk q hq)⟩ (fun M w hP => ?_)
  obtain ⟨hA, hk⟩ := hP
  refine lv_dup hx hb dX1_init_96 rfl ?_
  refine lv_bipush (v := (16 : Int32)) hx hb dX1_init_97 (by decide) ?_
  refine lv_sipush (v := (180 : Int32)) hx hb dX1_init_99 (by decide) ?_
  refine mx_iast (x := (180 : Int32)) X w hA 16 (by decide) (by decide) dX1_init_102 (fun H locs w => ?_)
  refine raw_gen (P := fun M => M sa = some (mIc (G.1.1 100) 19 sdA17) ∧ ∀ q, q ≠ sa → M q = M1 q) w ⟨va_up_s, fun q hq => (va_up_k hq).trans (hk q hq)⟩ (fun M w hP => ?_)
  obtain ⟨hA, hk⟩ := hP
  refine lv_dup hx hb dX1_init_103 rfl ?_
  refine lv_bipush (v := (17 : Int32)) hx hb dX1_init_104 (by decide) ?_
  refine lv_sipush (v := (3000 : Int32)) hx hb dX1_init_106 (by decide) ?_
  refine mx_iast (x := (3000 : Int32)) X w hA 17 (by decide) (by decide) dX1_init_109 (fun H locs w => ?_)
  refine raw_gen (P := fun M => M sa = some (mIc (G.1.1 100) 19 sdA18) ∧ ∀ q, q ≠ sa → M q = M1 q) w ⟨va_up_s, fun q hq => (va_up_k hq).trans (hk q hq)⟩ (fun M w hP => ?_)
  obtain ⟨hA, hk⟩ := hP
  refine lv_dup hx hb dX1_init_110 rfl ?_
  refine lv_bipush (v := (18 : Int32)) hx hb dX1_init_111 (by decide) ?_
  refine lv_iconst (v := (0 : Int32)) hx hb dX1_init_113 (by decide) ?_
  refine mx_iast (x := (0 : Int32)) X w hA 18 (by decide) (by decide) dX1_init_114 (fun H locs w => ?_)
  refine raw_gen (P := fun M => M sa = some (mIc (G.1.1 100) 19 sdA19) ∧ ∀ q, q ≠ sa → M q = M1 q) w ⟨va_up_s, fun q hq => (va_up_k hq).trans (hk q hq)⟩ (fun M w hP => ?_)
  obtain ⟨hA, hk⟩ := hP
  have nos : o ≠ sa := fun z => by rw [z, zsa] at h_o; cases h_o
  have h_o2 := (hk o nos).trans h_o
  refine mx_bv w (va_runI (As := [.ref sa]) (rest := []) X (jt_st_init l G A _ o sa sdF h_o2 (hA.trans (congrArg some (congrArg (mIc _ 19) sdA_F)))) (cwI 1 X.2.2.2.2 (lw_meth q153) rfl rfl rfl (X.2.2.2.2 _ q97) (X.2.2.2.2 _ q151) (X.2.2.2.2 _ q152) rfl (by decide +kernel) ⟨by rw [hRf]; decide, by rw [hRl]; decide⟩) (mx_preS w rfl) rfl rfl hl.1 rfl (lv_room (Nat.le_of_ble_eq_true rfl)) dX1_init_115 ⟨by rw [hRc]; omega, by rw [hRs]; omega⟩) (fun M9 H locs hp w => ?_)
  obtain ⟨q1, q3, q5, q6, q7, q8, q10, q11, q12, q14, q15, q_102, q17, q19, q_123, hB⟩ := hp
  obtain ⟨hN, hfr⟩ := Sta_init hB
  have hN := hN.base (M1 := M1) (fun q hq => hk q (fun z => hq (by rw [z]; exact zsa)))
  obtain ⟨ad, hN, hF, hAN, e0⟩ : ∃ ad, Sta G ad 0 0 M1 M9 (f00 sdF) ∧ adF M1 o ad ∧ adN 0 0 ad ∧ ad 0 = o := ⟨_, hN, cp_F2 zsa hk hfr, siA_N, rfl⟩
  exact fin _ H locs ls 118 dX1_init_118 (⟨ad, hN, e0, hF, hAN⟩) w
