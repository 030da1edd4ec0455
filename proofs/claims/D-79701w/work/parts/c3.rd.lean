set_option maxRecDepth 100000
/-! RD: the reader: its object, its text -/
def RdP (G : mg) (rd fo : Nat) (M1 : mh) (ad1 : Nat → Nat) (np ng : Nat) (num : Int32) (pl : Nat) (bg rs mn : Int32) (g : Nat → Int32) (M : mh) : Prop :=
  M rd = some (.inr (8, [.ref (ad1 0), .int num, .int (nI pl), .int bg, .int rs, .int mn, .ref fo])) ∧ Sta G ad1 np ng M1 M g
def RdF (G : mg) (M1 : mh) (rd fo a0 dq tx va : Nat) (ml : Int32) (tl cap : Nat) (gb tb : Nat → Int32) (ad1 : Nat → Nat) : Prop :=
  (M1 rd = none ∧ ∀ r, r < 32 → ad1 r ≠ rd ∧ M1 (ad1 r) = none) ∧ M1 fo = some (.inr (0, [.ref a0, .ref dq, .ref tx])) ∧ M1 tx = some (.inr (12, [.ref va, .int (0 : Int32), .int ml, .int (nI tl)])) ∧ M1 va = some (mIc (G.1.1 102) cap gb) ∧ (tl ≤ 60 ∧ tl ≤ cap ∧ cap ≤ 1000) ∧ ∀ i, i < tl → gb i = tb i ∧ ∃ k, 32 ≤ k ∧ k ≤ 126 ∧ tb i = nI k
theorem ch_all2 : ∀ k, k < 127 → ((nI k &&& 255).toUInt32 % 65536).toInt32 = nI k ∧ narrow .char (.int (nI k)) = .int (nI k) := by decide +kernel
section RD
variable {G : mg} {M1 M : mh} {rd fo a0 dq tx va tl cap np ng pl pl' : Nat} {ml num num' bg rs mn bg' rs' mn' : Int32} {gb tb f g g' : Nat → Int32} {ad1 : Nat → Nat}
theorem Sta.rd {fs : List Value} (h : Sta G ad1 np ng M1 M f) (hr : M rd = some (.inr (8, fs))) : Sta G ad1 np ng (va_up M1 rd (some (.inr (8, fs)))) M f := by
  obtain ⟨nn, b9, bx, h1, h2, h3, h4, h5, h6, h7, h8, hqq⟩ := h
  refine ⟨nn, b9, bx, h1, h2, h3, h4, h5, h6, fun q hq hn => ?_, fun n0 => ?_, hqq⟩
  · by_cases c : q = rd
    · rw [c, va_up_s, hr]
    · rw [va_up_k c] at hq ⊢
      exact h7 q hq hn
  · rcases h8 n0 with z | z
    · exact Or.inl z
    · refine Or.inr ?_
      rw [va_up_k (fun e => ?_)]
      · exact z
      · have s9 : stU np ng nn 9 := ⟨by decide, fun z => by omega, fun z => by omega, fun _ => n0, fun z => by omega, fun z => by omega⟩
        have := h3 9 s9
        rw [show adr ad1 b9 9 = b9 from rfl, e, hr] at this
        exact stC_cl ⟨by decide, by decide, by decide, by decide, by decide, by decide, by decide⟩ s9 h2 fs (Option.some.inj this).symm
theorem RdP.kp (F : RdF G M1 rd fo a0 dq tx va ml tl cap gb tb ad1) (h : RdP G rd fo M1 ad1 np ng num pl bg rs mn g M) : ∀ q, M1 q ≠ none → M q = M1 q := fun q hq => by
  obtain ⟨nn, b9, bx, hB⟩ := h.2
  refine hB.2.2.2.2.2.2.1 q hq fun r hr z => ?_
  have := (F.1.2 r hr).2
  rw [z] at this
  exact hq this
theorem RdP.up (F : RdF G M1 rd fo a0 dq tx va ml tl cap gb tb ad1) (h : RdP G rd fo M1 ad1 np ng num pl bg rs mn g M) {fs' : List Value} (e : fs' = [.ref (ad1 0), .int num', .int (nI pl'), .int bg', .int rs', .int mn', .ref fo]) : RdP G rd fo M1 ad1 np ng num' pl' bg' rs' mn' g (va_up M rd (some (.inr (8, fs')))) :=
  ⟨by rw [va_up_s, e], h.2.oth (by decide) h.1 F.1.1⟩
/-- the trial's own walk: the reader's cell stays -/
theorem RdP.in (h : RdP G rd fo M1 ad1 np ng num pl bg rs mn g M) : Sta G ad1 np ng (va_up M1 rd (some (.inr (8, [.ref (ad1 0), .int num, .int (nI pl), .int bg, .int rs, .int mn, .ref fo])))) M g := h.2.rd h.1
theorem RdP.out (F : RdF G M1 rd fo a0 dq tx va ml tl cap gb tb ad1) (h : Sta G ad1 np ng (va_up M1 rd (some (.inr (8, [.ref (ad1 0), .int num, .int (nI pl), .int bg, .int rs, .int mn, .ref fo])))) M g') : RdP G rd fo M1 ad1 np ng num pl bg rs mn g' M :=
  ⟨h.foo va_up_s (fun r hr => (F.1.2 r hr).1), h.base (fun q hq => va_up_k (fun z => hq (by rw [z]; exact F.1.1)))⟩
theorem RdF.g (F : RdF G M1 rd fo a0 dq tx va ml tl cap gb tb ad1) {i : Nat} (hi : i < tl) : gb i = tb i := (F.2.2.2.2.2 i hi).1
theorem RdF.ch (F : RdF G M1 rd fo a0 dq tx va ml tl cap gb tb ad1) {i : Nat} (hi : i < tl) : ((gb i &&& 255).toUInt32 % 65536).toInt32 = gb i ∧ narrow .char (.int (gb i)) = .int (gb i) := by
  obtain ⟨e, k, k1, k2, e2⟩ := F.2.2.2.2.2 i hi
  rw [e, e2]
  exact ch_all2 k (by omega)
theorem RdF.ch8 (F : RdF G M1 rd fo a0 dq tx va ml tl cap gb tb ad1) {i : Nat} (hi : i < tl) : (tb i).toInt8.toInt32 = tb i ∧ (¬ tb i < 0) ∧ ¬ (255 : Int32) < tb i := by
  obtain ⟨e, k, k1, k2, e2⟩ := F.2.2.2.2.2 i hi
  rw [e2]
  refine ⟨(ch_all k (by omega)).2.1, fun z => ?_, (ch_all k (by omega)).1⟩
  have := Int32.lt_iff_toInt_lt.mp z
  rw [nI_toInt (by omega), show (0 : Int32).toInt = 0 from rfl] at this
  omega
end RD
/-- whether the sign stands there -/
def accB (tb : Nat → Int32) (tl pl : Nat) (sg : Int32) : Bool := decide (pl < tl ∧ tb pl = sg)
/-- a number read: digits, number, place -/
def rdN (tb : Nat → Int32) (tl : Nat) : Nat → Nat → Int32 → Nat → Nat × Int32 × Nat
  | 0, d, m, p => (d, m, p)
  | n + 1, d, m, p => if p < tl ∧ cf_isBetween (tb p).toInt64 (48 : Int64) (57 : Int64) = true then rdN tb tl n (d + 1) (m * 10 + tb p - 48) (p + 1) else (d, m, p)
theorem rdN_pl (tb : Nat → Int32) (tl : Nat) : ∀ n d m p, p ≤ tl → (rdN tb tl n d m p).2.2 ≤ tl ∧ p ≤ (rdN tb tl n d m p).2.2 := by
  intro n
  induction n with
  | zero => intro d m p h; exact ⟨h, Nat.le_refl _⟩
  | succ n ih =>
    intro d m p h
    rw [rdN]
    by_cases c : p < tl ∧ cf_isBetween (tb p).toInt64 (48 : Int64) (57 : Int64) = true
    · rw [if_pos c]
      obtain ⟨h1, h2⟩ := ih (d + 1) (m * 10 + tb p - 48) (p + 1) (by omega)
      exact ⟨h1, by omega⟩
    · rw [if_neg c]
      exact ⟨h, Nat.le_refl _⟩
/-- an order of the sign k: its number and the place after it -/
def ordP (tb : Nat → Int32) (tl k : Nat) (num : Int32) (pl : Nat) : Option (Int32 × Nat) :=
  if k = 4 then (if accB tb tl (pl + 1) 59 = true then some (num, pl + 2) else none)
  else (if 0 < (rdN tb tl 3 0 0 (pl + 1)).1 ∧ accB tb tl (rdN tb tl 3 0 0 (pl + 1)).2.2 59 = true then some ((rdN tb tl 3 0 0 (pl + 1)).2.1, (rdN tb tl 3 0 0 (pl + 1)).2.2 + 1) else none)
def thB (g : Nat → Int32) (k : Nat) (m : Int32) : Bool := if k = 2 then cf_isPump g m else if k < 2 then cf_isZone g m else true
/-- an order done -/
def OrdR (np nz ng T k : Nat) (m : Int32) (g g' : Nat → Int32) : Prop :=
  (k = 0 → g' = (cf_make0 g (tN m)).2) ∧ (k = 1 → g' = (cf_make1 g (tN m)).2) ∧ (k = 2 → g' = (cf_make2 g (tN m)).2) ∧ (k = 3 → MinsR np nz ng T (tN m) g g') ∧ (k = 4 → g' = (cf_make4 g m).2)
def WhyR (G : mg) (rd fo : Nat) (M1 : mh) (ad1 : Nat → Nat) (np nz ng T : Nat) (tb : Nat → Int32) (tl : Nat) (num : Int32) (pl : Nat) (bg rs mn : Int32) (g : Nat → Int32) (r : Int32) (M : mh) (ko : Option Nat) : Prop :=
  (r = 1 ∧ (∀ k, ko = some k → ordP tb tl k num pl = none) ∧ ∃ num' pl', RdP G rd fo M1 ad1 np ng num' pl' bg rs mn g M) ∨
  ∃ k m p, ko = some k ∧ ordP tb tl k num pl = some (m, p) ∧ ((thB g k m = false ∧ r = 2 ∧ RdP G rd fo M1 ad1 np ng m p bg rs mn g M) ∨ (thB g k m = true ∧ cf_can g (nI k) m = false ∧ r = 3 ∧ RdP G rd fo M1 ad1 np ng m p bg rs mn g M) ∨ (thB g k m = true ∧ cf_can g (nI k) m = true ∧ r = 0 ∧ ∃ g', OrdR np nz ng T k m g g' ∧ RdP G rd fo M1 ad1 np ng m p bg rs (mn + 1) g' M))
/-- the order that a sign says -/
def sgK (x : Int32) : Option Nat := if x = 111 then some 0 else if x = 99 then some 1 else if x = 115 then some 2 else if x = 112 then some 3 else if x = 114 then some 4 else none
set_option maxHeartbeats 4000000 in
set_option maxRecDepth 100000 in
theorem ct_rd_acc (l : Launch) (G : mg) (A : Nat → Prop) (M1 : mh) (rd fo a0 dq tx va : Nat) (ml : Int32) (tl cap : Nat) (gb tb : Nat → Int32) (ad1 : Nat → Nat) (np ng : Nat) (F : RdF G M1 rd fo a0 dq tx va ml tl cap gb tb ad1) (num : Int32) (pl : Nat) (bg rs mn : Int32) (g : Nat → Int32) (sg : Int32) (hpl : pl ≤ tl) : Met l yX10_accepts (ws_ yX10_accepts cX10_accepts 3 (some .boolean)) ({ frames := 4, cells := 0, slots := 0, locals := 88 }) (va_Pc [.ref rd, .int sg] (mU G A (fun M => RdP G rd fo M1 ad1 np ng num pl bg rs mn g M))) (mQi G A (fun r M => r = bI (accB tb tl pl sg) ∧ RdP G rd fo M1 ad1 np ng num (if accB tb tl pl sg = true then pl + 1 else pl) bg rs mn g M)) 0 0 A := by
  refine mx_ofz (by decide) (Nat.le_of_ble_eq_true rfl) ?_
  intro p e R s m av below meth c M H Q ls X hRf hRl hRc hRs hin hPre w fin hl
  have X : CallFix p m c cX10_accepts 3 s av lw_all "FieldPumps$Reader" := X
  have hx := X.1
  have hb := X.2.1
  have hl : lv_has ls 3 [(0, .ref rd), (1, .int sg)] := hl
  have hRf : R.frames = 4 := hRf
  have hRl : R.locals = 88 := hRl
  have hRc : R.cells = 0 := hRc
  have hRs : R.slots = 0 := hRs
  generalize ([] : List Loc) = locs at w ⊢
  have hR := hPre
  have hk := hR.kp F
  have ht6 := F.2.2.2.2.1.1
  refine lv_aload_n hx hb dX10_accepts_0 rfl (lv_at hl 0 rfl) ?_
  refine mx_get (T := TX10) (v := .int (nI pl)) X w in_X10 (ci := 8) rfl 2 (by decide) q1879 (fun _ h => h) hR.1 rfl dX10_accepts_1 ?_
  refine lv_aload_n hx hb dX10_accepts_4 rfl (lv_at hl 0 rfl) ?_
  refine mx_get (T := TX10) (v := .ref fo) X w in_X10 (ci := 8) rfl 6 (by decide) q1886 (fun _ h => h) hR.1 rfl dX10_accepts_5 ?_
  refine mx_getN (T := TX0) (v := .ref tx) X w in_X0 (ci := 0) rfl 2 (by decide) (w.tblB q474 rfl rfl) (fun _ h => h) (ext_at hk F.2.1) rfl dX10_accepts_8 ?_
  refine mx_bi w (va_runV (As := []) (rest := [.int (nI pl)]) X (jt_sb_len l G A _ tx va ml tl (ext_at hk F.2.2.1)) (cwV 0 X.2.2.2.2 (lw_V q1906 q1747 q1748 q110 q1749) rfl rfl rfl (by decide +kernel) ⟨by rw [hRf]; decide, by rw [hRl]; decide⟩) (mx_preV w rfl (ext_at hk F.2.2.1) rfl) rfl rfl hl.1 rfl (lv_room (Nat.le_of_ble_eq_true rfl)) dX10_accepts_11 ⟨by rw [hRc]; omega, by rw [hRs]; omega⟩) (fun r M9 H locs hp w => ?_)
  obtain ⟨eR, eM⟩ := hp; subst M9; subst eR
  refine mx_nge (u := pl) (v := tl) (tgt := 39) hx hb rfl rfl (by omega) (by omega) dX10_accepts_14 (by decide) (fun c_14 => ?_) (fun c_14 => ?_)
  · skip
    have hb9 : accB tb tl pl sg = false := decide_eq_false (fun z => by omega)
    refine lv_iconst (v := (0 : Int32)) hx hb dX10_accepts_39 (by decide) ?_
    refine lv_istore_n (lv' := [(2, .int (0 : Int32)), (0, .ref rd), (1, .int sg)]) hx hb dX10_accepts_40 rfl hl (by decide) rfl (fun ls hl => ?_)
    refine lv_aload_n hx hb dX10_accepts_41 rfl (lv_at hl 1 rfl) ?_
    refine lv_dup hx hb dX10_accepts_42 rfl ?_
    refine mx_get (T := TX10) (v := .int (nI pl)) X w in_X10 (ci := 8) rfl 2 (by decide) q1879 (fun _ h => h) hR.1 rfl dX10_accepts_43 ?_
    refine lv_iload_n hx hb dX10_accepts_46 rfl (lv_at hl 0 rfl) ?_
    refine lv_if_eq (tgt := 54) hx hb dX10_accepts_47 (by decide) (fun c_47 => ?_) (fun c_47 => absurd (by decide) c_47)
    refine lv_iconst (v := (0 : Int32)) hx hb dX10_accepts_54 (by decide) ?_
    refine mx_nadd (u := pl) (v := 0) hx hb rfl rfl dX10_accepts_55 ?_
    refine mx_put (T := TX10) (v := .int (nI (pl + 0))) X w in_X10 tyX10 tyX10_ok nmX10 (ci := 8) rfl 2 (by decide) q1879 (fun _ h => h) rfl rfl rfl hR.1 (show 2 < 7 by decide) dX10_accepts_56 (fun H locs w => ?_)
    refine raw_gen (P := fun M => RdP G rd fo M1 ad1 np ng num (pl + 0) bg rs mn g M) w (hR.up F rfl) (fun M w hR => ?_)
    have hk := hR.kp F
    refine lv_iload_n hx hb dX10_accepts_59 rfl (lv_at hl 0 rfl) ?_
    have hfin : ∀ x : Int32, x = bI (accB tb tl pl sg) → x = bI (accB tb tl pl sg) ∧ RdP G rd fo M1 ad1 np ng num (if accB tb tl pl sg = true then pl + 1 else pl) bg rs mn g M := fun x hx9 => by
      refine ⟨hx9, ?_⟩
      rw [hb9]
      exact hR
    exact fin false _ H locs ls 60 dX10_accepts_60 ((hfin _ (by rw [hb9]; try rfl))) w
  · skip
    have hlt : pl < tl := by omega
    refine lv_aload_n hx hb dX10_accepts_17 rfl (lv_at hl 0 rfl) ?_
    refine mx_get (T := TX10) (v := .ref fo) X w in_X10 (ci := 8) rfl 6 (by decide) q1886 (fun _ h => h) hR.1 rfl dX10_accepts_18 ?_
    refine mx_getN (T := TX0) (v := .ref tx) X w in_X0 (ci := 0) rfl 2 (by decide) (w.tblB q474 rfl rfl) (fun _ h => h) (ext_at hk F.2.1) rfl dX10_accepts_21 ?_
    refine lv_aload_n hx hb dX10_accepts_24 rfl (lv_at hl 0 rfl) ?_
    refine mx_get (T := TX10) (v := .int (nI pl)) X w in_X10 (ci := 8) rfl 2 (by decide) q1879 (fun _ h => h) hR.1 rfl dX10_accepts_25 ?_
    refine mx_bi w (va_runV (As := [.int (nI pl)]) (rest := []) X (jt_sb_chr l G A _ tx pl va ml tl cap gb (ext_at hk F.2.2.1) (ext_at hk F.2.2.2.1) hlt F.2.2.2.2.1.2.1 F.2.2.2.2.1.2.2 (F.ch hlt).1 (F.ch hlt).2) (cwV 1 X.2.2.2.2 (lw_V q1912 q1913 q1914 q110 q1915) rfl rfl rfl (by decide +kernel) ⟨by rw [hRf]; decide, by rw [hRl]; decide⟩) (mx_preV w rfl (ext_at hk F.2.2.1) rfl) rfl rfl hl.1 rfl (lv_room (Nat.le_of_ble_eq_true rfl)) dX10_accepts_28 ⟨by rw [hRc]; omega, by rw [hRs]; omega⟩) (fun r M9 H locs hp w => ?_)
    obtain ⟨eR, eM⟩ := hp; subst M9
    have eR := eR.trans (F.g hlt)
    subst eR
    refine lv_iload_n hx hb dX10_accepts_31 rfl (lv_at hl 1 rfl) ?_
    refine lv_icmp_ne (tgt := 39) hx hb dX10_accepts_32 (by decide) (fun c_32 => ?_) (fun c_32 => ?_)
    · skip
      have hb9 : accB tb tl pl sg = false := decide_eq_false (fun z => c_32 z.2)
      refine lv_iconst (v := (0 : Int32)) hx hb dX10_accepts_39 (by decide) ?_
      refine lv_istore_n (lv' := [(2, .int (0 : Int32)), (0, .ref rd), (1, .int sg)]) hx hb dX10_accepts_40 rfl hl (by decide) rfl (fun ls hl => ?_)
      refine lv_aload_n hx hb dX10_accepts_41 rfl (lv_at hl 1 rfl) ?_
      refine lv_dup hx hb dX10_accepts_42 rfl ?_
      refine mx_get (T := TX10) (v := .int (nI pl)) X w in_X10 (ci := 8) rfl 2 (by decide) q1879 (fun _ h => h) hR.1 rfl dX10_accepts_43 ?_
      refine lv_iload_n hx hb dX10_accepts_46 rfl (lv_at hl 0 rfl) ?_
      refine lv_if_eq (tgt := 54) hx hb dX10_accepts_47 (by decide) (fun c_47 => ?_) (fun c_47 => absurd (by decide) c_47)
      refine lv_iconst (v := (0 : Int32)) hx hb dX10_accepts_54 (by decide) ?_
      refine mx_nadd (u := pl) (v := 0) hx hb rfl rfl dX10_accepts_55 ?_
      refine mx_put (T := TX10) (v := .int (nI (pl + 0))) X w in_X10 tyX10 tyX10_ok nmX10 (ci := 8) rfl 2 (by decide) q1879 (fun _ h => h) rfl rfl rfl hR.1 (show 2 < 7 by decide) dX10_accepts_56 (fun H locs w => ?_)
      refine raw_gen (P := fun M => RdP G rd fo M1 ad1 np ng num (pl + 0) bg rs mn g M) w (hR.up F rfl) (fun M w hR => ?_)
      have hk := hR.kp F
      refine lv_iload_n hx hb dX10_accepts_59 rfl (lv_at hl 0 rfl) ?_
      have hfin : ∀ x : Int32, x = bI (accB tb tl pl sg) → x = bI (accB tb tl pl sg) ∧ RdP G rd fo M1 ad1 np ng num (if accB tb tl pl sg = true then pl + 1 else pl) bg rs mn g M := fun x hx9 => by
        refine ⟨hx9, ?_⟩
        rw [hb9]
        exact hR
      exact fin false _ H locs ls 60 dX10_accepts_60 ((hfin _ (by rw [hb9]; try rfl))) w
    · skip
      have hb9 : accB tb tl pl sg = true := decide_eq_true ⟨hlt, c_32⟩
      refine lv_iconst (v := (1 : Int32)) hx hb dX10_accepts_35 (by decide) ?_
      refine lv_goto (tgt := 40) hx hb dX10_accepts_36 (by decide) ?_
      refine lv_istore_n (lv' := [(2, .int (1 : Int32)), (0, .ref rd), (1, .int sg)]) hx hb dX10_accepts_40 rfl hl (by decide) rfl (fun ls hl => ?_)
      refine lv_aload_n hx hb dX10_accepts_41 rfl (lv_at hl 1 rfl) ?_
      refine lv_dup hx hb dX10_accepts_42 rfl ?_
      refine mx_get (T := TX10) (v := .int (nI pl)) X w in_X10 (ci := 8) rfl 2 (by decide) q1879 (fun _ h => h) hR.1 rfl dX10_accepts_43 ?_
      refine lv_iload_n hx hb dX10_accepts_46 rfl (lv_at hl 0 rfl) ?_
      refine lv_if_eq (tgt := 54) hx hb dX10_accepts_47 (by decide) (fun c_47 => absurd c_47 (by decide)) (fun c_47 => ?_)
      refine lv_iconst (v := (1 : Int32)) hx hb dX10_accepts_50 (by decide) ?_
      refine lv_goto (tgt := 55) hx hb dX10_accepts_51 (by decide) ?_
      refine mx_nadd (u := pl) (v := 1) hx hb rfl rfl dX10_accepts_55 ?_
      refine mx_put (T := TX10) (v := .int (nI (pl + 1))) X w in_X10 tyX10 tyX10_ok nmX10 (ci := 8) rfl 2 (by decide) q1879 (fun _ h => h) rfl rfl rfl hR.1 (show 2 < 7 by decide) dX10_accepts_56 (fun H locs w => ?_)
      refine raw_gen (P := fun M => RdP G rd fo M1 ad1 np ng num (pl + 1) bg rs mn g M) w (hR.up F rfl) (fun M w hR => ?_)
      have hk := hR.kp F
      refine lv_iload_n hx hb dX10_accepts_59 rfl (lv_at hl 0 rfl) ?_
      have hfin : ∀ x : Int32, x = bI (accB tb tl pl sg) → x = bI (accB tb tl pl sg) ∧ RdP G rd fo M1 ad1 np ng num (if accB tb tl pl sg = true then pl + 1 else pl) bg rs mn g M := fun x hx9 => by
        refine ⟨hx9, ?_⟩
        rw [hb9]
        exact hR
      exact fin true _ H locs ls 60 dX10_accepts_60 ((hfin _ (by rw [hb9]; try rfl))) w
set_option maxHeartbeats 4000000 in
set_option maxRecDepth 100000 in
theorem ct_rd_reads (l : Launch) (G : mg) (A : Nat → Prop) (M1 : mh) (rd fo a0 dq tx va : Nat) (ml : Int32) (tl cap : Nat) (gb tb : Nat → Int32) (ad1 : Nat → Nat) (np ng : Nat) (F : RdF G M1 rd fo a0 dq tx va ml tl cap gb tb ad1) (num : Int32) (pl : Nat) (bg rs mn : Int32) (g : Nat → Int32) (hpl : pl ≤ tl) : Met l yX10_reads (ws_ yX10_reads cX10_reads 2 (some .boolean)) ({ frames := 4, cells := 0, slots := 0, locals := 88 }) (va_Pc [.ref rd] (mU G A (fun M => RdP G rd fo M1 ad1 np ng num pl bg rs mn g M))) (mQi G A (fun r M => r = bI (decide (0 < (rdN tb tl 3 0 0 pl).1)) ∧ RdP G rd fo M1 ad1 np ng ((rdN tb tl 3 0 0 pl).2.1) ((rdN tb tl 3 0 0 pl).2.2) bg rs mn g M)) 0 0 A := by
  refine mx_ofz (by decide) (Nat.le_of_ble_eq_true rfl) ?_
  intro p e R s m av below meth c M H Q ls X hRf hRl hRc hRs hin hPre w fin hl
  have X : CallFix p m c cX10_reads 2 s av lw_all "FieldPumps$Reader" := X
  have hx := X.1
  have hb := X.2.1
  have hl : lv_has ls 2 [(0, .ref rd)] := hl
  have hRf : R.frames = 4 := hRf
  have hRl : R.locals = 88 := hRl
  have hRc : R.cells = 0 := hRc
  have hRs : R.slots = 0 := hRs
  generalize ([] : List Loc) = locs at w ⊢
  have hR := hPre
  have hk := hR.kp F
  have ht6 := F.2.2.2.2.1.1
  refine lv_iconst (v := (0 : Int32)) hx hb dX10_reads_0 (by decide) ?_
  refine lv_istore_n (lv' := [(1, .int (0 : Int32)), (0, .ref rd)]) hx hb dX10_reads_1 rfl hl (by decide) rfl (fun ls hl => ?_)
  refine lv_aload_n hx hb dX10_reads_2 rfl (lv_at hl 1 rfl) ?_
  refine lv_iconst (v := (0 : Int32)) hx hb dX10_reads_3 (by decide) ?_
  refine mx_put (T := TX10) (v := .int (0 : Int32)) X w in_X10 tyX10 tyX10_ok nmX10 (ci := 8) rfl 1 (by decide) q1878 (fun _ h => h) rfl rfl rfl hR.1 (show 1 < 7 by decide) dX10_reads_4 (fun H locs w => ?_)
  refine raw_gen (P := fun M => RdP G rd fo M1 ad1 np ng (0 : Int32) pl bg rs mn g M) w (hR.up F rfl) (fun M w hR => ?_)
  have hk := hR.kp F
  have L7 : ∀ (n_7 : Nat) (n1_7 : Nat) (nm_7 : Int32) (pp_7 : Nat) (M : mh) (H : Heap) (locs : List Loc) (ls : Array Slot), (hkd : n1_7 ≤ 3) → (hkp : pp_7 ≤ tl) → (hR : RdP G rd fo M1 ad1 np ng nm_7 pp_7 bg rs mn g M) → (hk : ∀ q, M1 q ≠ none → M q = M1 q) → (hI : rdN tb tl 3 0 0 pl = rdN tb tl (3 - n1_7) n1_7 nm_7 pp_7) → (hm : 3 < n1_7 + n_7) → lv_has ls 2 [(0, .ref rd), (1, .int (nI n1_7))] → mW G A s M H locs → True → W p l e R s m av below meth c H locs 0 0 Q (F0 m 7 ls []) := by
    intro n_7
    induction n_7 with
    | zero =>
      intro n1_7 nm_7 pp_7 M H locs ls hkd hkp hR hk hI hm hl w _hT
      exfalso; omega
    | succ n_7 ih_7 =>
      intro n1_7 nm_7 pp_7 M H locs ls hkd hkp hR hk hI hm hl w _hT
      refine lv_iload_n hx hb dX10_reads_7 rfl (lv_at hl 1 rfl) ?_
      refine lv_iconst (v := (3 : Int32)) hx hb dX10_reads_8 (by decide) ?_
      refine mx_nge (u := n1_7) (v := 3) (tgt := 101) hx hb rfl rfl (by omega) (by omega) dX10_reads_9 (by decide) (fun c_9 => ?_) (fun c_9 => ?_)
      · skip
        have hd3 : n1_7 = 3 := by omega
        have hE : rdN tb tl 3 0 0 pl = (n1_7, nm_7, pp_7) := by rw [hI, hd3]; rfl
        refine lv_iload_n hx hb dX10_reads_101 rfl (lv_at hl 1 rfl) ?_
        refine mx_0le (u := n1_7) (tgt := 109) hx hb rfl (by omega) dX10_reads_102 (by decide) (fun c_102 => ?_) (fun c_102 => ?_)
        · skip
          have hd0 : n1_7 = 0 := by omega
          have hfin : bI false = bI (decide (0 < (rdN tb tl 3 0 0 pl).1)) ∧ RdP G rd fo M1 ad1 np ng ((rdN tb tl 3 0 0 pl).2.1) ((rdN tb tl 3 0 0 pl).2.2) bg rs mn g M := by
            rw [hE]
            exact ⟨by rw [hd0]; rfl, hR⟩
          refine lv_iconst (v := (0 : Int32)) hx hb dX10_reads_109 (by decide) ?_
          exact fin false _ H locs ls 110 dX10_reads_110 (hfin) w
        · skip
          have hd0 : 0 < n1_7 := by omega
          have hfin : bI true = bI (decide (0 < (rdN tb tl 3 0 0 pl).1)) ∧ RdP G rd fo M1 ad1 np ng ((rdN tb tl 3 0 0 pl).2.1) ((rdN tb tl 3 0 0 pl).2.2) bg rs mn g M := by
            rw [hE]
            exact ⟨by rw [decide_eq_true hd0]; rfl, hR⟩
          refine lv_iconst (v := (1 : Int32)) hx hb dX10_reads_105 (by decide) ?_
          refine lv_goto (tgt := 110) hx hb dX10_reads_106 (by decide) ?_
          exact fin true _ H locs ls 110 dX10_reads_110 (hfin) w
      · skip
        refine lv_aload_n hx hb dX10_reads_12 rfl (lv_at hl 0 rfl) ?_
        refine mx_get (T := TX10) (v := .int (nI pp_7)) X w in_X10 (ci := 8) rfl 2 (by decide) q1879 (fun _ h => h) hR.1 rfl dX10_reads_13 ?_
        refine lv_aload_n hx hb dX10_reads_16 rfl (lv_at hl 0 rfl) ?_
        refine mx_get (T := TX10) (v := .ref fo) X w in_X10 (ci := 8) rfl 6 (by decide) q1886 (fun _ h => h) hR.1 rfl dX10_reads_17 ?_
        refine mx_getN (T := TX0) (v := .ref tx) X w in_X0 (ci := 0) rfl 2 (by decide) (w.tblB q474 rfl rfl) (fun _ h => h) (ext_at hk F.2.1) rfl dX10_reads_20 ?_
        refine mx_bi w (va_runV (As := []) (rest := [.int (nI pp_7)]) X (jt_sb_len l G A _ tx va ml tl (ext_at hk F.2.2.1)) (cwV 0 X.2.2.2.2 (lw_V q1906 q1747 q1748 q110 q1749) rfl rfl rfl (by decide +kernel) ⟨by rw [hRf]; decide, by rw [hRl]; decide⟩) (mx_preV w rfl (ext_at hk F.2.2.1) rfl) rfl rfl hl.1 rfl (lv_room (Nat.le_of_ble_eq_true rfl)) dX10_reads_23 ⟨by rw [hRc]; omega, by rw [hRs]; omega⟩) (fun r M9 H locs hp w => ?_)
        obtain ⟨eR, eM⟩ := hp; subst M9; subst eR
        refine mx_nge (u := pp_7) (v := tl) (tgt := 101) hx hb rfl rfl (by omega) (by omega) dX10_reads_26 (by decide) (fun c_26 => ?_) (fun c_26 => ?_)
        · skip
          have hE : rdN tb tl 3 0 0 pl = (n1_7, nm_7, pp_7) := by
            rw [hI, show 3 - n1_7 = (2 - n1_7) + 1 by omega, rdN, if_neg (fun z => by omega)]
          refine lv_iload_n hx hb dX10_reads_101 rfl (lv_at hl 1 rfl) ?_
          refine mx_0le (u := n1_7) (tgt := 109) hx hb rfl (by omega) dX10_reads_102 (by decide) (fun c_102 => ?_) (fun c_102 => ?_)
          · skip
            have hd0 : n1_7 = 0 := by omega
            have hfin : bI false = bI (decide (0 < (rdN tb tl 3 0 0 pl).1)) ∧ RdP G rd fo M1 ad1 np ng ((rdN tb tl 3 0 0 pl).2.1) ((rdN tb tl 3 0 0 pl).2.2) bg rs mn g M := by
              rw [hE]
              exact ⟨by rw [hd0]; rfl, hR⟩
            refine lv_iconst (v := (0 : Int32)) hx hb dX10_reads_109 (by decide) ?_
            exact fin false _ H locs ls 110 dX10_reads_110 (hfin) w
          · skip
            have hd0 : 0 < n1_7 := by omega
            have hfin : bI true = bI (decide (0 < (rdN tb tl 3 0 0 pl).1)) ∧ RdP G rd fo M1 ad1 np ng ((rdN tb tl 3 0 0 pl).2.1) ((rdN tb tl 3 0 0 pl).2.2) bg rs mn g M := by
              rw [hE]
              exact ⟨by rw [decide_eq_true hd0]; rfl, hR⟩
            refine lv_iconst (v := (1 : Int32)) hx hb dX10_reads_105 (by decide) ?_
            refine lv_goto (tgt := 110) hx hb dX10_reads_106 (by decide) ?_
            exact fin true _ H locs ls 110 dX10_reads_110 (hfin) w
        · skip
          have hlt : pp_7 < tl := by omega
          refine lv_aload_n hx hb dX10_reads_29 rfl (lv_at hl 0 rfl) ?_
          refine mx_get (T := TX10) (v := .ref fo) X w in_X10 (ci := 8) rfl 6 (by decide) q1886 (fun _ h => h) hR.1 rfl dX10_reads_30 ?_
          refine mx_getN (T := TX0) (v := .ref tx) X w in_X0 (ci := 0) rfl 2 (by decide) (w.tblB q474 rfl rfl) (fun _ h => h) (ext_at hk F.2.1) rfl dX10_reads_33 ?_
          refine lv_aload_n hx hb dX10_reads_36 rfl (lv_at hl 0 rfl) ?_
          refine mx_get (T := TX10) (v := .int (nI pp_7)) X w in_X10 (ci := 8) rfl 2 (by decide) q1879 (fun _ h => h) hR.1 rfl dX10_reads_37 ?_
          refine mx_bi w (va_runV (As := [.int (nI pp_7)]) (rest := []) X (jt_sb_chr l G A _ tx pp_7 va ml tl cap gb (ext_at hk F.2.2.1) (ext_at hk F.2.2.2.1) hlt F.2.2.2.2.1.2.1 F.2.2.2.2.1.2.2 (F.ch hlt).1 (F.ch hlt).2) (cwV 1 X.2.2.2.2 (lw_V q1912 q1913 q1914 q110 q1915) rfl rfl rfl (by decide +kernel) ⟨by rw [hRf]; decide, by rw [hRl]; decide⟩) (mx_preV w rfl (ext_at hk F.2.2.1) rfl) rfl rfl hl.1 rfl (lv_room (Nat.le_of_ble_eq_true rfl)) dX10_reads_40 ⟨by rw [hRc]; omega, by rw [hRs]; omega⟩) (fun r M9 H locs hp w => ?_)
          obtain ⟨eR, eM⟩ := hp; subst M9
          have eR := eR.trans (F.g hlt)
          subst eR
          refine lv_i2l hx hb dX10_reads_43 rfl ?_
          refine lv_ldc2 (v := (48 : Int64)) hx hb X.2.2.2.1 (X.2.2.2.2 _ q1983) dX10_reads_44 ?_
          refine lv_ldc2 (v := (57 : Int64)) hx hb X.2.2.2.1 (X.2.2.2.2 _ q1984) dX10_reads_47 ?_
          refine mx_bi w (va_runSN (As := [.long ((tb pp_7).toInt64), .long (48 : Int64), .long (57 : Int64)]) (rest := []) X (ct_isBetween l G A _ ((tb pp_7).toInt64) (48 : Int64) (57 : Int64)) ⟨va_cnB 3 X.2.2.2.2 (lw_meth q494) rfl rfl rfl (w.tbl q1985 rfl) (X.2.2.2.2 _ q96) (by decide +kernel) ⟨by rw [hRf]; decide, by rw [hRl]; decide⟩, X.2.2.2.2 _ q493, trivial⟩ (mx_preS w rfl) rfl rfl hl.1 rfl (lv_room (Nat.le_of_ble_eq_true rfl)) dX10_reads_50 ⟨by rw [hRc]; omega, by rw [hRs]; omega⟩) (fun r M9 H locs hp w => ?_)
          obtain ⟨eR, eM⟩ := hp; subst M9; subst eR
          refine mx_beq (tgt := 101) hx hb dX10_reads_53 (by decide) (fun c_53 => ?_) (fun c_53 => ?_)
          · skip
            have hE : rdN tb tl 3 0 0 pl = (n1_7, nm_7, pp_7) := by
              rw [hI, show 3 - n1_7 = (2 - n1_7) + 1 by omega, rdN, if_neg (fun z => c_53 z.2)]
            refine lv_iload_n hx hb dX10_reads_101 rfl (lv_at hl 1 rfl) ?_
            refine mx_0le (u := n1_7) (tgt := 109) hx hb rfl (by omega) dX10_reads_102 (by decide) (fun c_102 => ?_) (fun c_102 => ?_)
            · skip
              have hd0 : n1_7 = 0 := by omega
              have hfin : bI false = bI (decide (0 < (rdN tb tl 3 0 0 pl).1)) ∧ RdP G rd fo M1 ad1 np ng ((rdN tb tl 3 0 0 pl).2.1) ((rdN tb tl 3 0 0 pl).2.2) bg rs mn g M := by
                rw [hE]
                exact ⟨by rw [hd0]; rfl, hR⟩
              refine lv_iconst (v := (0 : Int32)) hx hb dX10_reads_109 (by decide) ?_
              exact fin false _ H locs ls 110 dX10_reads_110 (hfin) w
            · skip
              have hd0 : 0 < n1_7 := by omega
              have hfin : bI true = bI (decide (0 < (rdN tb tl 3 0 0 pl).1)) ∧ RdP G rd fo M1 ad1 np ng ((rdN tb tl 3 0 0 pl).2.1) ((rdN tb tl 3 0 0 pl).2.2) bg rs mn g M := by
                rw [hE]
                exact ⟨by rw [decide_eq_true hd0]; rfl, hR⟩
              refine lv_iconst (v := (1 : Int32)) hx hb dX10_reads_105 (by decide) ?_
              refine lv_goto (tgt := 110) hx hb dX10_reads_106 (by decide) ?_
              exact fin true _ H locs ls 110 dX10_reads_110 (hfin) w
          · skip
            have hI2 : rdN tb tl 3 0 0 pl = rdN tb tl (3 - (n1_7 + 1)) (n1_7 + 1) (nm_7 * 10 + tb pp_7 - 48) (pp_7 + 1) := by
              rw [hI, show 3 - n1_7 = (3 - (n1_7 + 1)) + 1 by omega, rdN, if_pos ⟨hlt, c_53⟩]
            refine lv_aload_n hx hb dX10_reads_56 rfl (lv_at hl 0 rfl) ?_
            refine lv_aload_n hx hb dX10_reads_57 rfl (lv_at hl 0 rfl) ?_
            refine mx_get (T := TX10) (v := .int nm_7) X w in_X10 (ci := 8) rfl 1 (by decide) q1878 (fun _ h => h) hR.1 rfl dX10_reads_58 ?_
            refine lv_bipush (v := (10 : Int32)) hx hb dX10_reads_61 (by decide) ?_
            refine lv_imul hx hb dX10_reads_63 ?_
            refine lv_aload_n hx hb dX10_reads_64 rfl (lv_at hl 0 rfl) ?_
            refine mx_get (T := TX10) (v := .ref fo) X w in_X10 (ci := 8) rfl 6 (by decide) q1886 (fun _ h => h) hR.1 rfl dX10_reads_65 ?_
            refine mx_getN (T := TX0) (v := .ref tx) X w in_X0 (ci := 0) rfl 2 (by decide) (w.tblB q474 rfl rfl) (fun _ h => h) (ext_at hk F.2.1) rfl dX10_reads_68 ?_
            refine lv_aload_n hx hb dX10_reads_71 rfl (lv_at hl 0 rfl) ?_
            refine mx_get (T := TX10) (v := .int (nI pp_7)) X w in_X10 (ci := 8) rfl 2 (by decide) q1879 (fun _ h => h) hR.1 rfl dX10_reads_72 ?_
            refine mx_bi w (va_runV (As := [.int (nI pp_7)]) (rest := [.int (nm_7 * (10 : Int32)), .ref rd]) X (jt_sb_chr l G A _ tx pp_7 va ml tl cap gb (ext_at hk F.2.2.1) (ext_at hk F.2.2.2.1) hlt F.2.2.2.2.1.2.1 F.2.2.2.2.1.2.2 (F.ch hlt).1 (F.ch hlt).2) (cwV 1 X.2.2.2.2 (lw_V q1912 q1913 q1914 q110 q1915) rfl rfl rfl (by decide +kernel) ⟨by rw [hRf]; decide, by rw [hRl]; decide⟩) (mx_preV w rfl (ext_at hk F.2.2.1) rfl) rfl rfl hl.1 rfl (lv_room (Nat.le_of_ble_eq_true rfl)) dX10_reads_75 ⟨by rw [hRc]; omega, by rw [hRs]; omega⟩) (fun r M9 H locs hp w => ?_)
            obtain ⟨eR, eM⟩ := hp; subst M9
            have eR := eR.trans (F.g hlt)
            subst eR
            refine lv_iadd hx hb dX10_reads_78 ?_
            refine lv_bipush (v := (48 : Int32)) hx hb dX10_reads_79 (by decide) ?_
            refine lv_isub hx hb dX10_reads_81 ?_
            refine mx_put (T := TX10) (v := .int (((nm_7 * (10 : Int32)) + (tb pp_7)) - (48 : Int32))) X w in_X10 tyX10 tyX10_ok nmX10 (ci := 8) rfl 1 (by decide) q1878 (fun _ h => h) rfl rfl rfl hR.1 (show 1 < 7 by decide) dX10_reads_82 (fun H locs w => ?_)
            refine raw_gen (P := fun M => RdP G rd fo M1 ad1 np ng (((nm_7 * (10 : Int32)) + (tb pp_7)) - (48 : Int32)) pp_7 bg rs mn g M) w (hR.up F rfl) (fun M w hR => ?_)
            have hk := hR.kp F
            refine lv_iinc (v := (nI (n1_7 + 1))) (lv' := [(1, .int (nI (n1_7 + 1))), (0, .ref rd)]) hx hb dX10_reads_85 hl (k := 1) rfl (nI_incr _ 1) (by decide) rfl (fun ls hl => ?_)
            refine lv_aload_n hx hb dX10_reads_88 rfl (lv_at hl 1 rfl) ?_
            refine lv_dup hx hb dX10_reads_89 rfl ?_
            refine mx_get (T := TX10) (v := .int (nI pp_7)) X w in_X10 (ci := 8) rfl 2 (by decide) q1879 (fun _ h => h) hR.1 rfl dX10_reads_90 ?_
            refine lv_iconst (v := (1 : Int32)) hx hb dX10_reads_93 (by decide) ?_
            refine mx_nadd (u := pp_7) (v := 1) hx hb rfl rfl dX10_reads_94 ?_
            refine mx_put (T := TX10) (v := .int (nI (pp_7 + 1))) X w in_X10 tyX10 tyX10_ok nmX10 (ci := 8) rfl 2 (by decide) q1879 (fun _ h => h) rfl rfl rfl hR.1 (show 2 < 7 by decide) dX10_reads_95 (fun H locs w => ?_)
            refine raw_gen (P := fun M => RdP G rd fo M1 ad1 np ng (((nm_7 * (10 : Int32)) + (tb pp_7)) - (48 : Int32)) (pp_7 + 1) bg rs mn g M) w (hR.up F rfl) (fun M w hR => ?_)
            have hk := hR.kp F
            refine lv_goto (tgt := 7) hx hb dX10_reads_98 (by decide) ?_
            exact ih_7 (n1_7 + 1) (((nm_7 * (10 : Int32)) + (tb pp_7)) - (48 : Int32)) (pp_7 + 1) _ H locs ls (by first | omega | assumption | exact (by omega)) (by first | omega | assumption | exact (by omega)) (by first | omega | assumption | exact hR) (by first | omega | assumption | exact hk) (by first | omega | assumption | exact hI2) (by first | omega | assumption) (lv_sub hl [1, 0] rfl) w trivial
  exact L7 4 0 (0 : Int32) pl _ H locs ls (by first | omega | assumption | exact (Nat.zero_le _)) (by first | omega | assumption | exact hpl) (by first | omega | assumption | exact hR) (by first | omega | assumption | exact hk) (by first | omega | assumption | exact rfl) (by first | omega | assumption) (lv_sub hl [1, 0] rfl) w trivial
