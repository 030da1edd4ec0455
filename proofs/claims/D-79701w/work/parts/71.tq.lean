set_option maxRecDepth 100000
/-! TQ: the map's searches -/
def FirstP (f : tT) (ps : Nat → Nat) (S : Nat → Prop) (o : Option Nat) : Prop := ∃ x, o = some x ∧ S x ∧ ps x = 1 ∧ f x 0 = none
def FoundP (S : Nat → Prop) (ky : Nat → Int32) (K : Int32) (o : Option Nat) : Prop := (∃ k, o = some k ∧ S k ∧ ky k = K) ∨ (o = none ∧ ∀ k, S k → ky k ≠ K)
/-- the key sought, if it is there, is below o -/
def FS (lo hi ps : Nat → Nat) (S : Nat → Prop) (ky : Nat → Int32) (K : Int32) (o : Option Nat) : Prop := ∀ i, S i → ky i = K → ∃ t, o = some t ∧ lo t < ps i ∧ ps i < hi t
section TQ
variable {np m n : Nat} {f g : tT} {lo hi ps : Nat → Nat} {S : Nat → Prop} {o : Option Nat} {ky : Nat → Int32} {K : Int32}
theorem FirstP.of (h : TX np m f lo hi ps S) {x : Nat} (hx : S x) (h0 : lo x = 0) (e : f x 0 = none) : FirstP f ps S (some x) := by
  refine ⟨x, rfl, hx, ?_, e⟩
  rcases h.1.2.1 x (h.s hx) with ⟨_, z⟩ | ⟨j, z, _⟩
  · omega
  · rw [e] at z; cases z
theorem icmp_v (x y : Int32) : cf_icmpO x y = if x < y then -1 else if x = y then 0 else 1 := by
  rw [cf_icmpO, cf_icmpB, cf_icmp]
  by_cases c : x < y
  · rw [if_neg (Int32.not_le.mpr c), if_pos c]
  · rw [if_pos (Int32.not_lt.mp c), if_neg c]
    try rfl
theorem icmp_lt {x y : Int32} (h : ¬ 0 ≤ cf_icmpO x y) : x < y := by
  rw [icmp_v] at h
  by_cases c : x < y
  · exact c
  · rw [if_neg c] at h
    by_cases d : x = y
    · rw [if_pos d] at h; exact absurd (by decide) h
    · rw [if_neg d] at h; exact absurd (by decide) h
theorem icmp_gt {x y : Int32} (h : ¬ cf_icmpO x y ≤ 0) : y < x := by
  rw [icmp_v] at h
  by_cases c : x < y
  · rw [if_pos c] at h; exact absurd (by decide) h
  · rw [if_neg c] at h
    by_cases d : x = y
    · rw [if_pos d] at h; exact absurd (by decide) h
    · exact Int32.lt_of_le_of_ne (Int32.not_lt.mp c) (fun e => d e.symm)
theorem icmp_eq {x y : Int32} (h : 0 ≤ cf_icmpO x y) (h2 : cf_icmpO x y ≤ 0) : y = x := by
  rw [icmp_v] at h h2
  by_cases c : x < y
  · rw [if_pos c] at h; exact absurd h (by decide)
  · rw [if_neg c] at h2
    by_cases d : x = y
    · exact d.symm
    · rw [if_neg d] at h2; exact absurd h2 (by decide)
theorem FS.root (h : TX np m f lo hi ps S) : FS lo hi ps S ky K (f 0 6) := fun i hi' _ => by
  have b := h.1.b (h.s hi')
  have r := h.1.rt (P_some (h.y.rot hi'))
  exact ⟨_, P_some (h.y.rot hi'), by omega, by omega⟩
theorem FS.none {o : Option Nat} (h : FS lo hi ps S ky K o) (e : o = none) : ∀ k, S k → ky k ≠ K := fun k hk q => by
  obtain ⟨t, a, _⟩ := h k hk q
  rw [e] at a; cases a
theorem FS.left (hX : TX np m f lo hi ps S) (hso : ∀ i j, S i → S j → ps i < ps j → ky i < ky j) (h : FS lo hi ps S ky K o) {x : Nat} (hx : o = some x) (hs : S x) (c : K < ky x) : FS lo hi ps S ky K (f x 0) := fun i hi' q => by
  obtain ⟨t, a, b, d⟩ := h i hi' q
  rw [hx] at a
  cases a
  have lt : ps i < ps x := by
    rcases Nat.lt_trichotomy (ps i) (ps x) with z | z | z
    · exact z
    · have := hX.1.psj (hX.s hi') (hX.s hs) z
      subst this
      rw [q] at c
      exact absurd c Int32.lt_irrefl
    · have := hso x i hs hi' z
      rw [q] at this
      exact absurd (Int32.lt_trans c this) Int32.lt_irrefl
  rcases hX.1.2.1 x (hX.s hs) with ⟨_, z⟩ | ⟨j, z1, z2, z3, z4, _⟩
  · omega
  · exact ⟨j, z1, by omega, by omega⟩
theorem FS.right (hX : TX np m f lo hi ps S) (hso : ∀ i j, S i → S j → ps i < ps j → ky i < ky j) (h : FS lo hi ps S ky K o) {x : Nat} (hx : o = some x) (hs : S x) (c : ky x < K) : FS lo hi ps S ky K (f x 1) := fun i hi' q => by
  obtain ⟨t, a, b, d⟩ := h i hi' q
  rw [hx] at a
  cases a
  have lt : ps x < ps i := by
    rcases Nat.lt_trichotomy (ps i) (ps x) with z | z | z
    · have := hso i x hi' hs z
      rw [q] at this
      exact absurd (Int32.lt_trans c this) Int32.lt_irrefl
    · have := hX.1.psj (hX.s hi') (hX.s hs) z
      subst this
      rw [q] at c
      exact absurd c Int32.lt_irrefl
    · exact z
  rcases hX.1.2.2.1 x (hX.s hs) with ⟨_, z⟩ | ⟨j, z1, z2, z3, z4, _⟩
  · omega
  · exact ⟨j, z1, by omega, by omega⟩
end TQ
set_option maxHeartbeats 4000000 in
set_option maxRecDepth 100000 in
theorem ct_first (l : Launch) (G : mg) (A : Nat → Prop) (ad : Nat → Nat) (np : Nat) (M0 M1 : mh) (f : tT)  (mm : Nat) (lo hi ps : Nat → Nat) (S : Nat → Prop) (hM : Tm G ad np M0 M1 f) (hXi : TX np mm f lo hi ps S) (hne : ¬ f 0 6 = none) : Met l yJ20_getFirstEntry (ws_ yJ20_getFirstEntry cJ20_getFirstEntry 2 (some (.object "java/util/TreeMap$Entry"))) ({ frames := 0, cells := 0, slots := 0, locals := 0 }) (va_Pc [.ref (ad 0)] (mU G A (fun M => M = M1))) (mQq G A (fun r M => ∃ o, r = (o.map fun k => ad (20 + k)) ∧ FirstP f ps S o ∧ M = M1)) 0 0 A := by
  refine mx_ofq (Or.inl ⟨_, rfl⟩) (by decide) (Nat.le_of_ble_eq_true rfl) ?_
  intro p e R s m av below meth c M H Q ls X hRf hRl hRc hRs hin eM w fin hl
  subst M
  have X : CallFix p m c cJ20_getFirstEntry 2 s av lw_all "java/util/TreeMap" := X
  have hx := X.1
  have hb := X.2.1
  have hl : lv_has ls 2 [(0, .ref (ad 0))] := hl
  have hRf : R.frames = 0 := hRf
  have hRl : R.locals = 0 := hRl
  have hRc : R.cells = 0 := hRc
  have hRs : R.slots = 0 := hRs
  generalize ([] : List Loc) = locs at w ⊢
  have hr0 := hXi.1.rt (P_some hne)
  have hs0 : S ((f 0 6).getD 0) := (hXi.2 _).mpr hr0.1
  refine lv_aload_n hx hb dJ20_getFirstEntry_0 rfl (lv_at hl 0 rfl) ?_
  refine tm_root X w hM q927 dJ20_getFirstEntry_1 ?_
  have eo_1 : va_rf ((f 0 6).map fun k => ad (20 + k)) = .ref (ad (20 + ((f 0 6).getD 0))) := P_ref (hne)
  rw [eo_1]
  refine lv_astore_n (lv' := [(1, .ref (ad (20 + ((f 0 6).getD 0)))), (0, .ref (ad 0))]) hx hb dJ20_getFirstEntry_4 rfl hl (by decide) rfl (fun ls hl => ?_)
  refine lv_aload_n hx hb dJ20_getFirstEntry_5 rfl (lv_at hl 0 rfl) ?_
  refine lv_ifnull hx hb dJ20_getFirstEntry_6 ?_
  have L9 : ∀ (n_9 : Nat) (P1_9 : Option Nat) (M : mh) (H : Heap) (locs : List Loc) (ls : Array Slot), (hO9 : OS S P1_9) → (hn9 : ¬ P1_9 = none) → (hL9 : ∀ x, P1_9 = some x → lo x = 0) → (hm9 : ∀ x, P1_9 = some x → hi x ≤ n_9) → lv_has ls 2 [(1, va_rf (P1_9.map fun k => ad (20 + k)))] → mW G A s M H locs → M = M1 → W p l e R s m av below meth c H locs 0 0 Q (F0 m 9 ls []) := by
    intro n_9
    induction n_9 with
    | zero =>
      intro P1_9 M H locs ls hO9 hn9 hL9 hm9 hl w eM
      subst M
      exfalso; have hx9 := P_some hn9; have h1 := hXi.s (hO9 _ hx9); have h2 := hm9 _ hx9; omega
    | succ n_9 ih_9 =>
      intro P1_9 M H locs ls hO9 hn9 hL9 hm9 hl w eM
      subst M
      have hx9 := P_some hn9
      have hs9 := hO9 _ hx9
      have hl9 := hL9 _ hx9
      have hk9 := hXi.y.lt hs9
      have ek_9 : va_rf (P1_9.map fun k => ad (20 + k)) = .ref (ad (20 + P1_9.getD 0)) := P_ref (hn9)
      refine mx_aload_nQ hx hb dJ20_getFirstEntry_9 rfl (lv_at hl 0 rfl) ?_
      rw [ek_9]
      refine tm_get (v := va_rf ((f (P1_9.getD 0) 0).map fun k => ad (20 + k))) X w hM (k := (P1_9.getD 0)) (by first | omega | assumption) 2 (by decide) q1277 rfl dJ20_getFirstEntry_10 ?_
      refine mx_ifnullP (tgt := 24) hx hb dJ20_getFirstEntry_13 (by decide) (fun c_13 => ?_) (fun c_13 => ?_)
      · skip
        have hp24 : FirstP f ps S (some (P1_9.getD 0)) := FirstP.of hXi hs9 hl9 c_13
        refine mx_aload_nQ hx hb dJ20_getFirstEntry_24 rfl (lv_at hl 0 rfl) ?_
        rw [ek_9]
        exact fin ((some (P1_9.getD 0)).map fun k => ad (20 + k)) M1 H locs ls 25 dJ20_getFirstEntry_25 ⟨some (P1_9.getD 0), rfl, hp24, rfl⟩ w
      · skip
        have eo_13 : va_rf ((f (P1_9.getD 0) 0).map fun k => ad (20 + k)) = .ref (ad (20 + ((f (P1_9.getD 0) 0).getD 0))) := P_ref c_13
        have hc13 := hXi.1.left (hXi.s hs9) (P_some c_13)
        refine mx_aload_nQ hx hb dJ20_getFirstEntry_16 rfl (lv_at hl 0 rfl) ?_
        rw [ek_9]
        refine tm_get (v := va_rf ((f (P1_9.getD 0) 0).map fun k => ad (20 + k))) X w hM (k := (P1_9.getD 0)) (by first | omega | assumption) 2 (by decide) q1277 rfl dJ20_getFirstEntry_17 ?_
        rw [eo_13]
        refine lv_astore_n (lv' := [(1, .ref (ad (20 + ((f (P1_9.getD 0) 0).getD 0))))]) hx hb dJ20_getFirstEntry_20 rfl hl (by decide) rfl (fun ls hl => ?_)
        refine lv_goto (tgt := 9) hx hb dJ20_getFirstEntry_21 (by decide) ?_
        exact ih_9 (some ((f (P1_9.getD 0) 0).getD 0)) M1 H locs ls (by first | omega | assumption | exact OS.some ((hXi.2 _).mpr hc13.1)) (by first | omega | assumption | exact (by simp)) (by first | omega | assumption | exact (fun x e => by cases e; rw [hc13.2.1]; exact hl9)) (by first | omega | assumption | exact (fun x e => by cases e; have := hXi.1.b (hXi.s hs9); have := hm9 _ hx9; omega)) (lv_sub hl [0] rfl) w rfl
  exact L9 (mm + 1) (some ((f 0 6).getD 0)) M1 H locs ls (by first | omega | assumption | exact OS.some hs0) (by first | omega | assumption | exact (by simp)) (by first | omega | assumption | exact (fun x e => by cases e; exact hr0.2.1)) (by first | omega | assumption | exact (fun x e => by cases e; exact Nat.le_of_eq hr0.2.2.1)) (lv_sub hl [0] rfl) w rfl
set_option maxHeartbeats 4000000 in
set_option maxRecDepth 100000 in
theorem ct_getE (l : Launch) (G : mg) (A : Nat → Prop) (ad : Nat → Nat) (np : Nat) (M0 M1 : mh) (f : tT)  (mm : Nat) (lo hi ps : Nat → Nat) (S : Nat → Prop) (ky : Nat → Int32) (q0 : Nat) (K : Int32) (hM : Tm G ad np M0 M1 f) (hXi : TX np mm f lo hi ps S) (h_q0 : bxo G ad np M0 q0 K) (hk : ∀ k, S k → ∃ a, f k 4 = some a ∧ bxo G ad np M0 a (ky k)) (hso : ∀ i j, S i → S j → ps i < ps j → ky i < ky j) : Met l yJ20_getEntry (ws_ yJ20_getEntry cJ20_getEntry 5 (some (.object "java/util/TreeMap$Entry"))) ({ frames := 3, cells := 0, slots := 0, locals := 63 }) (va_Pc [.ref (ad 0), .ref q0] (mU G A (fun M => M = M1))) (mQq G A (fun r M => ∃ o, r = (o.map fun k => ad (20 + k)) ∧ FoundP S ky K o ∧ M = M1)) 0 0 A := by
  refine mx_ofq (Or.inl ⟨_, rfl⟩) (by decide) (Nat.le_of_ble_eq_true rfl) ?_
  intro p e R s m av below meth c M H Q ls X hRf hRl hRc hRs hin eM w fin hl
  subst M
  have X : CallFix p m c cJ20_getEntry 5 s av lw_all "java/util/TreeMap" := X
  have hx := X.1
  have hb := X.2.1
  have hl : lv_has ls 5 [(0, .ref (ad 0)), (1, .ref q0)] := hl
  have hRf : R.frames = 3 := hRf
  have hRl : R.locals = 63 := hRl
  have hRc : R.cells = 0 := hRc
  have hRs : R.slots = 0 := hRs
  generalize ([] : List Loc) = locs at w ⊢
  refine lv_aload_n hx hb dJ20_getEntry_0 rfl (lv_at hl 0 rfl) ?_
  refine tm_cmp X w hM q926 dJ20_getEntry_1 ?_
  refine lv_ifnullN (tgt := 13) hx hb dJ20_getEntry_4 (by decide) ?_
  refine lv_aload_n hx hb dJ20_getEntry_13 rfl (lv_at hl 1 rfl) ?_
  refine mx_bq w (va_runS (As := [.ref q0]) (rest := []) X (jt_req l G A M1 q0) (va_cwS 1 X.2.2.2.2 (lw_S q981 q982 q106 q983) rfl rfl rfl (by decide +kernel) ⟨by rw [hRf]; decide, by rw [hRl]; decide⟩) (mx_preS w rfl) rfl rfl hl.1 rfl (lv_room (Nat.le_of_ble_eq_true rfl)) dJ20_getEntry_14 ⟨Nat.zero_le _, Nat.zero_le _⟩) (fun r M9 H locs hp w => ?_)
  obtain ⟨rfl, eM⟩ := hp; subst M9
  refine lv_pop hx hb dJ20_getEntry_17 rfl ?_
  refine lv_aload_n hx hb dJ20_getEntry_18 rfl (lv_at hl 1 rfl) ?_
  refine mx_boxcastU X w q984 (h_q0.at hM) dJ20_getEntry_19 ?_
  refine lv_astore_n (lv' := [(2, .ref q0), (0, .ref (ad 0)), (1, .ref q0)]) hx hb dJ20_getEntry_22 rfl hl (by decide) rfl (fun ls hl => ?_)
  refine lv_aload_n hx hb dJ20_getEntry_23 rfl (lv_at hl 1 rfl) ?_
  refine tm_root X w hM q927 dJ20_getEntry_24 ?_
  refine mx_astore_nQ (lv' := [(3, va_rf ((f 0 6).map fun k => ad (20 + k))), (2, .ref q0), (0, .ref (ad 0)), (1, .ref q0)]) hx hb dJ20_getEntry_27 rfl hl (by decide) (by first | rfl | (simp only [List.filter, va_rf_cat]; rfl)) (fun ls hl => ?_)
  have L28 : ∀ (n_28 : Nat) (P3_28 : Option Nat) (M : mh) (H : Heap) (locs : List Loc) (ls : Array Slot), (hO28 : OS S P3_28) → (hS28 : FS lo hi ps S ky K P3_28) → (hm28 : 1 ≤ n_28 ∧ ∀ t, P3_28 = some t → hi t - lo t ≤ n_28) → lv_has ls 5 [(2, .ref q0), (3, va_rf (P3_28.map fun k => ad (20 + k)))] → mW G A s M H locs → M = M1 → W p l e R s m av below meth c H locs 0 0 Q (F0 m 28 ls []) := by
    intro n_28
    induction n_28 with
    | zero =>
      intro P3_28 M H locs ls hO28 hS28 hm28 hl w eM
      subst M
      exfalso; omega
    | succ n_28 ih_28 =>
      intro P3_28 M H locs ls hO28 hS28 hm28 hl w eM
      subst M
      refine mx_aload_nQ hx hb dJ20_getEntry_28 rfl (lv_at hl 1 rfl) ?_
      refine mx_ifnullP (tgt := 75) hx hb dJ20_getEntry_29 (by decide) (fun c_29 => ?_) (fun c_29 => ?_)
      · skip
        refine lv_null hx hb dJ20_getEntry_75 ?_
        exact fin (none.map fun k => ad (20 + k)) M1 H locs ls 76 dJ20_getEntry_76 ⟨none, rfl, by first | exact Or.inr ⟨rfl, FS.none hS28 c_29⟩ | exact Or.inl ⟨_, rfl, hs28, icmp_eq c_46 c_59⟩, rfl⟩ w
      · skip
        have eo_29 : va_rf (P3_28.map fun k => ad (20 + k)) = .ref (ad (20 + (P3_28.getD 0))) := P_ref c_29
        have hx28 := P_some c_29
        have hs28 : S (P3_28.getD 0) := hO28 _ hx28
        have hk28 := hXi.y.lt hs28
        have hm28b := hm28.2 _ hx28
        have hb28 := hXi.1.b (hXi.s hs28)
        refine lv_aload_n hx hb dJ20_getEntry_32 rfl (lv_at hl 0 rfl) ?_
        refine mx_aload_nQ hx hb dJ20_getEntry_33 rfl (lv_at hl 1 rfl) ?_
        rw [eo_29]
        refine tm_get (v := va_rf (f (P3_28.getD 0) 4)) X w hM (k := (P3_28.getD 0)) (by first | omega | assumption) 0 (by decide) q1274 rfl dJ20_getEntry_34 ?_
        obtain ⟨a_34, ea_34, hb_34⟩ := hk _ hs28
        rw [ea_34]
        refine mx_cmpTo X w q986 (h_q0.at hM) (hb_34.at hM) (by rw [hRf]; decide) (by rw [hRl]; exact Nat.le_of_ble_eq_true rfl) hl.1 (Nat.le_of_ble_eq_true rfl) (Nat.zero_le _) (Nat.zero_le _) dJ20_getEntry_37 (fun H locs w => ?_)
        refine lv_istore (lv' := [(4, .int (cf_icmpO K (ky (P3_28.getD 0)))), (2, .ref q0), (3, va_rf (P3_28.map fun k => ad (20 + k)))]) hx hb dJ20_getEntry_42 hl (by decide) (by first | rfl | (simp only [List.filter, va_rf_cat]; rfl)) (fun ls hl => ?_)
        refine lv_iload hx hb dJ20_getEntry_44 (lv_at hl 0 rfl) ?_
        refine lv_if_ge (tgt := 57) hx hb dJ20_getEntry_46 (by decide) (fun c_46 => ?_) (fun c_46 => ?_)
        · skip
          refine lv_iload hx hb dJ20_getEntry_57 (lv_at hl 0 rfl) ?_
          refine lv_if_le (tgt := 70) hx hb dJ20_getEntry_59 (by decide) (fun c_59 => ?_) (fun c_59 => ?_)
          · skip
            refine mx_aload_nQ hx hb dJ20_getEntry_70 rfl (lv_at hl 2 rfl) ?_
            rw [eo_29]
            exact fin ((some (P3_28.getD 0)).map fun k => ad (20 + k)) M1 H locs ls 71 dJ20_getEntry_71 ⟨some (P3_28.getD 0), rfl, by first | exact Or.inr ⟨rfl, FS.none hS28 c_29⟩ | exact Or.inl ⟨_, rfl, hs28, icmp_eq c_46 c_59⟩, rfl⟩ w
          · skip
            have hS62 := FS.right hXi hso hS28 hx28 hs28 (icmp_gt c_59)
            have hO62 := (OS.rig hXi.y (OS.some hs28))
            rw [trig_s] at hO62
            have hm62 : ∀ t, f (P3_28.getD 0) 1 = some t → hi t - lo t ≤ n_28 := fun t e => by have := hXi.1.right (hXi.s hs28) e; omega
            refine mx_aload_nQ hx hb dJ20_getEntry_62 rfl (lv_at hl 2 rfl) ?_
            rw [eo_29]
            refine tm_get (v := va_rf ((f (P3_28.getD 0) 1).map fun k => ad (20 + k))) X w hM (k := (P3_28.getD 0)) (by first | omega | assumption) 3 (by decide) q1278 rfl dJ20_getEntry_63 ?_
            refine mx_astore_nQ (lv' := [(3, va_rf ((f (P3_28.getD 0) 1).map fun k => ad (20 + k))), (4, .int (cf_icmpO K (ky (P3_28.getD 0)))), (2, .ref q0)]) hx hb dJ20_getEntry_66 rfl hl (by decide) (by first | rfl | (simp only [List.filter, va_rf_cat]; rfl)) (fun ls hl => ?_)
            refine lv_goto (tgt := 72) hx hb dJ20_getEntry_67 (by decide) ?_
            refine lv_goto (tgt := 28) hx hb dJ20_getEntry_72 (by decide) ?_
            exact ih_28 (f (P3_28.getD 0) 1) M1 H locs ls (by first | omega | assumption | exact hO62) (by first | omega | assumption | exact hS62) (by first | omega | assumption | exact (by first | exact ⟨by omega, hm49⟩ | exact ⟨by omega, hm62⟩)) (lv_sub hl [2, 0] rfl) w rfl
        · skip
          have hS49 := FS.left hXi hso hS28 hx28 hs28 (icmp_lt c_46)
          have hO49 := (OS.lef hXi.y (OS.some hs28))
          rw [tlef_s] at hO49
          have hm49 : ∀ t, f (P3_28.getD 0) 0 = some t → hi t - lo t ≤ n_28 := fun t e => by have := hXi.1.left (hXi.s hs28) e; omega
          refine mx_aload_nQ hx hb dJ20_getEntry_49 rfl (lv_at hl 2 rfl) ?_
          rw [eo_29]
          refine tm_get (v := va_rf ((f (P3_28.getD 0) 0).map fun k => ad (20 + k))) X w hM (k := (P3_28.getD 0)) (by first | omega | assumption) 2 (by decide) q1277 rfl dJ20_getEntry_50 ?_
          refine mx_astore_nQ (lv' := [(3, va_rf ((f (P3_28.getD 0) 0).map fun k => ad (20 + k))), (4, .int (cf_icmpO K (ky (P3_28.getD 0)))), (2, .ref q0)]) hx hb dJ20_getEntry_53 rfl hl (by decide) (by first | rfl | (simp only [List.filter, va_rf_cat]; rfl)) (fun ls hl => ?_)
          refine lv_goto (tgt := 72) hx hb dJ20_getEntry_54 (by decide) ?_
          refine lv_goto (tgt := 28) hx hb dJ20_getEntry_72 (by decide) ?_
          exact ih_28 (f (P3_28.getD 0) 0) M1 H locs ls (by first | omega | assumption | exact hO62) (by first | omega | assumption | exact hS62) (by first | omega | assumption | exact (by first | exact ⟨by omega, hm49⟩ | exact ⟨by omega, hm62⟩)) (lv_sub hl [2, 0] rfl) w rfl
  exact L28 (mm + 1) (f 0 6) M1 H locs ls (by first | omega | assumption | exact OS.rt hXi.y) (by first | omega | assumption | exact FS.root hXi) (by first | omega | assumption | exact ⟨by omega, fun t e => by have := hXi.1.rt e; omega⟩) (lv_sub hl [1, 0] rfl) w rfl
