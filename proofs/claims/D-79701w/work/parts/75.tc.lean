set_option maxRecDepth 100000
/-! TC: put -/
def ky2 (ky : Nat → Int32) (np : Nat) (K : Int32) : Nat → Int32 := fun k => if k = np then K else ky k
def PutP (G : mg) (ad : Nat → Nat) (np m : Nat) (M1 M : mh) (f : tT) (S : Nat → Prop) (ky : Nat → Int32) (q0 v0 : Nat) (K : Int32) (r : Option Nat) : Prop :=
  (∃ k, S k ∧ ky k = K ∧ Tm G ad np M1 M (t2 f k 5 (some v0)) ∧ r = f k 5) ∨
  (r = none ∧ (∀ k, S k → ky k ≠ K) ∧ ∃ ps', AddP G ad np m M1 M f ps' S q0 v0 ∧ ∀ i j, (S i ∨ i = np) → (S j ∨ j = np) → ps' i < ps' j → ky2 ky np K i < ky2 ky np K j)
/-- the search's bracket -/
def BR (ps : Nat → Nat) (S : Nat → Prop) (ky : Nat → Int32) (K : Int32) (a b : Nat) : Prop := ∀ i, S i → (ps i ≤ a → ky i < K) ∧ (b ≤ ps i → K < ky i)
section TC
variable {G : mg} {ad : Nat → Nat} {M1 M : mh} {np m n q0 v0 : Nat} {f g F : tT} {lo hi ps : Nat → Nat} {S : Nat → Prop} {ky : Nat → Int32} {K : Int32}
theorem BR.root (h : TX np m f lo hi ps S) {r : Nat} (e : f 0 6 = some r) : BR ps S ky K (lo r) (hi r) := fun i hs => by
  have a := h.1.rt e
  have b := h.1.b (h.s hs)
  exact ⟨fun z => by omega, fun z => by omega⟩
theorem BR.left (h : TX np m f lo hi ps S) (hso : ∀ i j, S i → S j → ps i < ps j → ky i < ky j) {x : Nat} (hs : S x) (hB : BR ps S ky K (lo x) (hi x)) (c : K < ky x) : BR ps S ky K (lo x) (ps x) := fun i hi' => by
  refine ⟨(hB i hi').1, fun z => ?_⟩
  rcases Nat.lt_or_ge (ps x) (ps i) with y | y
  · exact Int32.lt_trans c (hso x i hs hi' y)
  · have := h.1.psj (h.s hi') (h.s hs) (by omega)
    subst this
    exact c
theorem BR.right (h : TX np m f lo hi ps S) (hso : ∀ i j, S i → S j → ps i < ps j → ky i < ky j) {x : Nat} (hs : S x) (hB : BR ps S ky K (lo x) (hi x)) (c : ky x < K) : BR ps S ky K (ps x) (hi x) := fun i hi' => by
  refine ⟨fun z => ?_, (hB i hi').2⟩
  rcases Nat.lt_or_ge (ps i) (ps x) with y | y
  · exact Int32.lt_trans (hso i x hi' hs y) c
  · have := h.1.psj (h.s hi') (h.s hs) (by omega)
    subst this
    exact c
/-- behind the search, one step further -/
theorem BR.step (h : TX np m f lo hi ps S) (hso : ∀ i j, S i → S j → ps i < ps j → ky i < ky j) {x : Nat} (hs : S x) (hB : BR ps S ky K (lo x) (hi x)) {o : Option Nat} (c : (o = f x 0 ∧ K < ky x) ∨ (o = f x 1 ∧ ky x < K)) {y : Nat} (e : o = some y) : S y ∧ BR ps S ky K (lo y) (hi y) ∧ hi y - lo y < hi x - lo x := by
  have b := h.1.b (h.s hs)
  rcases c with ⟨c1, c2⟩ | ⟨c1, c2⟩
  · have l := h.1.left (h.s hs) (c1.symm.trans e)
    have by' := h.1.b l.1
    refine ⟨(h.2 y).mpr l.1, ?_, by omega⟩
    rw [l.2.1, l.2.2.1]
    exact hB.left h hso hs c2
  · have l := h.1.right (h.s hs) (c1.symm.trans e)
    have by' := h.1.b l.1
    refine ⟨(h.2 y).mpr l.1, ?_, by omega⟩
    rw [l.2.1, l.2.2.1]
    exact hB.right h hso hs c2
theorem BR.ne {a b : Nat} (hB : BR ps S ky K a b) (hab : b ≤ a + 1) : ∀ k, S k → ky k ≠ K := fun k hk e => by
  have := hB k hk
  rcases Nat.lt_or_ge a (ps k) with z | z
  · have := this.2 (by omega)
    rw [e] at this
    exact Int32.lt_irrefl this
  · have := this.1 z
    rw [e] at this
    exact Int32.lt_irrefl this
theorem BR.so (h : TX np m f lo hi ps S) (hso : ∀ i j, S i → S j → ps i < ps j → ky i < ky j) {q b : Nat} (hB : BR ps S ky K q b) (hb : b ≤ q + 1) : ∀ i j, (S i ∨ i = np) → (S j ∨ j = np) → (fun k => if k = np then q + 1 else shq q (ps k)) i < (fun k => if k = np then q + 1 else shq q (ps k)) j → ky2 ky np K i < ky2 ky np K j := by
  intro i j hi' hj
  show (if i = np then q + 1 else shq q (ps i)) < (if j = np then q + 1 else shq q (ps j)) → (if i = np then K else ky i) < (if j = np then K else ky j)
  by_cases i1 : i = np
  · rw [if_pos i1, if_pos i1]
    by_cases j1 : j = np
    · rw [if_pos j1, if_pos j1]
      intro z; omega
    · rw [if_neg j1, if_neg j1]
      intro z
      have := shq_c q (ps j)
      exact (hB j (hj.resolve_right j1)).2 (by omega)
  · rw [if_neg i1, if_neg i1]
    by_cases j1 : j = np
    · rw [if_pos j1, if_pos j1]
      intro z
      have := shq_c q (ps i)
      exact (hB i (hi'.resolve_right i1)).1 (by omega)
    · rw [if_neg j1, if_neg j1]
      intro z
      have := shq_c q (ps i)
      have := shq_c q (ps j)
      exact hso i j (hi'.resolve_right i1) (hj.resolve_right j1) (by omega)
theorem PutP.newL (h : TX np m f lo hi ps S) (hso : ∀ i j, S i → S j → ps i < ps j → ky i < ky j) {x : Nat} (hs : S x) (hB : BR ps S ky K (lo x) (hi x)) (c : K < ky x) (e : f x 0 = none) (ha : AddP G ad np m M1 M f (fun k => if k = np then gapOf true lo ps x + 1 else shq (gapOf true lo ps x) (ps k)) S q0 v0) : PutP G ad np m M1 M f S ky q0 v0 K none := by
  have b := h.1.b (h.s hs)
  have hl : ps x = lo x + 1 := by
    rcases h.1.2.1 x (h.s hs) with ⟨_, z⟩ | ⟨j, z, _⟩
    · exact z
    · rw [e] at z; cases z
  have eg : gapOf true lo ps x = lo x := rfl
  rw [eg] at ha
  have hB2 := hB.left h hso hs c
  exact Or.inr ⟨rfl, hB2.ne (by omega), _, ha, hB2.so h hso (by omega)⟩
theorem PutP.newR (h : TX np m f lo hi ps S) (hso : ∀ i j, S i → S j → ps i < ps j → ky i < ky j) {x : Nat} (hs : S x) (hB : BR ps S ky K (lo x) (hi x)) (c : ky x < K) (e : f x 1 = none) (ha : AddP G ad np m M1 M f (fun k => if k = np then gapOf false lo ps x + 1 else shq (gapOf false lo ps x) (ps k)) S q0 v0) : PutP G ad np m M1 M f S ky q0 v0 K none := by
  have b := h.1.b (h.s hs)
  have hl : hi x = ps x + 1 := by
    rcases h.1.2.2.1 x (h.s hs) with ⟨_, z⟩ | ⟨j, z, _⟩
    · exact z
    · rw [e] at z; cases z
  have eg : gapOf false lo ps x = ps x := rfl
  rw [eg] at ha
  have hB2 := hB.right h hso hs c
  exact Or.inr ⟨rfl, hB2.ne (by omega), _, ha, hB2.so h hso (by omega)⟩
theorem TX.emp (h : TX np m f lo hi ps S) (ha : ∀ k, k < np → S k) (e : f 0 6 = none) : np = 0 ∧ (∀ k, ¬ S k) ∧ m = 0 := by
  have hs : ∀ k, ¬ S k := fun k hk => h.y.rot hk e
  refine ⟨?_, hs, ?_⟩
  · rcases Nat.eq_zero_or_pos np with z | z
    · exact z
    · exact absurd (ha 0 z) (hs 0)
  · rcases h.1.2.2.2.2.1 with ⟨_, z, _⟩ | ⟨r, z, _⟩
    · exact z
    · rw [e] at z; cases z
theorem PutP.emp (h : TX np m f lo hi ps S) (ha : ∀ k, k < np → S k) (e : f 0 6 = none) (hp : AddP G ad np 0 M1 M f (fun _ => 1) S q0 v0) : PutP G ad np m M1 M f S ky q0 v0 K none := by
  obtain ⟨e1, e2, e3⟩ := h.emp ha e
  refine Or.inr ⟨rfl, fun k hk => absurd hk (e2 k), fun _ => 1, by rw [e3]; exact hp, fun i j _ _ z => absurd z (Nat.lt_irrefl _)⟩
end TC
set_option maxHeartbeats 4000000 in
set_option maxRecDepth 100000 in
theorem ct_put3 (l : Launch) (G : mg) (A : Nat → Prop) (ad : Nat → Nat) (np : Nat) (M1 : mh) (f : tT) (mm : Nat) (lo hi ps : Nat → Nat) (S : Nat → Prop) (ky : Nat → Int32) (q0 v0 : Nat) (K : Int32) (hM : Tm G ad np M1 M1 f) (hX : TX np mm f lo hi ps S) (hall : ∀ k, k < np → S k) (hso : ∀ i j, S i → S j → ps i < ps j → ky i < ky j) (hk : ∀ k, S k → ∃ a, f k 4 = some a ∧ bxo G ad np M1 a (ky k)) (h_q0 : bxo G ad np M1 q0 K) : Met l yJ20_put_2 (ws_ yJ20_put_2 cJ20_put_2 10 (some (.object "java/lang/Object"))) ({ frames := 5, cells := 1, slots := 6, locals := 107 }) (va_Pc [.ref (ad 0), .ref q0, .ref v0, .int (1 : Int32)] (mU G A (fun M => M = M1))) (mQq G A (fun r M => PutP G ad np mm M1 M f S ky q0 v0 K r)) 1 6 A := by
  refine mx_ofq (Or.inl ⟨_, rfl⟩) (by decide) (Nat.le_of_ble_eq_true rfl) ?_
  intro p e R s m av below meth c M H Q ls X hRf hRl hRc hRs hin eM w fin hl
  subst M
  have X : CallFix p m c cJ20_put_2 10 s av lw_all "java/util/TreeMap" := X
  have hx := X.1
  have hb := X.2.1
  have hl : lv_has ls 10 [(0, .ref (ad 0)), (1, .ref q0), (2, .ref v0), (3, .int (1 : Int32))] := hl
  have hRf : R.frames = 5 := hRf
  have hRl : R.locals = 107 := hRl
  have hRc : R.cells = 1 := hRc
  have hRs : R.slots = 6 := hRs
  generalize ([] : List Loc) = locs at w ⊢
  refine lv_aload_n hx hb dJ20_put_2_0 rfl (lv_at hl 0 rfl) ?_
  refine tm_root X w hM q927 dJ20_put_2_1 ?_
  refine mx_astoreQ (lv' := [(4, va_rf ((f 0 6).map fun k => ad (20 + k))), (0, .ref (ad 0)), (1, .ref q0), (2, .ref v0), (3, .int (1 : Int32))]) hx hb dJ20_put_2_4 hl (by decide) (by first | rfl | (simp only [List.filter, va_rf_cat]; rfl)) (fun ls hl => ?_)
  refine mx_aloadQ hx hb dJ20_put_2_6 (lv_at hl 0 rfl) ?_
  refine mx_ifnonnullP (tgt := 19) hx hb dJ20_put_2_8 (by decide) (fun c_8 => ?_) (fun c_8 => ?_)
  · skip
    have eo_8 : va_rf ((f 0 6).map fun k => ad (20 + k)) = .ref (ad (20 + ((f 0 6).getD 0))) := P_ref c_8
    refine lv_aload_n hx hb dJ20_put_2_19 rfl (lv_at hl 1 rfl) ?_
    refine tm_cmp X w hM q926 dJ20_put_2_20 ?_
    refine lv_astoreN (lv' := [(7, .null), (4, va_rf ((f 0 6).map fun k => ad (20 + k))), (0, .ref (ad 0)), (1, .ref q0), (2, .ref v0), (3, .int (1 : Int32))]) hx hb dJ20_put_2_23 hl (by decide) (by first | rfl | (simp only [List.filter, va_rf_cat]; rfl)) (fun ls hl => ?_)
    refine lv_aloadN hx hb dJ20_put_2_25 (lv_at hl 0 rfl) ?_
    refine lv_ifnullN (tgt := 112) hx hb dJ20_put_2_27 (by decide) ?_
    refine lv_aload_n hx hb dJ20_put_2_112 rfl (lv_at hl 3 rfl) ?_
    refine mx_bq w (va_runS (As := [.ref q0]) (rest := []) X (jt_req l G A M1 q0) (va_cwS 1 X.2.2.2.2 (lw_S q981 q982 q106 q983) rfl rfl rfl (by decide +kernel) ⟨by rw [hRf]; decide, by rw [hRl]; decide⟩) (mx_preS w rfl) rfl rfl hl.1 rfl (lv_room (Nat.le_of_ble_eq_true rfl)) dJ20_put_2_113 ⟨Nat.zero_le _, Nat.zero_le _⟩) (fun r M9 H locs hp w => ?_)
    obtain ⟨rfl, eM⟩ := hp; subst M9
    refine lv_pop hx hb dJ20_put_2_116 rfl ?_
    refine lv_aload_n hx hb dJ20_put_2_117 rfl (lv_at hl 3 rfl) ?_
    refine mx_boxcastU X w q984 (h_q0.at hM) dJ20_put_2_118 ?_
    refine lv_astore (lv' := [(8, .ref q0), (7, .null), (4, va_rf ((f 0 6).map fun k => ad (20 + k))), (0, .ref (ad 0)), (1, .ref q0), (2, .ref v0), (3, .int (1 : Int32))]) hx hb dJ20_put_2_121 hl (by decide) (by first | rfl | (simp only [List.filter, va_rf_cat]; rfl)) (fun ls hl => ?_)
    have L123 : ∀ (n_123 : Nat) (P4_123 : Option Nat) (M : mh) (H : Heap) (locs : List Loc) (ls : Array Slot), (hn123 : ¬ P4_123 = none) → (hO123 : OS S P4_123) → (hBr123 : ∀ t, P4_123 = some t → BR ps S ky K (lo t) (hi t)) → (hm123 : ∀ t, P4_123 = some t → hi t - lo t ≤ n_123) → lv_has ls 10 [(8, .ref q0), (0, .ref (ad 0)), (1, .ref q0), (2, .ref v0), (3, .int (1 : Int32)), (4, va_rf (P4_123.map fun k => ad (20 + k)))] → mW G A s M H locs → M = M1 → W p l e R s m av below meth c H locs 0 0 Q (F0 m 123 ls []) := by
      intro n_123
      induction n_123 with
      | zero =>
        intro P4_123 M H locs ls hn123 hO123 hBr123 hm123 hl w eM
        subst M
        exfalso; have hx123 := P_some hn123; have h1 := hX.s (hO123 _ hx123); have h2 := hm123 _ hx123; omega
      | succ n_123 ih_123 =>
        intro P4_123 M H locs ls hn123 hO123 hBr123 hm123 hl w eM
        subst M
        have hx123 := P_some hn123
        have hs123 : S (P4_123.getD 0) := hO123 _ hx123
        have hk123 := hX.y.lt hs123
        have hB123 := hBr123 _ hx123
        have hm123b := hm123 _ hx123
        have ek_123 : va_rf (P4_123.map fun k => ad (20 + k)) = .ref (ad (20 + P4_123.getD 0)) := P_ref (hn123)
        refine mx_aloadQ hx hb dJ20_put_2_123 (lv_at hl 5 rfl) ?_
        rw [ek_123]
        refine lv_astore (lv' := [(6, .ref (ad (20 + (P4_123.getD 0)))), (8, .ref q0), (0, .ref (ad 0)), (1, .ref q0), (2, .ref v0), (3, .int (1 : Int32)), (4, va_rf (P4_123.map fun k => ad (20 + k)))]) hx hb dJ20_put_2_125 hl (by decide) (by first | rfl | (simp only [List.filter, va_rf_cat]; rfl)) (fun ls hl => ?_)
        refine lv_aload hx hb dJ20_put_2_127 (lv_at hl 1 rfl) ?_
        refine mx_aloadQ hx hb dJ20_put_2_129 (lv_at hl 6 rfl) ?_
        rw [ek_123]
        refine tm_get (v := va_rf (f (P4_123.getD 0) 4)) X w hM (k := (P4_123.getD 0)) (by first | omega | assumption) 0 (by decide) q1274 rfl dJ20_put_2_131 ?_
        obtain ⟨a_131, ea_131, hb_131⟩ := hk _ hs123
        rw [ea_131]
        refine mx_cmpTo X w q986 (h_q0.at hM) (hb_131.at hM) (by rw [hRf]; decide) (by rw [hRl]; exact Nat.le_of_ble_eq_true rfl) hl.1 (Nat.le_of_ble_eq_true rfl) (Nat.zero_le _) (Nat.zero_le _) dJ20_put_2_134 (fun H locs w => ?_)
        refine lv_istore (lv' := [(5, .int (cf_icmpO K (ky (P4_123.getD 0)))), (6, .ref (ad (20 + (P4_123.getD 0)))), (8, .ref q0), (0, .ref (ad 0)), (1, .ref q0), (2, .ref v0), (3, .int (1 : Int32)), (4, va_rf (P4_123.map fun k => ad (20 + k)))]) hx hb dJ20_put_2_139 hl (by decide) (by first | rfl | (simp only [List.filter, va_rf_cat]; rfl)) (fun ls hl => ?_)
        refine lv_iload hx hb dJ20_put_2_141 (lv_at hl 0 rfl) ?_
        have J196 : ∀ (P4_196 : Option Nat) (M : mh) (H : Heap) (locs : List Loc) (ls : Array Slot), (h196 : (P4_196 = f (P4_123.getD 0) 0 ∧ K < ky (P4_123.getD 0)) ∨ (P4_196 = f (P4_123.getD 0) 1 ∧ ky (P4_123.getD 0) < K)) → lv_has ls 10 [(5, .int (cf_icmpO K (ky (P4_123.getD 0)))), (6, .ref (ad (20 + (P4_123.getD 0)))), (8, .ref q0), (0, .ref (ad 0)), (1, .ref q0), (2, .ref v0), (3, .int (1 : Int32)), (4, va_rf (P4_196.map fun k => ad (20 + k)))] → mW G A s M H locs → M = M1 → W p l e R s m av below meth c H locs 0 0 Q (F0 m 196 ls []) := by
          intro P4_196 M H locs ls h196 hl w eM
          subst M
          refine mx_aloadQ hx hb dJ20_put_2_196 (lv_at hl 7 rfl) ?_
          refine mx_ifnonnullP (tgt := 123) hx hb dJ20_put_2_198 (by decide) (fun c_198 => ?_) (fun c_198 => ?_)
          · skip
            have eo_198 : va_rf (P4_196.map fun k => ad (20 + k)) = .ref (ad (20 + (P4_196.getD 0))) := P_ref c_198
            have hst := fun (y : Nat) (e : P4_196 = some y) => BR.step hX hso hs123 hB123 h196 e
            exact ih_123 P4_196 M1 H locs ls (by first | omega | assumption | exact c_198) (by first | omega | assumption | exact (fun y e => (hst y e).1)) (by first | omega | assumption | exact (fun y e => (hst y e).2.1)) (by first | omega | assumption | exact (fun y e => by have := (hst y e).2.2; omega)) (lv_sub hl [2, 3, 4, 5, 6, 7] rfl) w rfl
          · skip
            refine lv_aload_n hx hb dJ20_put_2_201 rfl (lv_at hl 3 rfl) ?_
            refine lv_aload_n hx hb dJ20_put_2_202 rfl (lv_at hl 4 rfl) ?_
            refine lv_aload_n hx hb dJ20_put_2_203 rfl (lv_at hl 5 rfl) ?_
            refine lv_aload hx hb dJ20_put_2_204 (lv_at hl 1 rfl) ?_
            refine lv_iload hx hb dJ20_put_2_206 (lv_at hl 0 rfl) ?_
            refine lv_if_ge (tgt := 215) hx hb dJ20_put_2_208 (by decide) (fun c_208 => ?_) (fun c_208 => ?_)
            · skip
              have c_208x : ¬ K < ky (P4_123.getD 0) := fun q => absurd c_208 (by rw [icmp_v, if_pos q]; decide)
              have hn201R : f (P4_123.getD 0) 1 = none := by rcases h196 with q | q; exact absurd q.2 c_208x; exact q.1.symm.trans c_198
              refine lv_iconst (v := (0 : Int32)) hx hb dJ20_put_2_215 (by decide) ?_
              refine mx_bv w (va_runV (As := [.ref q0, .ref v0, .ref (ad (20 + (P4_123.getD 0))), .int (bI false)]) (rest := []) X (ct_addE l G A ad np M1 f mm lo hi ps S q0 v0 (P4_123.getD 0) false hM hX hall hs123 (by first | exact Or.inl ⟨rfl, hn201L⟩ | exact Or.inr ⟨rfl, hn201R⟩)) (cwV 4 X.2.2.2.2 (lw_V q1296 q1298 qs16 q127 q1299) rfl rfl rfl (by decide +kernel) ⟨by rw [hRf]; decide, by rw [hRl]; decide⟩) (mx_preV w rfl hM.st rfl) rfl rfl hl.1 rfl (lv_room (Nat.le_of_ble_eq_true rfl)) dJ20_put_2_216 ⟨by rw [hRc]; omega, by rw [hRs]; omega⟩) (fun M H locs hp_216 w => ?_)
              refine lv_null hx hb dJ20_put_2_219 ?_
              exact fin none M H locs ls 220 dJ20_put_2_220 (by first | exact Or.inl ⟨_, hs123, icmp_eq c_143 c_158, hM, rfl⟩ | exact PutP.emp hX hall c_8 hp_14 | exact PutP.newL hX hso hs123 hB123 (icmp_lt c_208) hn201L hp_216 | exact PutP.newR hX hso hs123 hB123 (h196.resolve_left (fun q => c_208x q.2)).2 hn201R hp_216) w
            · skip
              have hn201L : f (P4_123.getD 0) 0 = none := by rcases h196 with q | q; exact q.1.symm.trans c_198; exact absurd (Int32.lt_trans q.2 (icmp_lt c_208)) Int32.lt_irrefl
              refine lv_iconst (v := (1 : Int32)) hx hb dJ20_put_2_211 (by decide) ?_
              refine lv_goto (tgt := 216) hx hb dJ20_put_2_212 (by decide) ?_
              refine mx_bv w (va_runV (As := [.ref q0, .ref v0, .ref (ad (20 + (P4_123.getD 0))), .int (bI true)]) (rest := []) X (ct_addE l G A ad np M1 f mm lo hi ps S q0 v0 (P4_123.getD 0) true hM hX hall hs123 (by first | exact Or.inl ⟨rfl, hn201L⟩ | exact Or.inr ⟨rfl, hn201R⟩)) (cwV 4 X.2.2.2.2 (lw_V q1296 q1298 qs16 q127 q1299) rfl rfl rfl (by decide +kernel) ⟨by rw [hRf]; decide, by rw [hRl]; decide⟩) (mx_preV w rfl hM.st rfl) rfl rfl hl.1 rfl (lv_room (Nat.le_of_ble_eq_true rfl)) dJ20_put_2_216 ⟨by rw [hRc]; omega, by rw [hRs]; omega⟩) (fun M H locs hp_216 w => ?_)
              refine lv_null hx hb dJ20_put_2_219 ?_
              exact fin none M H locs ls 220 dJ20_put_2_220 (by first | exact Or.inl ⟨_, hs123, icmp_eq c_143 c_158, hM, rfl⟩ | exact PutP.emp hX hall c_8 hp_14 | exact PutP.newL hX hso hs123 hB123 (icmp_lt c_208) hn201L hp_216 | exact PutP.newR hX hso hs123 hB123 (h196.resolve_left (fun q => c_208x q.2)).2 hn201R hp_216) w
        refine lv_if_ge (tgt := 156) hx hb dJ20_put_2_143 (by decide) (fun c_143 => ?_) (fun c_143 => ?_)
        · skip
          refine lv_iload hx hb dJ20_put_2_156 (lv_at hl 0 rfl) ?_
          refine lv_if_le (tgt := 171) hx hb dJ20_put_2_158 (by decide) (fun c_158 => ?_) (fun c_158 => ?_)
          · skip
            refine mx_aloadQ hx hb dJ20_put_2_171 (lv_at hl 7 rfl) ?_
            rw [ek_123]
            refine tm_get (v := va_rf (f (P4_123.getD 0) 5)) X w hM (k := (P4_123.getD 0)) (by first | omega | assumption) 1 (by decide) q1276 rfl dJ20_put_2_173 ?_
            refine mx_astoreQ (lv' := [(9, va_rf (f (P4_123.getD 0) 5)), (5, .int (cf_icmpO K (ky (P4_123.getD 0)))), (6, .ref (ad (20 + (P4_123.getD 0)))), (8, .ref q0), (0, .ref (ad 0)), (1, .ref q0), (2, .ref v0), (3, .int (1 : Int32)), (4, va_rf (P4_123.map fun k => ad (20 + k)))]) hx hb dJ20_put_2_176 hl (by decide) (by first | rfl | (simp only [List.filter, va_rf_cat]; rfl)) (fun ls hl => ?_)
            refine lv_iload_n hx hb dJ20_put_2_178 rfl (lv_at hl 7 rfl) ?_
            refine lv_if_ne (tgt := 187) hx hb dJ20_put_2_179 (by decide) (fun c_179 => ?_) (fun c_179 => absurd c_179 (by decide))
            refine mx_aloadQ hx hb dJ20_put_2_187 (lv_at hl 8 rfl) ?_
            rw [ek_123]
            refine lv_aload_n hx hb dJ20_put_2_189 rfl (lv_at hl 6 rfl) ?_
            refine tm_putQ (o := some v0) X w hM (k := (P4_123.getD 0)) (by first | omega | assumption) 1 (by decide) q1276 dJ20_put_2_190 (fun M H locs w hM => ?_)
            refine mx_aloadQ hx hb dJ20_put_2_193 (lv_at hl 0 rfl) ?_
            refine W.widen (k := 1) (n := 6) (by omega) (by omega) ?_
            exact fin (f (P4_123.getD 0) 5) M H locs ls 195 dJ20_put_2_195 (by first | exact Or.inl ⟨_, hs123, icmp_eq c_143 c_158, hM, rfl⟩ | exact PutP.emp hX hall c_8 hp_14 | exact PutP.newL hX hso hs123 hB123 (icmp_lt c_208) hn201L hp_216 | exact PutP.newR hX hso hs123 hB123 (h196.resolve_left (fun q => c_208x q.2)).2 hn201R hp_216) w
          · skip
            refine mx_aloadQ hx hb dJ20_put_2_161 (lv_at hl 7 rfl) ?_
            rw [ek_123]
            refine tm_get (v := va_rf ((f (P4_123.getD 0) 1).map fun k => ad (20 + k))) X w hM (k := (P4_123.getD 0)) (by first | omega | assumption) 3 (by decide) q1278 rfl dJ20_put_2_163 ?_
            refine mx_astoreQ (lv' := [(4, va_rf ((f (P4_123.getD 0) 1).map fun k => ad (20 + k))), (5, .int (cf_icmpO K (ky (P4_123.getD 0)))), (6, .ref (ad (20 + (P4_123.getD 0)))), (8, .ref q0), (0, .ref (ad 0)), (1, .ref q0), (2, .ref v0), (3, .int (1 : Int32))]) hx hb dJ20_put_2_166 hl (by decide) (by first | rfl | (simp only [List.filter, va_rf_cat]; rfl)) (fun ls hl => ?_)
            refine lv_goto (tgt := 196) hx hb dJ20_put_2_168 (by decide) ?_
            exact J196 (f (P4_123.getD 0) 1) M1 H locs ls (by first | exact Or.inl ⟨rfl, icmp_lt c_143⟩ | exact Or.inr ⟨rfl, icmp_gt c_158⟩) (lv_sub hl [1, 2, 3, 4, 5, 6, 7, 0] rfl) w rfl
        · skip
          refine mx_aloadQ hx hb dJ20_put_2_146 (lv_at hl 7 rfl) ?_
          rw [ek_123]
          refine tm_get (v := va_rf ((f (P4_123.getD 0) 0).map fun k => ad (20 + k))) X w hM (k := (P4_123.getD 0)) (by first | omega | assumption) 2 (by decide) q1277 rfl dJ20_put_2_148 ?_
          refine mx_astoreQ (lv' := [(4, va_rf ((f (P4_123.getD 0) 0).map fun k => ad (20 + k))), (5, .int (cf_icmpO K (ky (P4_123.getD 0)))), (6, .ref (ad (20 + (P4_123.getD 0)))), (8, .ref q0), (0, .ref (ad 0)), (1, .ref q0), (2, .ref v0), (3, .int (1 : Int32))]) hx hb dJ20_put_2_151 hl (by decide) (by first | rfl | (simp only [List.filter, va_rf_cat]; rfl)) (fun ls hl => ?_)
          refine lv_goto (tgt := 196) hx hb dJ20_put_2_153 (by decide) ?_
          exact J196 (f (P4_123.getD 0) 0) M1 H locs ls (by first | exact Or.inl ⟨rfl, icmp_lt c_143⟩ | exact Or.inr ⟨rfl, icmp_gt c_158⟩) (lv_sub hl [1, 2, 3, 4, 5, 6, 7, 0] rfl) w rfl
    exact L123 (mm + 1) (f 0 6) M1 H locs ls (by first | omega | assumption | exact c_8) (by first | omega | assumption | exact (OS.rt hX.y)) (by first | omega | assumption | exact (fun t e => BR.root hX e)) (by first | omega | assumption | exact (fun t e => by have := hX.1.rt e; omega)) (lv_sub hl [0, 3, 4, 5, 6, 2] rfl) w rfl
  · skip
    refine lv_aload_n hx hb dJ20_put_2_11 rfl (lv_at hl 1 rfl) ?_
    refine lv_aload_n hx hb dJ20_put_2_12 rfl (lv_at hl 2 rfl) ?_
    refine lv_aload_n hx hb dJ20_put_2_13 rfl (lv_at hl 3 rfl) ?_
    refine mx_bv w (va_runV (As := [.ref q0, .ref v0]) (rest := []) X (ct_addM l G A ad np M1 f S q0 v0 K hM (hX.emp hall c_8).1 (hX.emp hall c_8).2.1 c_8 h_q0) (cwV 2 X.2.2.2.2 (lw_V q1259 q1261 qs15 q127 q1262) rfl rfl rfl (by decide +kernel) ⟨by rw [hRf]; decide, by rw [hRl]; decide⟩) (mx_preV w rfl hM.st rfl) rfl rfl hl.1 rfl (lv_room (Nat.le_of_ble_eq_true rfl)) dJ20_put_2_14 ⟨by rw [hRc]; omega, by rw [hRs]; omega⟩) (fun M H locs hp_14 w => ?_)
    refine lv_null hx hb dJ20_put_2_17 ?_
    exact fin none M H locs ls 18 dJ20_put_2_18 (by first | exact Or.inl ⟨_, hs123, icmp_eq c_143 c_158, hM, rfl⟩ | exact PutP.emp hX hall c_8 hp_14 | exact PutP.newL hX hso hs123 hB123 (icmp_lt c_208) hn201L hp_216 | exact PutP.newR hX hso hs123 hB123 (h196.resolve_left (fun q => c_208x q.2)).2 hn201R hp_216) w
