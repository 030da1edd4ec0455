set_option maxRecDepth 100000
/-! PU: pump -/
/-! PM: a pump added -/
def pmX (kd sh st : Int32) : Nat → Int32 := fun w => if w = 0 then kd else if w = 1 then sh else if w = 2 then st else if w = 3 then 1 else 0
def pmC (nb : Int32) (x : Nat → Int32) : va_E := .inr (4 + tN (x 0), [.int nb, .int (x 1), .int (x 2), .int (1 - x 3), .int (x 4), .int (x 5), .int (x 6), .int (x 7)])
theorem ct_made (l : Launch) (G : mg) (A : Nat → Prop) (M1 : mh) (kd nb sh st : Int32) (hk : rg kd 2) : Met l yX0_made (ws_ yX0_made cX0_made 4 (some (.object "FieldPumps$Pump"))) ({ frames := 4, cells := 1, slots := 8, locals := 81 }) (va_Pc [.int kd, .int nb, .int sh, .int st] (mU G A (fun M => M = M1))) (mQq G A (fun r M => ∃ q : Nat, M1 q = none ∧ r = some q ∧ M q = some (pmC nb (pmX kd sh st)) ∧ ∀ a, a ≠ q → M a = M1 a)) 1 8 A := by
  have key : ∀ (ci : Nat) (M : mh) (q : Nat) (x y z : Option va_E) (u : va_E), M = va_up (va_up (va_up (va_up M1 q x) q y) q z) q (some u) → M q = some u ∧ ∀ a, a ≠ q → M a = M1 a := fun ci M q x y z u e => by
    rw [e]
    exact ⟨va_up_s, fun a ha => by rw [va_up_k ha, va_up_k ha, va_up_k ha, va_up_k ha]⟩
  have e3 : (1 : Int32) - 1 = 0 := by decide
  obtain ⟨j, hj, rfl⟩ := hk
  have cc : ∀ j, j ≤ 2 → (Sum.inr (4 + j, [.int nb, .int sh, .int st, .int (0 : Int32), .int (0 : Int32), .int (0 : Int32), .int (0 : Int32), .int (0 : Int32)]) : va_E) = pmC nb (pmX (nI j) sh st) := fun j hj => by
    have e0 : tN (pmX (nI j) sh st 0) = j := tN_nI (by omega)
    unfold pmC
    rw [e0, show pmX (nI j) sh st 3 = 1 from rfl, e3]
    rfl
  obtain rfl | rfl | rfl : j = 0 ∨ j = 1 ∨ j = 2 := by omega
  · refine Met_q (Met_room (jt_made0 l G A M1 nb sh st) (by decide) (by decide) (by decide) (by decide) (Nat.le_refl _) (Nat.le_refl _)) fun r M h => ?_
    obtain ⟨q, z, e, eM⟩ := h
    obtain ⟨k1, k2⟩ := key 4 M q _ _ _ _ eM
    exact ⟨q, z, e, by rw [k1]; exact congrArg some (cc 0 (by decide)), k2⟩
  · refine Met_q (Met_room (jt_made1 l G A M1 nb sh st) (by decide) (by decide) (by decide) (by decide) (Nat.le_refl _) (Nat.le_refl _)) fun r M h => ?_
    obtain ⟨q, z, e, eM⟩ := h
    obtain ⟨k1, k2⟩ := key 5 M q _ _ _ _ eM
    exact ⟨q, z, e, by rw [k1]; exact congrArg some (cc 1 (by decide)), k2⟩
  · refine Met_q (Met_room (jt_made2 l G A M1 nb sh st) (by decide) (by decide) (by decide) (by decide) (Nat.le_refl _) (Nat.le_refl _)) fun r M h => ?_
    obtain ⟨q, z, e, eM⟩ := h
    obtain ⟨k1, k2⟩ := key 6 M q _ _ _ _ eM
    exact ⟨q, z, e, by rw [k1]; exact congrArg some (cc 2 (by decide)), k2⟩
def pz (p : Nat) : Nat → Nat → (Nat → Nat → Int32) → (Nat → Nat → Int32)
  | 0, _, u => u
  | m + 1, k, u => pz p m (k + 1) (mf_put u p k 0)
def pzf (p : Nat) : Nat → Nat → (Nat → Int32) → (Nat → Int32)
  | 0, _, u => u
  | m + 1, k, u => pzf p m (k + 1) (upd u (39 + (8 * p) + k) 0)
def pmV (p : Nat) (kd sh st : Int32) (u : Nat → Nat → Int32) : Nat → Nat → Int32 := mf_put (mf_put (mf_put (mf_put u p 0 kd) p 1 sh) p 2 st) p 3 1
def pmG (f : Nat → Int32) (p : Nat) (kd sh st : Int32) : Nat → Int32 := upd (upd (upd (upd (pzf p 8 0 f) (39 + (8 * p) + 0) kd) (39 + (8 * p) + 1) sh) (39 + (8 * p) + 2) st) (39 + (8 * p) + 3) 1
section PM2
variable {hn tl hn2 tl2 : Nat} {f g : Nat → Int32} {fs fs2 : Nat → Nat → Int32} {tb tb2 : Nat → Int32} {v : Nat → Nat → Int32} {s kd sh stp : Int32} {np nz ng T : Nat}
theorem pzf_at (p q : Nat) : ∀ m k (u : Nat → Int32), pzf p m k u q = if 39 + (8 * p) + k ≤ q ∧ q < 39 + (8 * p) + k + m then 0 else u q := by
  intro m
  induction m with
  | zero => intro k u; rw [pzf, if_neg (by omega)]
  | succ m ih =>
    intro k u
    rw [pzf, ih]
    by_cases c : q = 39 + (8 * p) + k
    · rw [if_neg (by omega), if_pos (by omega), c, pk_us]
    · rw [pk_un c]
      by_cases d : 39 + (8 * p) + (k + 1) ≤ q ∧ q < 39 + (8 * p) + (k + 1) + m
      · rw [if_pos d, if_pos (by omega)]
      · rw [if_neg d, if_neg (by omega)]
theorem pz_rel {p : Nat} (hp : p < 6) : ∀ m k (u : Nat → Nat → Int32) (g : Nat → Int32), k + m ≤ 8 → RelV u s g hn fs tl tb → RelV (pz p m k u) s (pzf p m k g) hn fs tl tb := by
  intro m
  induction m with
  | zero => intro k u g _ h; exact h
  | succ m ih =>
    intro k u g hk h
    rw [pz, pzf]
    exact ih (k + 1) _ _ (by omega) (h.up1 (p := 39 + (8 * p) + k) (by omega) (by omega) (by omega))
theorem pump_lp {w57 : Nat → Nat → Int32} {p : Nat} (ev : nC (v 1) 14 = p) : ∀ (n k : Nat) (u : Nat → Nat → Int32), k ≤ 8 → 8 < k + n → mf_pump_72 v kd sh stp w57 n k u = (nI p, u2 (pmV p kd sh stp (pz p (8 - k) k u)) 1 14 (pmV p kd sh stp (pz p (8 - k) k u) 1 14 + 1)) := by
  intro n
  induction n with
  | zero => intro k u h1 h2; exfalso; omega
  | succ n ih =>
    intro k u h1 h2
    rw [mf_pump_72]
    by_cases c : 8 ≤ k
    · rw [if_pos c, mf_pump_c99, mf_pump_c107, mf_pump_c115, mf_pump_c123, ev, show 8 - k = 0 by omega, pz]
      rfl
    · rw [if_neg c, mf_pump_c85, ev, ih (k + 1) _ (by omega) (by omega), show 8 - k = (8 - (k + 1)) + 1 by omega, pz]
theorem pump_r {M9 M5 : mh} {ad : Nat → Nat} {pq q e2 : Nat} (h2 : (np = 0 ∧ M5 e2 = none) ∨ (np ≠ 0 ∧ e2 = ad 2)) (zpq : M9 pq = none) (zq : M5 q = none) (hk5 : ∀ a, a ≠ pq → M5 a = M9 a) (hp : np < 6) : ∀ r, r < 32 → (∃ r', r' < 32 ∧ aPa ad np pq q e2 r = ad r') ∨ M9 (aPa ad np pq q e2 r) = none := fun r hr => by
  have nn9 : ∀ {a : Nat}, M5 a = none → M9 a = none := fun {a} z => by
    by_cases d : a = pq
    · rw [d]; exact zpq
    · rw [← hk5 a d]; exact z
  by_cases c1 : r = 20 + np
  · rw [c1, aPa_p]; exact Or.inr zpq
  · by_cases c2 : r = 26 + np
    · rw [c2, aPa_q]; exact Or.inr (nn9 zq)
    · by_cases c3 : r = 2
      · rw [c3, aPa_2]
        rcases h2 with ⟨-, z⟩ | ⟨-, z⟩
        · exact Or.inr (nn9 z)
        · exact Or.inl ⟨2, by decide, z⟩
      · exact Or.inl ⟨r, hr, aPa_o c1 c2 c3⟩
theorem SI.pumpN (hS : SI T np nz ng f) (hp : np < 6) (hk : rg kd 2) (hs : rgl sh 100 2000) (ht : rgl stp 1 1000) : SI T (np + 1) nz ng (aPf f np (pmX kd sh stp)) := by
  have z8 := hS.ip.z8
  have g8 := hS.ip.g8
  have hb : np + 1 ≤ 6 ∧ nz ≤ 8 ∧ ng ≤ 8 := ⟨by omega, z8, g8⟩
  have hI : IP T (np + 1) nz ng (Rf (aPf f np (pmX kd sh stp))) := by
    refine hS.ip.to ⟨hS.ip.1.1, hb⟩ fun i hi => ?_
    by_cases c0 : 127 ≤ i
    · exact okc_free hb (Or.inr c0)
    · rw [Rf_at (by omega)] at hi ⊢
      by_cases c14 : i = 14
      · rw [c14, aPf_14]; exact okc_14 hb rfl
      · by_cases cp : 39 + (8 * np) ≤ i ∧ i < 39 + (8 * np) + 8
        · obtain ⟨w, hw, rfl⟩ : ∃ w, w < 8 ∧ i = 39 + (8 * np) + w := ⟨i - (39 + (8 * np)), by omega, by omega⟩
          rw [aPf_x hw]
          refine okc_pump hb hp hw fun _ => ⟨fun z => by rw [z]; exact hk, fun z => by rw [z]; exact hs, fun z => by rw [z]; exact ht, fun z => by rw [z]; exact rg_1 (Nat.le_refl _), fun z => by rw [z]; exact rg_0⟩
        · rw [aPf_o (by omega) c14 (by omega)]
          have q0 : ∀ k w, k < np + 1 → w < 8 → i = 39 + (8 * k) + w → k < np := fun k w hk hw e => by omega
          have q1 : ∀ j, j < np → j < np + 1 := fun j hj => by omega
          generalize f i = y at hi ⊢
          obtain ⟨a0, a1, a2, a3, a4, a5, a6, a14, a15, a16, a17, a18, a19, aset, apm, aop, adm, apz, apf, apt⟩ := hi
          refine ⟨a0, a1, a2, a3, fun z => ?_, a5, a6, fun z => absurd z c14, a15, a16, a17, a18, a19, aset, fun k w hk hw e => apm k w (q0 k w hk hw e) hw e, aop, adm, apz, apf, apt⟩
          rcases a4 z with z | ⟨j, j1, j2⟩
          · exact Or.inl z
          · exact Or.inr ⟨j, q1 j j1, j2⟩
  refine ⟨hI, fun k hk' => ?_, ?_, hS.vr.cong ?_ (fun d => ?_) (fun d => ?_)⟩
  · by_cases c : k = np
    · rw [c, aPf_x (by decide)]; exact rg_0
    · rw [aPf_o (by omega) (by omega) (by omega)]; exact hS.2.1 k (by omega)
  · rw [aPf_o (by omega) (by decide) (by decide)]; exact hS.q
  · rw [aPf_o (by omega) (by decide) (by decide)]
  · obtain ⟨e5, h5⟩ := isP_n hS.var d (by omega)
    rw [aPf_o (by omega) (by omega) (by omega)]
  · obtain ⟨e5, h5⟩ := isP_n hS.var d (by omega)
    rw [aPf_o (by omega) (by omega) (by omega)]
theorem pump_v (hp : np < 6) {w : Nat → Nat → Int32} : Vf w s (z7 (aPf f np (pmX kd sh stp))) = Vf w s (z7 (upd (pmG f np kd sh stp) 14 (nI (np + 1)))) := by
  refine Vf_q fun q hq => ?_
  unfold z7
  by_cases c7 : q = 177
  · rw [c7, pk_us, pk_us]
  rw [pk_un c7, pk_un c7]
  by_cases c14 : q = 14
  · rw [c14, pk_us, aPf_14]
  · rw [pk_un c14]
    unfold pmG
    by_cases cp : 39 + (8 * np) ≤ q ∧ q < 39 + (8 * np) + 8
    · obtain ⟨j, hj, rfl⟩ : ∃ j, j < 8 ∧ q = 39 + (8 * np) + j := ⟨q - (39 + (8 * np)), by omega, by omega⟩
      rw [aPf_x hj]
      by_cases c3 : j = 3
      · rw [c3, pk_us]; rfl
      · rw [pk_un (by omega)]
        by_cases c2 : j = 2
        · rw [c2, pk_us]; rfl
        · rw [pk_un (by omega)]
          by_cases c1 : j = 1
          · rw [c1, pk_us]; rfl
          · rw [pk_un (by omega)]
            by_cases c0 : j = 0
            · rw [c0, pk_us]; rfl
            · rw [pk_un (by omega), pzf_at, if_pos (by omega)]
              unfold pmX
              rw [if_neg c0, if_neg c1, if_neg c2, if_neg c3]
    · rw [aPf_o (by omega) c14 (by omega), pk_un (by omega), pk_un (by omega), pk_un (by omega), pk_un (by omega), pzf_at, if_neg (by omega)]
theorem pump_a (c : ¬ cf_isBetween kd.toInt64 (0 : Int64) (2 : Int64) = true) : mf_pump v kd sh stp = (-1000001, v) := by
  have c' : ¬ mf_in kd.toInt64 (0 : Int64) (2 : Int64) = true := c
  rw [mf_pump, if_neg c', mf_pump_38]
theorem pump_b (c : ¬ cf_isBetween sh.toInt64 (100 : Int64) (2000 : Int64) = true) : mf_pump v kd sh stp = (-1000001, v) := by
  have c' : ¬ mf_in sh.toInt64 (100 : Int64) (2000 : Int64) = true := c
  rw [mf_pump, if_neg c', mf_pump_38]
  split <;> rfl
theorem pump_c (c : ¬ cf_isBetween stp.toInt64 (1 : Int64) (1000 : Int64) = true) : mf_pump v kd sh stp = (-1000001, v) := by
  have c' : ¬ mf_in stp.toInt64 (1 : Int64) (1000 : Int64) = true := c
  rw [mf_pump, if_neg c', mf_pump_38]
  split
  · split <;> rfl
  · rfl
theorem pump_d (h : RelV v s f hn fs tl tb) (hS : SI T np nz ng f) (c : cf_isBetween kd.toInt64 (0 : Int64) (2 : Int64) = true) (d : cf_isBetween sh.toInt64 (100 : Int64) (2000 : Int64) = true) (e : cf_isBetween stp.toInt64 (1 : Int64) (1000 : Int64) = true) (g6 : np = 6) : mf_pump v kd sh stp = (-1000003, v) := by
  have c' : mf_in kd.toInt64 (0 : Int64) (2 : Int64) = true := c
  have d' : mf_in sh.toInt64 (100 : Int64) (2000 : Int64) = true := d
  have e' : mf_in stp.toInt64 (1 : Int64) (1000 : Int64) = true := e
  have e14 : f 14 = nI np := hS.ip.enp
  have e17 : v 1 14 = 6 := by rw [h.a (by decide), e14, g6]; rfl
  rw [mf_pump, if_pos c', if_pos d', if_pos e', if_pos e17]
theorem pump_1 (h : RelV v s f hn fs tl tb) (h1 : RelV (mf_save v) s f hn2 fs2 tl2 tb2) (hS : SI T np nz ng f) (c : cf_isBetween kd.toInt64 (0 : Int64) (2 : Int64) = true) (d : cf_isBetween sh.toInt64 (100 : Int64) (2000 : Int64) = true) (e : cf_isBetween stp.toInt64 (1 : Int64) (1000 : Int64) = true) (g6 : np < 6) : ∃ v2, mf_pump v kd sh stp = (nI np, v2) ∧ RelV v2 s (aPf f np (pmX kd sh stp)) hn2 fs2 tl2 tb2 := by
  have c' : mf_in kd.toInt64 (0 : Int64) (2 : Int64) = true := c
  have d' : mf_in sh.toInt64 (100 : Int64) (2000 : Int64) = true := d
  have e' : mf_in stp.toInt64 (1 : Int64) (1000 : Int64) = true := e
  have e14 : f 14 = nI np := hS.ip.enp
  have ev : nC (v 1) 14 = np := nC_of ((h.a (by decide)).trans e14) (by omega)
  have n8 : ¬ v 1 14 = 6 := fun z => by
    have e17 : v 1 14 = nI np := (h.a (by decide)).trans e14
    have := congrArg tN (e17.symm.trans z)
    rw [tN_nI (by omega)] at this
    have e9 : tN 6 = 6 := rfl
    omega
  have r1 : RelV (pmV np kd sh stp (pz np 8 0 (mf_save v))) s (pmG f np kd sh stp) hn2 fs2 tl2 tb2 :=
    ((((pz_rel g6 8 0 _ _ (by decide) h1).up1 (p := 39 + (8 * np) + 0) (by omega) (by omega) (by omega)).up1 (p := 39 + (8 * np) + 1) (by omega) (by omega) (by omega)).up1 (p := 39 + (8 * np) + 2) (by omega) (by omega) (by omega)).up1 (p := 39 + (8 * np) + 3) (by omega) (by omega) (by omega)
  have g14 : pmG f np kd sh stp 14 = nI np := by
    unfold pmG
    rw [pk_un (by omega), pk_un (by omega), pk_un (by omega), pk_un (by omega), pzf_at, if_neg (by omega), e14]
  have ex : pmV np kd sh stp (pz np 8 0 (mf_save v)) 1 14 + 1 = nI (np + 1) := by
    rw [r1.a (by decide), g14, show (1 : Int32) = nI 1 from rfl, nI_add]
  have r2 : RelV (u2 (pmV np kd sh stp (pz np 8 0 (mf_save v))) 1 14 (nI (np + 1))) s (upd (pmG f np kd sh stp) 14 (nI (np + 1))) hn2 fs2 tl2 tb2 := r1.up1 (by decide) (by decide) (by decide)
  refine ⟨u2 (pmV np kd sh stp (pz np 8 0 (mf_save v))) 1 14 (nI (np + 1)), ?_, r2.of1 (by rw [pump_v g6]; exact congrFun r2.2.1 1) (fun r hr => rfl)⟩
  rw [mf_pump, if_pos c', if_pos d', if_pos e', if_neg n8, mf_pump_c57, pump_lp ev 10 0 _ (by decide) (by decide), show 8 - 0 = 8 from rfl, ex]
end PM2

set_option maxHeartbeats 4000000 in
set_option maxRecDepth 100000 in
theorem ct_pump (l : Launch) (G : mg) (A : Nat → Prop) (M1 : mh) (fo : Nat) (Z : Nat → Prop) (v : Nat → Nat → Int32) (hW : CWP G fo Z M1 v) (kd sh stp : Int32) : Met l yX0_pump (ws_ yX0_pump cX0_pump 5 (some .int)) ({ frames := 8, cells := 64, slots := 460, locals := 3156 }) (va_Pc [.ref fo, .int kd, .int sh, .int stp] (mU G A (fun M => M = M1))) (mQi G A (fun r M => r = (mf_pump v kd sh stp).1 ∧ CWP G fo Z M (mf_pump v kd sh stp).2 ∧ ∀ q, Z q → M q = M1 q)) 64 460 A := by
  refine mx_ofi (by decide) (Nat.le_of_ble_eq_true rfl) ?_
  intro p e R s m av below meth c M H Q ls X hRf hRl hRc hRs hin eM w fin hl
  subst M
  have X : CallFix p m c cX0_pump 5 s av lw_all "FieldPumps" := X
  have hx := X.1
  have hb := X.2.1
  have hl : lv_has ls 5 [(0, .ref fo), (1, .int kd), (2, .int sh), (3, .int stp)] := hl
  have hRf : R.frames = 8 := hRf
  have hRl : R.locals = 3156 := hRl
  have hRc : R.cells = 64 := hRc
  have hRs : R.slots = 460 := hRs
  generalize ([] : List Loc) = locs at w ⊢
  have hW0 := hW
  obtain ⟨own, ad, np, ng, f, hn, ads, nps, ngs, fs, tl, tb, s9, hX, hV, hZ⟩ := hW
  have hX0 := hX
  obtain ⟨⟨dq, tx, da, va, h, t, cap, gq, gb, ml, hfo, hdq, hda, hbb, hgq, htx, hw9⟩, hA, -, -⟩ := hX0
  have hM := hA.1
  obtain ⟨T, nz, hT, hS⟩ := hA.2.2.2.2
  have hn6 := hS.n6
  have hE : ∀ q, M1 q ≠ none → M1 q = M1 q := fun _ _ => rfl
  refine lv_iload_n hx hb dX0_pump_0 rfl (lv_at hl 1 rfl) ?_
  refine lv_i2l hx hb dX0_pump_1 rfl ?_
  refine lv_lconst (v := (0 : Int64)) hx hb dX0_pump_2 (by decide) ?_
  refine lv_ldc2 (v := (2 : Int64)) hx hb X.2.2.2.1 (X.2.2.2.2 _ q804) dX0_pump_3 ?_
  refine mx_bi w (va_runS (As := [.long kd.toInt64, .long (0 : Int64), .long (2 : Int64)]) (rest := []) X (ct_isBetween l G A _ kd.toInt64 (0 : Int64) (2 : Int64)) (va_cwS 3 X.2.2.2.2 (lw_S q492 q493 q96 q494) rfl rfl rfl (by decide +kernel) ⟨by rw [hRf]; decide, by rw [hRl]; decide⟩) (mx_preS w rfl) rfl rfl hl.1 rfl (lv_room (Nat.le_of_ble_eq_true rfl)) dX0_pump_6 ⟨by rw [hRc]; omega, by rw [hRs]; omega⟩) (fun r M9 H locs hp w => ?_)
  obtain ⟨eR, eM⟩ := hp; subst M9; subst eR
  refine mx_beq (tgt := 38) hx hb dX0_pump_9 (by decide) (fun c_9 => ?_) (fun c_9 => ?_)
  · skip
    have hfin : (-1000001 : Int32) = (mf_pump v kd sh stp).1 ∧ CWP G fo Z M1 (mf_pump v kd sh stp).2 ∧ ∀ q, Z q → M1 q = M1 q := by rw [pump_a c_9]; exact ⟨rfl, hW0, fun _ _ => rfl⟩
    refine lv_ldc (v := (-1000001 : Int32)) hx hb X.2.2.2.1 (X.2.2.2.2 _ q505) dX0_pump_38 ?_
    refine W.widen (k := 64) (n := 460) (by omega) (by omega) ?_
    exact fin (-1000001 : Int32) _ H locs ls 40 dX0_pump_40 (hfin) w
  · skip
    obtain ⟨nn, hn7, e18⟩ := hS.nights
    have hk9 := btw_rg (b := 2) (by decide) c_9
    refine lv_iload_n hx hb dX0_pump_12 rfl (lv_at hl 2 rfl) ?_
    refine lv_i2l hx hb dX0_pump_13 rfl ?_
    refine lv_ldc2 (v := (100 : Int64)) hx hb X.2.2.2.1 (X.2.2.2.2 _ q490) dX0_pump_14 ?_
    refine lv_ldc2 (v := (2000 : Int64)) hx hb X.2.2.2.1 (X.2.2.2.2 _ q805) dX0_pump_17 ?_
    refine mx_bi w (va_runS (As := [.long sh.toInt64, .long (100 : Int64), .long (2000 : Int64)]) (rest := []) X (ct_isBetween l G A _ sh.toInt64 (100 : Int64) (2000 : Int64)) (va_cwS 3 X.2.2.2.2 (lw_S q492 q493 q96 q494) rfl rfl rfl (by decide +kernel) ⟨by rw [hRf]; decide, by rw [hRl]; decide⟩) (mx_preS w rfl) rfl rfl hl.1 rfl (lv_room (Nat.le_of_ble_eq_true rfl)) dX0_pump_20 ⟨by rw [hRc]; omega, by rw [hRs]; omega⟩) (fun r M9 H locs hp w => ?_)
    obtain ⟨eR, eM⟩ := hp; subst M9; subst eR
    refine mx_beq (tgt := 38) hx hb dX0_pump_23 (by decide) (fun c_23 => ?_) (fun c_23 => ?_)
    · skip
      have hfin : (-1000001 : Int32) = (mf_pump v kd sh stp).1 ∧ CWP G fo Z M1 (mf_pump v kd sh stp).2 ∧ ∀ q, Z q → M1 q = M1 q := by rw [pump_b c_23]; exact ⟨rfl, hW0, fun _ _ => rfl⟩
      refine lv_ldc (v := (-1000001 : Int32)) hx hb X.2.2.2.1 (X.2.2.2.2 _ q505) dX0_pump_38 ?_
      refine W.widen (k := 64) (n := 460) (by omega) (by omega) ?_
      exact fin (-1000001 : Int32) _ H locs ls 40 dX0_pump_40 (hfin) w
    · skip
      obtain ⟨s1, s2, s3⟩ := in_n (a := 100) (b := 2000) (by decide) c_23
      have hs9 : rgl sh 100 2000 := ⟨tN sh, s2, s3, s1⟩
      refine lv_iload_n hx hb dX0_pump_26 rfl (lv_at hl 3 rfl) ?_
      refine lv_i2l hx hb dX0_pump_27 rfl ?_
      refine lv_lconst (v := (1 : Int64)) hx hb dX0_pump_28 (by decide) ?_
      refine lv_ldc2 (v := (1000 : Int64)) hx hb X.2.2.2.1 (X.2.2.2.2 _ q497) dX0_pump_29 ?_
      refine mx_bi w (va_runS (As := [.long stp.toInt64, .long (1 : Int64), .long (1000 : Int64)]) (rest := []) X (ct_isBetween l G A _ stp.toInt64 (1 : Int64) (1000 : Int64)) (va_cwS 3 X.2.2.2.2 (lw_S q492 q493 q96 q494) rfl rfl rfl (by decide +kernel) ⟨by rw [hRf]; decide, by rw [hRl]; decide⟩) (mx_preS w rfl) rfl rfl hl.1 rfl (lv_room (Nat.le_of_ble_eq_true rfl)) dX0_pump_32 ⟨by rw [hRc]; omega, by rw [hRs]; omega⟩) (fun r M9 H locs hp w => ?_)
      obtain ⟨eR, eM⟩ := hp; subst M9; subst eR
      refine mx_bne (tgt := 41) hx hb dX0_pump_35 (by decide) (fun c_35 => ?_) (fun c_35 => ?_)
      · skip
        obtain ⟨t1, t2, t3⟩ := in_n (a := 1) (b := 1000) (by decide) c_35
        have ht9 : rgl stp 1 1000 := ⟨tN stp, t2, t3, t1⟩
        refine lv_aload_n hx hb dX0_pump_41 rfl (lv_at hl 0 rfl) ?_
        refine mx_get (T := TX0) (v := .ref (ad 0)) X w in_X0 (ci := 0) rfl 0 (by decide) q472 (fun _ h => h) hfo rfl dX0_pump_42 ?_
        refine mx_getN (T := TX1) (v := .ref (ad 1)) X w in_X1 (ci := 1) rfl 0 (by decide) (w.tblB q287 rfl rfl) (fun _ h => h) hM.st rfl dX0_pump_45 ?_
        refine mx_bi w (va_runV (As := []) (rest := []) X (jt_al_size l G A _ (ad 1) _ _ np hM.pl) (cwV 0 X.2.2.2.2 (lw_V q806 q275 q276 q100 q277) rfl rfl rfl (by decide +kernel) ⟨by rw [hRf]; decide, by rw [hRl]; decide⟩) (mx_preV w rfl hM.pl rfl) rfl rfl hl.1 rfl (lv_room (Nat.le_of_ble_eq_true rfl)) dX0_pump_48 ⟨by rw [hRc]; omega, by rw [hRs]; omega⟩) (fun r M8 H locs hp w => ?_)
        obtain ⟨eR, eM⟩ := hp; subst M8; subst eR
        refine lv_istore (lv' := [(4, .int (nI np)), (0, .ref fo), (1, .int kd), (2, .int sh), (3, .int stp)]) hx hb dX0_pump_51 hl (by decide) rfl (fun ls hl => ?_)
        refine lv_iload hx hb dX0_pump_53 (lv_at hl 0 rfl) ?_
        refine lv_bipush (v := (6 : Int32)) hx hb dX0_pump_55 (by decide) ?_
        refine mx_nne (u := np) (v := 6) (tgt := 63) hx hb rfl rfl (by omega) (by omega) dX0_pump_57 (by decide) (fun c_57 => ?_) (fun c_57 => ?_)
        · skip
          have hp6 : np < 6 := by omega
          refine lv_aload_n hx hb dX0_pump_63 rfl (lv_at hl 1 rfl) ?_
          refine mx_bq w (va_runV (As := []) (rest := []) X (ct_change l G A M1 fo own ad np ng f hn ads nps ngs fs tl tb hX.1 hX.2.1 hX.2.2.1 hV.1.1) (cwV 0 X.2.2.2.2 (lw_V q506 q508 qs3 q96 q509) rfl rfl rfl (by decide +kernel) ⟨by rw [hRf]; decide, by rw [hRl]; decide⟩) (mx_preV w rfl hfo rfl) rfl rfl hl.1 rfl (lv_room (Nat.le_of_ble_eq_true rfl)) dX0_pump_64 ⟨by rw [hRc]; omega, by rw [hRs]; omega⟩) (fun r M9 H locs hp w => ?_)
          obtain ⟨eR, hC⟩ := hp; subst eR
          obtain ⟨own1, ad2, g2, hX1, hcp, hFr⟩ := hC.cwx hX hV.1.1
          have hM := hX1.2.1.1
          have hV1 := hV.save hcp
          refine lv_iload_n hx hb dX0_pump_67 rfl (lv_at hl 2 rfl) ?_
          refine lv_iload hx hb dX0_pump_68 (lv_at hl 0 rfl) ?_
          refine lv_iload_n hx hb dX0_pump_70 rfl (lv_at hl 3 rfl) ?_
          refine lv_iload_n hx hb dX0_pump_71 rfl (lv_at hl 4 rfl) ?_
          refine mx_bq w (va_runS (As := [.int kd, .int (nI np), .int sh, .int stp]) (rest := [.ref (ad 0)]) X (ct_made l G A M9 kd (nI np) sh stp hk9) (va_cwS 4 X.2.2.2.2 (lw_S q808 q809 q96 q810) rfl rfl rfl (by decide +kernel) ⟨by rw [hRf]; decide, by rw [hRl]; decide⟩) (mx_preS w rfl) rfl rfl hl.1 rfl (lv_room (Nat.le_of_ble_eq_true rfl)) dX0_pump_72 ⟨by rw [hRc]; omega, by rw [hRs]; omega⟩) (fun r M5 H locs hp w => ?_)
          obtain ⟨pq, zpq, eR, hpq, hk5⟩ := hp
          subst eR
          have hE5 : ∀ q, M9 q ≠ none → M5 q = M9 q := fun q hq => hk5 q (fun z => hq (by rw [z]; exact zpq))
          have hM5 := hM.ext hE5
          obtain ⟨b9, bx, hB0⟩ := hM.toB e18 (by omega)
          have hB := hB0.ext hE5
          have hpq0 : ∀ r, stU np ng nn r → adr ad b9 r ≠ pq := fun r hr z => by have h9 := hB0.2.2.1 r hr; rw [z, zpq] at h9; cases h9
          refine mx_bv w (va_runV (As := [.ref pq]) (rest := []) X (ct_addP l G A ad b9 bx np ng nn M9 M5 f (pmX kd sh stp) pq hB hp6 hk9 (hX1.2.1.2.1.1 np (Nat.le_refl _) hp6).1 (hX1.2.1.2.1.1 np (Nat.le_refl _) hp6).2 hX1.2.1.2.1.2.1 hpq0 hpq) (cwV 1 X.2.2.2.2 (lw_V q823 q654 q655 q97 q656) rfl rfl rfl (by decide +kernel) ⟨by rw [hRf]; decide, by rw [hRl]; decide⟩) (mx_preV w rfl hM5.st rfl) rfl rfl hl.1 rfl (lv_room (Nat.le_of_ble_eq_true rfl)) dX0_pump_75 ⟨by rw [hRc]; omega, by rw [hRs]; omega⟩) (fun M2 H locs hp w => ?_)
          obtain ⟨q9, e2, zq9, h2, hB2, hk2⟩ := hp
          have hS2 := hS.pumpN hp6 hk9 hs9 ht9
          obtain ⟨v2, e7, hV2⟩ := pump_1 hV hV1 hS c_9 c_21 c_33 hp6
          have hfin : nI np = (mf_pump v kd sh stp).1 ∧ CWP G fo Z M2 (mf_pump v kd sh stp).2 ∧ ∀ q, Z q → M2 q = M1 q := by
            rw [e7]
            exact ⟨rfl, op_fin hZ hFr (hX1.mut ⟨nn, b9, bx, hB2⟩ (aPa_o (by omega) (by omega) (by decide)) (adN_P hX1.2.1.2.1 hp6 h2) (pump_r h2 zpq zq9 hk5 hp6) ⟨T, nz, hT, hS2⟩) hV2⟩
          refine lv_iload hx hb dX0_pump_78 (lv_at hl 0 rfl) ?_
          refine W.widen (k := 64) (n := 460) (by omega) (by omega) ?_
          exact fin (nI np) _ H locs ls 80 dX0_pump_80 (hfin) w
        · skip
          have hp10 : np = 6 := by omega
          have hfin : (-1000003 : Int32) = (mf_pump v kd sh stp).1 ∧ CWP G fo Z M1 (mf_pump v kd sh stp).2 ∧ ∀ q, Z q → M1 q = M1 q := by rw [pump_d hV hS c_9 c_23 c_35 hp10]; exact ⟨rfl, hW0, fun _ _ => rfl⟩
          refine lv_ldc (v := (-1000003 : Int32)) hx hb X.2.2.2.1 (X.2.2.2.2 _ q807) dX0_pump_60 ?_
          refine W.widen (k := 64) (n := 460) (by omega) (by omega) ?_
          exact fin (-1000003 : Int32) _ H locs ls 62 dX0_pump_62 (hfin) w
      · skip
        have hfin : (-1000001 : Int32) = (mf_pump v kd sh stp).1 ∧ CWP G fo Z M1 (mf_pump v kd sh stp).2 ∧ ∀ q, Z q → M1 q = M1 q := by rw [pump_c c_35]; exact ⟨rfl, hW0, fun _ _ => rfl⟩
        refine lv_ldc (v := (-1000001 : Int32)) hx hb X.2.2.2.1 (X.2.2.2.2 _ q505) dX0_pump_38 ?_
        refine W.widen (k := 64) (n := 460) (by omega) (by omega) ?_
        exact fin (-1000001 : Int32) _ H locs ls 40 dX0_pump_40 (hfin) w
