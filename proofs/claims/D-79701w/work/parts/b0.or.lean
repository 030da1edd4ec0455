set_option maxRecDepth 100000
/-! OR: orders: what they do to the numbers -/
section OR
variable {w : Nat → Nat → Int32} {s : Int32} {f : Nat → Int32} {T np nz ng k : Nat} {x : Int32}
theorem SI.opx (hS : SI T np nz ng f) (hk : k < nz) (hx : rg x 1) : SI T np nz ng (upd f (87 + (2 * k) + 1) x) := by
  have z8 := hS.ip.z8
  exact hS.up1 (by omega) (by omega) (by omega) (by omega) (Or.inr (by omega)) (okc_open hS.ip.b (by omega) ⟨hx, fun z => by omega⟩)
theorem E_opx (hS : SI T np nz ng f) (hk : k < nz) (hx : rg x 1) : cf_openZones (upd f (87 + (2 * k) + 1) x) = mf_openZones (u2 (Vf w s f) 1 (87 + 2 * k + 1) x) ∧ Vf w s (upd f (87 + (2 * k) + 1) x) = u2 (Vf w s f) 1 (87 + 2 * k + 1) x := by
  have z8 := hS.ip.z8
  have h1 := hS.opx hk hx
  have e : Vf w s (upd f (87 + (2 * k) + 1) x) = u2 (Vf w s f) 1 (87 + 2 * k + 1) x := Vf_up (by omega) (by omega) (by omega)
  exact ⟨by rw [E_openZones (w := w) (s := s) h1.nz8 h1.opb, e], e⟩
theorem SI.put3 (hS : SI T np nz ng f) (hk : k < np) (hx : rg x 1) : SI T np nz ng (upd f (39 + (8 * k) + 3) x) := by
  have hn := hS.n6
  refine hS.of (IPg hS.ip (E_put (by omega) (by decide)) (IP_put (by omega) (by decide) (IP_Vf hS.ip) (fun _ => ⟨fun z => absurd z (by decide), fun z => absurd z (by decide), fun z => absurd z (by decide), fun _ => hx, fun z => absurd z (by decide)⟩))) (fun j hj => pk_un (by omega)) (pk_un (by omega)) (hS.vr.cong (pk_un (by omega)) (fun d => pk_un (by omega)) (fun d => pk_un (by omega)))
theorem mk2_t (c : cf_runs f k = true) : cf_make2 f k = (bI true, cf_cstop (upd f (39 + (8 * k) + 3) 0) k) := by
  rw [cf_make2, if_pos c, cf_make2_c82, cf_make2_85, if_pos c, cf_make2_95]
theorem mk2_f (c : ¬ cf_runs f k = true) : cf_make2 f k = (bI false, upd f (39 + (8 * k) + 3) 0) := by
  rw [cf_make2, if_neg c, cf_make2_85, if_neg c, cf_make2_95]
theorem sv_t {v : Nat → Nat → Int32} (c : mf_runs v k = true) : mf_serves v k 0 = (bI true, mf_stop (mf_put v k 3 0) k) := by
  rw [mf_serves, if_pos rfl, if_pos c, mf_serves_17, mf_serves_c22, if_pos rfl, mf_serves_c31, mf_serves_34, if_pos rfl, mf_serves_43]
theorem sv_f {v : Nat → Nat → Int32} (c : ¬ mf_runs v k = true) : mf_serves v k 0 = (bI false, mf_put v k 3 0) := by
  rw [mf_serves, if_pos rfl, if_neg c, mf_serves_16, mf_serves_17, mf_serves_c22, if_neg (by decide), mf_serves_34, if_neg (by decide), mf_serves_43]
theorem E_make2 (hS : SI T np nz ng f) (hk : k < np) : (cf_make2 f k).1 = (mf_serves (Vf w s f) k 0).1 ∧ Vf w s (cf_make2 f k).2 = (mf_serves (Vf w s f) k 0).2 ∧ SI T np nz ng (cf_make2 f k).2 := by
  have hn := hS.n6
  have h1 : SI T np nz ng (upd f (39 + (8 * k) + 3) 0) := hS.put3 hk rg_0
  have e1 : Vf w s (upd f (39 + (8 * k) + 3) 0) = mf_put (Vf w s f) k 3 0 := E_put (by omega) (by decide)
  have er : mf_runs (Vf w s f) k = cf_runs f k := (sees_Vf (w := w) (s := s) (f := f)).runs (by omega)
  have e2 := (E_cstop (w := w) (s := s) hk hn h1.cp h1.ne).1
  by_cases c : cf_runs f k = true
  · rw [mk2_t c, sv_t (er.trans c)]
    generalize upd f (39 + (8 * k) + 3) 0 = g at h1 e1 e2 ⊢
    have h2 : SI T np nz ng (cf_cstop g k) := SI_stop hk h1
    rw [e1] at e2
    dsimp only
    exact ⟨rfl, e2, h2⟩
  · rw [mk2_f c, sv_f (by rw [er]; exact c)]
    generalize upd f (39 + (8 * k) + 3) 0 = g at h1 e1 ⊢
    dsimp only
    exact ⟨rfl, e1, h1⟩
theorem E_make4 (hS : SI T np nz ng f) : f 6 = (mf_resets (Vf w s f)).1 ∧ Vf w s (cf_clearTrips f) = (mf_resets (Vf w s f)).2 ∧ SI T np nz ng (cf_clearTrips f) := by
  have h6 : SI T np nz ng (upd f 6 0) := hS.up1 (by decide) (by decide) (by decide) (by decide) (Or.inl (by decide)) (okc_6 hS.ip.b rg_0)
  have e6 : Vf w s (upd f 6 0) = u2 (Vf w s f) 1 6 0 := Vf_up (by decide) (by decide) (by decide)
  have h5 : SI T np nz ng (upd (upd f 6 0) 5 0) := h6.up1 (by decide) (by decide) (by decide) (by decide) (Or.inl (by decide)) (okc_5 hS.ip.b rg_0)
  have e5 : Vf w s (upd (upd f 6 0) 5 0) = u2 (u2 (Vf w s f) 1 6 0) 1 5 0 := by rw [Vf_up (by decide) (by decide) (by decide), e6]
  have v6 : Vf w s f 1 6 = f 6 := Vf_at (by decide)
  have a5 : u2 (Vf w s f) 1 6 0 1 5 = f 5 := by rw [← e6, Vf_at (by decide), pk_un (by decide)]
  have a2 : u2 (Vf w s f) 1 6 0 1 2 = f 2 := by rw [← e6, Vf_at (by decide), pk_un (by decide)]
  have a32 : mf_setting (u2 (Vf w s f) 1 6 0) 12 = f 32 := by rw [← e6, E_set (by decide), pk_un (by decide)]
  have hb := hS.b5
  have hgo : cf_canGoOn (upd f 6 0) = true ↔ (f 5 = 1 ∧ ¬ f 2 < f 32) := by
    rw [canGoOn_iff, pk_un (by decide), pk_un (by decide), pk_un (by decide)]
    obtain ⟨j, j1, j2⟩ := hb
    rw [j2]
    obtain rfl | rfl : j = 0 ∨ j = 1 := by omega
    · exact ⟨fun z => absurd nI_0 z.1, fun z => absurd z.1 (by decide)⟩
    · exact ⟨fun z => ⟨rfl, z.2⟩, fun z => ⟨by decide, z.2⟩⟩
  unfold cf_clearTrips cf_clearTrips_c13 cf_clearTrips_16 cf_goOn cf_goOn_c7
  unfold mf_resets mf_resets_54 mf_resets_c51 mf_resets_54
  rw [a5, a2, a32]
  by_cases c5 : f 5 = 1
  · by_cases c2 : f 2 < f 32
    · rw [if_neg (fun z => (hgo.mp z).2 c2), if_pos c5, if_pos c2]
      exact ⟨v6.symm, e6, h6⟩
    · rw [if_pos (hgo.mpr ⟨c5, c2⟩), if_pos c5, if_neg c2]
      exact ⟨v6.symm, by rw [E_tell1 h5.ne, e5], SI_tell1 h5⟩
  · rw [if_neg (fun z => c5 (hgo.mp z).1), if_neg c5]
    exact ⟨v6.symm, e6, h6⟩
theorem can4 : cf_can f (4 : Int32) x = true ↔ ¬ f 6 ≤ 0 := by
  rw [cf_can, if_neg (by decide), if_neg (by decide), if_neg (by decide), if_neg (by decide)]
  by_cases d : f 6 ≤ 0
  · rw [if_pos d]; exact ⟨fun z => (by cases z), fun z => absurd d z⟩
  · rw [if_neg d]; exact ⟨fun _ => d, fun _ => rfl⟩
theorem trips0 (hS : SI T np nz ng f) : f 6 ≤ 0 ↔ f 6 = 0 := by
  have h6 := hS.ip.trips
  rw [Rf_at (by decide)] at h6
  obtain ⟨j, j1, j2⟩ := h6
  have t1 : T ≤ 1000000 := hS.ip.1.1
  rw [j2, show (0 : Int32) = nI 0 from rfl, nI_leq (by omega) (by decide)]
  constructor
  · intro z; rw [show j = 0 by omega]
  · intro z
    have := congrArg tN z
    rw [tN_nI (by omega), tN_nI (by decide)] at this
    omega
end OR
section E7
variable {f g : Nat → Int32} {np : Nat}
/-- alike but for what is told -/
def E7 (f g : Nat → Int32) : Prop := ∀ p, p ≠ 177 → g p = f p
theorem E7_z (f : Nat → Int32) : E7 f (z7 f) := fun p hp => pk_un hp
theorem E7.up (h : E7 f g) {p : Nat} {x : Int32} : E7 (upd f p x) (upd g p x) := fun q hq => by
  by_cases c : q = p
  · rw [c, pk_us, pk_us]
  · rw [pk_un c, pk_un c, h q hq]
theorem E7.t34 {f0 g0 : Nat → Int32} {a b : Int32} : ∀ (n k : Nat) (f g : Nat → Int32), k ≤ 12 → E7 f g → E7 (cf_tell_34 f0 a b n k f) (cf_tell_34 g0 a b n k g) := by
  intro n
  induction n with
  | zero => intro k f g _ h; exact h
  | succ n ih =>
    intro k f g hk h
    rw [cf_tell_34, cf_tell_34]
    by_cases c : k = 0
    · rw [if_pos c, if_pos c, h.up (p := 134) (x := a) 0 (by decide)]
      exact h.up.up.up
    · rw [if_neg c, if_neg c, h (134 + (3 * (k - 1))) (by omega)]
      have h1 : E7 (upd f (134 + (3 * k)) (f (134 + (3 * (k - 1))))) (upd g (134 + (3 * k)) (f (134 + (3 * (k - 1))))) := h.up
      rw [h1 (134 + (3 * (k - 1)) + 1) (by omega)]
      have h2 := h1.up (p := 134 + (3 * k) + 1) (x := upd f (134 + (3 * k)) (f (134 + (3 * (k - 1)))) (134 + (3 * (k - 1)) + 1))
      rw [h2 (134 + (3 * (k - 1)) + 2) (by omega)]
      exact ih (k - 1) _ _ (by omega) h2.up
theorem E7.tell {a b : Int32} (h : E7 f g) (he : rg (f 19) 12) : E7 (cf_tell f a b) (cf_tell g a b) := by
  obtain ⟨j, hj, e⟩ := he
  have key : ∀ j, j ≤ 12 → tN (jmin 12 (nI j + 1)) ≤ 12 := by decide +kernel
  unfold cf_tell
  have e1 : ∀ x : Int32, upd f 177 x 19 = f 19 := fun x => pk_un (by decide)
  have e2 : ∀ x : Int32, upd g 177 x 19 = f 19 := fun x => (pk_un (by decide)).trans (h 19 (by decide))
  rw [e1, e2, e]
  have e3 : ∀ (F : Nat → Int32) (x : Int32), nC (upd F 19 x) 19 = tN x := fun F x => by unfold nC; rw [pk_us]; rfl
  rw [e3, e3]
  have hk := key j hj
  refine E7.t34 _ _ _ _ (by omega) ?_
  intro p hp
  by_cases c : p = 19
  · rw [c, pk_us, pk_us]
  · rw [pk_un c, pk_un c, pk_un hp, pk_un hp, h p hp]
theorem E7.goOn (h : E7 f g) (he : rg (f 19) 12) : E7 (cf_goOn f) (cf_goOn g) := by
  unfold cf_goOn cf_goOn_c7 cf_tell1 cf_tell1_c3
  exact h.up.tell (by rw [pk_un (by decide)]; exact he)
theorem E7.can (h : E7 f g) : cf_canGoOn g = cf_canGoOn f := by
  unfold cf_canGoOn cf_canGoOn_25 cf_canGoOn_26
  rw [h 5 (by decide), h 2 (by decide), h 32 (by decide)]
theorem E7.clear (h : E7 f g) (he : rg (f 19) 12) : E7 (cf_clearTrips f) (cf_clearTrips g) := by
  have h1 : E7 (upd f 6 0) (upd g 6 0) := h.up
  unfold cf_clearTrips cf_clearTrips_c13 cf_clearTrips_16
  rw [h1.can]
  by_cases c : cf_canGoOn (upd f 6 0) = true
  · rw [if_pos c, if_pos c]
    exact h1.goOn (by rw [pk_un (by decide)]; exact he)
  · rw [if_neg c, if_neg c]
    exact h1
theorem E7.runs (h : E7 f g) {k : Nat} : cf_runs g k = cf_runs f k := by
  unfold cf_runs
  rw [h (39 + (8 * k) + 4) (by omega)]
  rfl
theorem E7.vr (h : E7 f g) {k : Nat} : isVar g k = isVar f k := by
  unfold isVar
  rw [h (39 + (8 * k)) (by omega)]
theorem E7.s28 {f0 g0 f1 g1 : Nat → Int32} {k : Nat} (h : E7 f g) : ∀ (n : Nat) (P : Option Nat) (m : Nat), E7 (cf_cstop_28 f0 k f1 f n P m) (cf_cstop_28 g0 k g1 g n P m) := by
  intro n
  induction n with
  | zero => intro P m; exact h
  | succ n ih =>
    intro P m
    have en : nC g 14 = nC f 14 := by unfold nC; rw [h 14 (by decide)]
    rw [cf_cstop_28, cf_cstop_28, en, h.runs, h.vr]
    by_cases c : nC f 14 ≤ m
    · rw [if_pos c, if_pos c]
      by_cases d : P = none
      · rw [if_pos d, if_pos d]; exact h.up
      · rw [if_neg d, if_neg d]; exact h.up
    · rw [if_neg c, if_neg c]
      by_cases d : cf_runs f m = true
      · rw [if_pos d, if_pos d]
        by_cases d2 : isVar f m = true
        · rw [if_pos d2, if_pos d2, cf_cstop_73, cf_cstop_73, if_pos rfl, if_pos rfl]
          by_cases d3 : P = none
          · rw [if_pos d3, if_pos d3]; exact ih _ _
          · rw [if_neg d3, if_neg d3, h (39 + (8 * (P.getD 0)) + 5) (by omega), h (39 + (8 * m) + 5) (by omega)]
            by_cases d4 : f (39 + (8 * (P.getD 0)) + 5) ≤ f (39 + (8 * m) + 5)
            · rw [if_pos d4, if_pos d4]; exact ih _ _
            · rw [if_neg d4, if_neg d4]; exact ih _ _
        · rw [if_neg d2, if_neg d2]; exact ih _ _
      · rw [if_neg d, if_neg d]; exact ih _ _
theorem E7.stop (h : E7 f g) {k : Nat} (he : rg (f 19) 12) (hk : k < 6) : E7 (cf_cstop f k) (cf_cstop g k) := by
  have h1 : E7 (cf_pstop f k) (cf_pstop g k) := by unfold cf_pstop; exact h.up.up
  have h2 : E7 (cf_tell (cf_pstop f k) 1 (nI k)) (cf_tell (cf_pstop g k) 1 (nI k)) := h1.tell (pstop_19 he)
  rw [cf_cstop, cf_cstop, cf_cstop_c1, cf_cstop_c1, cf_cstop_c10, cf_cstop_c10, h2 4 (by decide)]
  by_cases c : cf_tell (cf_pstop f k) 1 (nI k) 4 = nI k
  · rw [if_pos c, if_pos c]; exact h2.s28 _ _ _
  · rw [if_neg c, if_neg c]; exact h2
theorem E7.make2 (h : E7 f g) {k : Nat} (he : rg (f 19) 12) (hk : k < 6) : (cf_make2 g k).1 = (cf_make2 f k).1 ∧ E7 (cf_make2 f k).2 (cf_make2 g k).2 := by
  by_cases c : cf_runs f k = true
  · have h2 : E7 (upd f (39 + (8 * k) + 3) 0) (upd g (39 + (8 * k) + 3) 0) := h.up
    have h3 := h2.stop (k := k) (by rw [pk_un (by omega)]; exact he) hk
    have e1 := mk2_t c
    have e2 := mk2_t (h.runs.trans c)
    generalize cf_cstop (upd f (39 + (8 * k) + 3) 0) k = A at h3 e1
    generalize cf_cstop (upd g (39 + (8 * k) + 3) 0) k = B at h3 e2
    rw [e1, e2]
    exact ⟨rfl, h3⟩
  · have h2 : E7 (upd f (39 + (8 * k) + 3) 0) (upd g (39 + (8 * k) + 3) 0) := h.up
    have e1 := mk2_f c
    have e2 := mk2_f (f := g) (k := k) (by rw [h.runs]; exact c)
    rw [e1, e2]
    exact ⟨rfl, h2⟩
theorem E7.oz4 (h : E7 f g) : ∀ (n : Nat) (i : Int32) (k : Nat), cf_openZones_4 g n i k = cf_openZones_4 f n i k := by
  intro n
  induction n with
  | zero => intro i k; rfl
  | succ n ih =>
    intro i k
    have en : nC g 15 = nC f 15 := by unfold nC; rw [h 15 (by decide)]
    rw [cf_openZones_4, cf_openZones_4, en, h (87 + (2 * k) + 1) (by omega)]
    by_cases c : nC f 15 ≤ k
    · rw [if_pos c, if_pos c]
    · rw [if_neg c, if_neg c]
      by_cases d : f (87 + (2 * k) + 1) = 0
      · rw [if_pos d, if_pos d]; exact ih _ _
      · rw [if_neg d, if_neg d]; exact ih _ _
theorem E7.oz (h : E7 f g) : cf_openZones g = cf_openZones f := h.oz4 _ _ _
end E7
section OR2
variable {hn tl hn2 tl2 : Nat} {f g : Nat → Int32} {fs fs2 : Nat → Nat → Int32} {tb tb2 : Nat → Int32} {v : Nat → Nat → Int32} {s : Int32} {np nz ng T : Nat}
theorem reset_0 (h : RelV v s f hn fs tl tb) (hS : SI T np nz ng f) {x : Int32} (c : ¬ cf_can f (4 : Int32) x = true) : mf_reset v = (-1000002, v) := by
  rw [can4, Classical.not_not, trips0 hS] at c
  rw [mf_reset, h.a (by decide), if_pos c]
theorem reset_1 (h : RelV v s f hn fs tl tb) (h1 : RelV (mf_save v) s f hn2 fs2 tl2 tb2) (hS : SI T np nz ng f) {x : Int32} (c : cf_can f (4 : Int32) x = true) : mf_reset v = (f 6, (mf_resets (mf_save v)).2) ∧ ∃ s3, RelV (mf_resets (mf_save v)).2 s3 (cf_clearTrips f) hn2 fs2 tl2 tb2 := by
  rw [can4, trips0 hS] at c
  obtain ⟨a, b, -⟩ := E_make4 (w := mf_save v) (s := s) (f := z7 f) (SI_0 hS)
  rw [← h1.2.1] at a b
  have a : f 6 = (mf_resets (mf_save v)).1 := (E7_z f 6 (by decide)).symm.trans a
  refine ⟨by rw [mf_reset, h.a (by decide), if_neg c, mf_reset_c14, mf_reset_c18, ← a], h1.of7 (g0 := cf_clearTrips (z7 f)) (by rw [← b]) ((E7_z f).clear hS.ne) (fun r hr => resets_row hr)⟩
end OR2
set_option maxHeartbeats 4000000 in
set_option maxRecDepth 100000 in
theorem ct_reset (l : Launch) (G : mg) (A : Nat → Prop) (M1 : mh) (fo : Nat) (Z : Nat → Prop) (v : Nat → Nat → Int32) (hW : CWP G fo Z M1 v) : Met l yX0_reset (ws_ yX0_reset cX0_reset 1 (some .int)) ({ frames := 8, cells := 61, slots := 440, locals := 3156 }) (va_Pc [.ref fo] (mU G A (fun M => M = M1))) (mQi G A (fun r M => r = (mf_reset v).1 ∧ CWP G fo Z M (mf_reset v).2 ∧ ∀ q, Z q → M q = M1 q)) 61 440 A := by
  refine mx_ofi (by decide) (Nat.le_of_ble_eq_true rfl) ?_
  intro p e R s m av below meth c M H Q ls X hRf hRl hRc hRs hin eM w fin hl
  subst M
  have X : CallFix p m c cX0_reset 1 s av lw_all "FieldPumps" := X
  have hx := X.1
  have hb := X.2.1
  have hl : lv_has ls 1 [(0, .ref fo)] := hl
  have hRf : R.frames = 8 := hRf
  have hRl : R.locals = 3156 := hRl
  have hRc : R.cells = 61 := hRc
  have hRs : R.slots = 440 := hRs
  generalize ([] : List Loc) = locs at w ⊢
  have hW0 := hW
  obtain ⟨own, ad, np, ng, f, hn, ads, nps, ngs, fs, tl, tb, s9, hX, hV, hZ⟩ := hW
  have hX0 := hX
  obtain ⟨⟨dq, tx, da, va, h, t, cap, gq, gb, ml, hfo, hdq, hda, hbb, hgq, htx, hw9⟩, hA, -, -⟩ := hX0
  have hM := hA.1
  obtain ⟨T, nz, hT, hS⟩ := hA.2.2.2.2
  have hn6 := hS.n6
  have hE : ∀ q, M1 q ≠ none → M1 q = M1 q := fun _ _ => rfl
  refine lv_aload_n hx hb dX0_reset_0 rfl (lv_at hl 0 rfl) ?_
  refine mx_get (T := TX0) (v := .ref (ad 0)) X w in_X0 (ci := 0) rfl 0 (by decide) q472 (fun _ h => h) hfo rfl dX0_reset_1 ?_
  refine lv_iconst (v := (4 : Int32)) hx hb dX0_reset_4 (by decide) ?_
  refine lv_iconst (v := (0 : Int32)) hx hb dX0_reset_5 (by decide) ?_
  refine mx_bi w (va_runV (As := [.int (4 : Int32), .int (0 : Int32)]) (rest := []) X (ct_can l G A ad np ng _ _ f (4 : Int32) (0 : Int32) hM (fun z => absurd z (by decide)) (fun z => absurd z (by decide)) (fun z => absurd z (by decide))) (cwV 2 X.2.2.2.2 (lw_V q1620 q1621 q1622 q97 q1623) rfl rfl rfl (by decide +kernel) ⟨by rw [hRf]; decide, by rw [hRl]; decide⟩) (mx_preV w rfl hM.st rfl) rfl rfl hl.1 rfl (lv_room (Nat.le_of_ble_eq_true rfl)) dX0_reset_6 ⟨by rw [hRc]; omega, by rw [hRs]; omega⟩) (fun r M8 H locs hp w => ?_)
  obtain ⟨eR, eM⟩ := hp; subst M8; subst eR
  refine mx_beq (tgt := 24) hx hb dX0_reset_9 (by decide) (fun c_9 => ?_) (fun c_9 => ?_)
  · skip
    have hfin : (-1000002 : Int32) = (mf_reset v).1 ∧ CWP G fo Z M1 (mf_reset v).2 ∧ ∀ q, Z q → M1 q = M1 q := by rw [reset_0 hV hS c_9]; exact ⟨rfl, hW0, fun _ _ => rfl⟩
    refine lv_ldc (v := (-1000002 : Int32)) hx hb X.2.2.2.1 (X.2.2.2.2 _ q835) dX0_reset_24 ?_
    refine W.widen (k := 61) (n := 440) (by omega) (by omega) ?_
    exact fin (-1000002 : Int32) _ H locs ls 26 dX0_reset_26 (hfin) w
  · skip
    refine lv_aload_n hx hb dX0_reset_12 rfl (lv_at hl 0 rfl) ?_
    refine mx_bq w (va_runV (As := []) (rest := []) X (ct_change l G A M1 fo own ad np ng f hn ads nps ngs fs tl tb hX.1 hX.2.1 hX.2.2.1 hV.1.1) (cwV 0 X.2.2.2.2 (lw_V q506 q508 qs3 q96 q509) rfl rfl rfl (by decide +kernel) ⟨by rw [hRf]; decide, by rw [hRl]; decide⟩) (mx_preV w rfl hfo rfl) rfl rfl hl.1 rfl (lv_room (Nat.le_of_ble_eq_true rfl)) dX0_reset_13 ⟨by rw [hRc]; omega, by rw [hRs]; omega⟩) (fun r M9 H locs hp w => ?_)
    obtain ⟨eR, hC⟩ := hp; subst eR
    obtain ⟨own1, ad2, g2, hX1, hcp, hFr⟩ := hC.cwx hX hV.1.1
    have hM := hX1.2.1.1
    have hV1 := hV.save hcp
    refine lv_iconst (v := (4 : Int32)) hx hb dX0_reset_16 (by decide) ?_
    refine lv_iconst (v := (0 : Int32)) hx hb dX0_reset_17 (by decide) ?_
    refine mx_bi w (va_runV (As := [.int (4 : Int32), .int (0 : Int32)]) (rest := []) X (ct_make4 l G A ad np ng M9 f (0 : Int32) hS.ne) (cwV 2 X.2.2.2.2 (lw_V q836 q837 q838 q97 q839) rfl rfl rfl (by decide +kernel) ⟨by rw [hRf]; exact Nat.le_of_ble_eq_true rfl, by rw [hRl]; exact Nat.le_of_ble_eq_true rfl⟩) (mx_preV w hM hM.st rfl) rfl rfl hl.1 rfl (lv_room (Nat.le_of_ble_eq_true rfl)) dX0_reset_18 ⟨by rw [hRc]; omega, by rw [hRs]; omega⟩) (fun r9 M2 H locs hp w => ?_)
    obtain ⟨eR, hM2⟩ := hp
    have hfin : r9 = (mf_reset v).1 ∧ CWP G fo Z M2 (mf_reset v).2 ∧ ∀ q, Z q → M2 q = M1 q := by
      obtain ⟨e7, s3, hV2⟩ := reset_1 hV hV1 hS c_9
      rw [e7]
      exact ⟨eR, op_fin hZ hFr (hX1.mut0 hM2 ⟨T, nz, hT, (E_make4 (w := v) (s := s9) hS).2.2⟩) hV2⟩
    refine lv_goto (tgt := 26) hx hb dX0_reset_21 (by decide) ?_
    refine W.widen (k := 61) (n := 440) (by omega) (by omega) ?_
    exact fin r9 _ H locs ls 26 dX0_reset_26 (hfin) w
