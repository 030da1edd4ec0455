set_option maxRecDepth 100000
/-! MS: minutes passed -/
/-! MS: many minutes -/
def hitB (a b T : Nat) : Bool := decide (((T + 1) % 1440 + 1440 - a) % 1440 + 1 = b)
theorem hitB_iff {a b T : Nat} : hitB a b T = true ↔ ((T + 1) % 1440 + 1440 - a) % 1440 + 1 = b := decide_eq_true_iff
def hitN (a b T : Nat) : Nat → Nat
  | 0 => 0
  | k + 1 => hitN a b T k + (if hitB a b (T + k) = true then 1 else 0)
section MS
variable {f g h : Nat → Int32} {T np nz ng n a b : Nat}
theorem hitN_le (ha : a ≤ 1439) : ∀ k, k ≤ 1440 → hitN a b T k ≤ 1 := by
  have key : ∀ k, k ≤ 1440 → hitN a b T k = 0 ∨ (hitN a b T k = 1 ∧ ∃ i, i < k ∧ hitB a b (T + i) = true) := by
    intro k
    induction k with
    | zero => intro _; exact Or.inl rfl
    | succ k ih =>
      intro hk
      rw [hitN]
      by_cases c : hitB a b (T + k) = true
      · rw [if_pos c]
        rcases ih (by omega) with e | ⟨e, i, hi, h2⟩
        · exact Or.inr ⟨by omega, k, by omega, c⟩
        · exfalso
          rw [hitB_iff] at c h2
          omega
      · rw [if_neg c]
        rcases ih (by omega) with e | ⟨e, i, hi, h2⟩
        · exact Or.inl (by omega)
        · exact Or.inr ⟨by omega, i, by omega, h2⟩
  intro k hk
  rcases key k hk with e | ⟨e, _⟩ <;> omega
def MinsR (np nz ng T : Nat) : Nat → (Nat → Int32) → (Nat → Int32) → Prop
  | 0, f, g => g = f
  | n + 1, f, g => ∃ h, MinsR np nz ng T n f h ∧ MinR np nz ng (T + n) h g
theorem MinsR.si (h : MinsR np nz ng T n f g) (hS : SI T np nz ng f) : SI (T + n) np nz ng g := by
  induction n generalizing g with
  | zero => cases h; exact hS
  | succ n ih => obtain ⟨h, h1, h2⟩ := h; exact h2.1
theorem MinsR.ks (h : MinsR np nz ng T n f g) : kS f g := by
  induction n generalizing g with
  | zero => cases h; exact kS.r
  | succ n ih => obtain ⟨h, h1, h2⟩ := h; exact (ih h1).t h2.2.1
theorem kS.nt (h : kS f g) : ntA g T ↔ hitB (tN (f 35)) (tN (f 36)) T = true := by
  rw [hitB_iff]
  unfold ntA
  rw [h 35 (by decide) (by decide), h 36 (by decide) (by decide)]
theorem SI.a35 (h : SI T np nz ng f) : tN (f 35) ≤ 1439 := by
  have e35 := h.ip.set (k := 15) (by decide)
  rw [Rf_at (by decide)] at e35
  obtain ⟨a, a0, a1, a2⟩ := e35
  have a1' : a ≤ 1439 := a1
  have f35 : f 35 = nI a := a2
  rw [f35, tN_nI (by omega)]
  exact a1'
/-- the reference's minutes, one by one -/
def minsV : Nat → (Nat → Nat → Int32) → Nat → Nat → Int32
  | 0, v => v
  | n + 1, v => mf_minute (minsV n v)
theorem MinsR.vf (h : MinsR np nz ng T n f g) (w : Nat → Nat → Int32) (s : Int32) : ∃ s', Vf w s' (z7 g) = minsV n (Vf w s (z7 f)) := by
  induction n generalizing g with
  | zero => cases h; exact ⟨s, rfl⟩
  | succ n ih =>
    obtain ⟨h, h1, h2⟩ := h
    obtain ⟨s', e⟩ := ih h1
    exact ⟨s' ||| g 177, by rw [Vf_z7, h2.2.2 w s', e]; rfl⟩
end MS

set_option maxHeartbeats 4000000 in
set_option maxRecDepth 100000 in
theorem ct_make3 (l : Launch) (G : mg) (A : Nat → Prop) (ad : Nat → Nat) (np ng : Nat) (M0 : mh) (f : Nat → Int32) (T nz cnt : Nat) (hS : SI T np nz ng f) (hc : cnt ≤ 1440) (hT : T + cnt < 1000000) : Met l yX1_make (ws_ yX1_make cX1_make 6 (some .int)) ({ frames := 12, cells := 66, slots := 171, locals := 261 }) (va_Pc [.ref (ad 0), .int (3 : Int32), .int (nI cnt)] (mU G A (fun M => Sta G ad np ng M0 M f))) (mQi G A (fun r M => ∃ g, Sta G ad np ng M0 M g ∧ MinsR np nz ng T cnt f g ∧ r = g 0)) 66 171 A := by
  refine mx_ofi (by decide) (Nat.le_of_ble_eq_true rfl) ?_
  intro p e R s m av below meth c M H Q ls X hRf hRl hRc hRs hin hPre w fin hl
  have X : CallFix p m c cX1_make 6 s av lw_all "FieldPumps$Station" := X
  have hx := X.1
  have hb := X.2.1
  have hl : lv_has ls 6 [(0, .ref (ad 0)), (1, .int (3 : Int32)), (2, .int (nI cnt))] := hl
  have hRf : R.frames = 12 := hRf
  have hRl : R.locals = 261 := hRl
  have hRc : R.cells = 66 := hRc
  have hRs : R.slots = 171 := hRs
  generalize ([] : List Loc) = locs at w ⊢
  have hM := hPre
  have ha35 := hS.a35
  refine lv_iload_n hx hb dX1_make_0 rfl (lv_at hl 1 rfl) ?_
  refine lv_tableIn (tgt := 96) hx hb dX1_make_1 (by decide) (by decide) (by rfl) (by decide) ?_
  refine lv_iconst (v := (0 : Int32)) hx hb dX1_make_96 (by decide) ?_
  refine lv_istore (lv' := [(5, .int (0 : Int32)), (0, .ref (ad 0)), (1, .int (3 : Int32)), (2, .int (nI cnt))]) hx hb dX1_make_97 hl (by decide) rfl (fun ls hl => ?_)
  have L99 : ∀ (n_99 : Nat) (n5_99 : Nat) (g_99 : (Nat → Int32)) (M : mh) (H : Heap) (locs : List Loc) (ls : Array Slot), (hk : n5_99 ≤ cnt) → (hM : Sta G ad np ng M0 M g_99) → (hR : MinsR np nz ng T n5_99 f g_99) → (hm : cnt < n5_99 + n_99) → lv_has ls 6 [(0, .ref (ad 0)), (2, .int (nI cnt)), (5, .int (nI n5_99))] → mW G A s M H locs → True → W p l e R s m av below meth c H locs (66 * hitN (tN (f 35)) (tN (f 36)) T n5_99) (171 * hitN (tN (f 35)) (tN (f 36)) T n5_99) Q (F0 m 99 ls []) := by
    intro n_99
    induction n_99 with
    | zero =>
      intro n5_99 g_99 M H locs ls hk hM hR hm hl w _hT
      exfalso; omega
    | succ n_99 ih_99 =>
      intro n5_99 g_99 M H locs ls hk hM hR hm hl w _hT
      refine lv_iload hx hb dX1_make_99 (lv_at hl 2 rfl) ?_
      refine lv_iload_n hx hb dX1_make_101 rfl (lv_at hl 1 rfl) ?_
      refine mx_nge (u := n5_99) (v := cnt) (tgt := 115) hx hb rfl rfl (by omega) (by omega) dX1_make_102 (by decide) (fun c_102 => ?_) (fun c_102 => ?_)
      · skip
        have hh0 := hitN_le (a := tN (f 35)) (b := tN (f 36)) (T := T) ha35 n5_99 (by omega)
        have hkc : n5_99 = cnt := by omega
        rw [hkc] at hR
        refine lv_aload_n hx hb dX1_make_115 rfl (lv_at hl 0 rfl) ?_
        refine mx_get (T := TX1) (v := .int (g_99 0)) X w in_X1 (ci := 1) rfl 18 (by decide) q326 (fun _ h => h) hM.st rfl dX1_make_116 ?_
        refine W.widen (k := 66) (n := 171) (by omega) (by omega) ?_
        exact fin (g_99 0) _ H locs ls 119 dX1_make_119 (⟨_, hM, hR, rfl⟩) w
      · skip
        refine lv_aload_n hx hb dX1_make_105 rfl (lv_at hl 0 rfl) ?_
        obtain ⟨hz9, ehb⟩ : ∃ hz9 : Nat, hz9 = if hitB (tN (f 35)) (tN (f 36)) (T + n5_99) = true then 1 else 0 := ⟨_, rfl⟩
        have hh : hitN (tN (f 35)) (tN (f 36)) T (n5_99 + 1) = hitN (tN (f 35)) (tN (f 36)) T n5_99 + hz9 := by rw [ehb]; rfl
        have hh1 := hitN_le (a := tN (f 35)) (b := tN (f 36)) (T := T) ha35 (n5_99 + 1) (by omega)
        refine mx_bv w (va_runV (As := []) (rest := []) X (ct_minute l G A ad np ng M0 g_99 (T + n5_99) nz (66 * hz9) (171 * hz9) (hR.si hS) (by omega) (fun h9 => by rw [ehb, if_pos ((hR.ks.nt).mp h9)]; exact ⟨rfl, rfl⟩)) (cwV 0 X.2.2.2.2 (lw_V q861 q862 q863 q97 q864) rfl rfl rfl (by decide +kernel) ⟨by rw [hRf]; exact Nat.le_of_ble_eq_true rfl, by rw [hRl]; exact Nat.le_of_ble_eq_true rfl⟩) (mx_preV w hM hM.st rfl) rfl rfl hl.1 rfl (lv_room (Nat.le_of_ble_eq_true rfl)) dX1_make_106 ⟨by rw [hRc]; omega, by rw [hRs]; omega⟩) (fun M9 H locs hp w => ?_)
        obtain ⟨g9, hM, hq9⟩ := hp
        have hR : MinsR np nz ng T (n5_99 + 1) f g9 := ⟨_, hR, hq9⟩
        refine lv_iinc (v := (nI (n5_99 + 1))) (lv' := [(5, .int (nI (n5_99 + 1))), (0, .ref (ad 0)), (2, .int (nI cnt))]) hx hb dX1_make_109 hl (k := 2) rfl (nI_incr _ 1) (by decide) rfl (fun ls hl => ?_)
        refine lv_goto (tgt := 99) hx hb dX1_make_112 (by decide) ?_
        refine W.widen (k := (66 * hitN (tN (f 35)) (tN (f 36)) T (n5_99 + 1))) (n := (171 * hitN (tN (f 35)) (tN (f 36)) T (n5_99 + 1))) (by omega) (by omega) ?_
        exact ih_99 (n5_99 + 1) g9 _ H locs ls (by first | omega | assumption | exact (by omega)) (by first | omega | assumption | exact hM) (by first | omega | assumption | exact hR) (by first | omega | assumption) (lv_sub hl [1, 2, 0] rfl) w trivial
  refine W.widen (k := (66 * hitN (tN (f 35)) (tN (f 36)) T 0)) (n := (171 * hitN (tN (f 35)) (tN (f 36)) T 0)) (by omega) (by omega) ?_
  exact L99 (cnt + 1) 0 f _ H locs ls (by first | omega | assumption | exact (Nat.zero_le _)) (by first | omega | assumption | exact hM) (by first | omega | assumption | exact rfl) (by first | omega | assumption) (lv_sub hl [1, 3, 0] rfl) w trivial
