set_option maxRecDepth 100000
/-! PG: a programme added -/
set_option maxHeartbeats 4000000 in
set_option maxRecDepth 100000 in
theorem jt_pr_init (l : Launch) (G : mg) (A : Nat → Prop) (M1 : mh) (a : Nat) (x0 : Int32) (x1 : Int32) (x2 : Int32)  (h_a : M1 a = some (.inr (7, [.int (0 : Int32), .int (0 : Int32), .int (0 : Int32)])))   : Met l yX9_init (ws_ yX9_init cX9_init 4 (none)) ({ frames := 1, cells := 0, slots := 0, locals := 12 }) (va_Pc [.ref a, .int x0, .int x1, .int x2] (mU G A (fun M => M = M1))) (mQv G A (fun M => M = (va_up (va_up (va_up M1 a (some (.inr (7, [.int x0, .int (0 : Int32), .int (0 : Int32)])))) a (some (.inr (7, [.int x0, .int x1, .int (0 : Int32)])))) a (some (.inr (7, [.int x0, .int x1, .int x2])))))) 0 0 A := by
  refine mx_ofv (by decide) (Nat.le_of_ble_eq_true rfl) ?_
  intro p e R s m av below meth c M H Q ls X hRf hRl hRc hRs hin eM w fin hl
  subst M
  have X : CallFix p m c cX9_init 4 s av lw_all "FieldPumps$Programme" := X
  have hx := X.1
  have hb := X.2.1
  have hl : lv_has ls 4 [(0, .ref a), (1, .int x0), (2, .int x1), (3, .int x2)] := hl
  have hRf : R.frames = 1 := hRf
  have hRl : R.locals = 12 := hRl
  have hRc : R.cells = 0 := hRc
  have hRs : R.slots = 0 := hRs
  have hin : meth.name = "<init>" := hin
  generalize ([] : List Loc) = locs at w ⊢
  refine lv_aload_n hx hb dX9_init_0 rfl (lv_at hl 0 rfl) ?_
  refine W.objInit hx hb X.2.2.2.1 (X.2.2.2.2 _ q1638) (X.2.2.2.2 _ q144) (X.2.2.2.2 _ q145) rfl (by rw [X.2.2.1]; exact hl.1) rfl dX9_init_1 (by rw [hRf]; decide) (by rw [hRl]; exact Nat.le_of_ble_eq_true rfl) ?_
  refine W.eq (g2 := F0 m 4 ls []) rfl ?_
  refine lv_aload_n hx hb dX9_init_4 rfl (lv_at hl 0 rfl) ?_
  refine lv_iload_n hx hb dX9_init_5 rfl (lv_at hl 1 rfl) ?_
  refine mx_putF (T := TX9) X w in_X9 tyX9 tyX9_ok nmX9 (ci := 7) rfl 0 (by decide) q1639 (fun _ h => h) rfl hin rfl (v := .int x0) rfl rfl h_a (show 0 < 3 by decide) dX9_init_6 (fun H locs w => ?_)
  have w : mW G A s (va_up M1 a (some (.inr (7, [.int x0, .int (0 : Int32), .int (0 : Int32)])))) H locs := w
  have h_a : (va_up M1 a (some (.inr (7, [.int x0, .int (0 : Int32), .int (0 : Int32)])))) a = some (.inr (7, [.int x0, .int (0 : Int32), .int (0 : Int32)])) := va_up_s
  refine lv_aload_n hx hb dX9_init_9 rfl (lv_at hl 0 rfl) ?_
  refine lv_iload_n hx hb dX9_init_10 rfl (lv_at hl 2 rfl) ?_
  refine mx_putF (T := TX9) X w in_X9 tyX9 tyX9_ok nmX9 (ci := 7) rfl 1 (by decide) q1642 (fun _ h => h) rfl hin rfl (v := .int x1) rfl rfl h_a (show 1 < 3 by decide) dX9_init_11 (fun H locs w => ?_)
  have w : mW G A s (va_up (va_up M1 a (some (.inr (7, [.int x0, .int (0 : Int32), .int (0 : Int32)])))) a (some (.inr (7, [.int x0, .int x1, .int (0 : Int32)])))) H locs := w
  have h_a : (va_up (va_up M1 a (some (.inr (7, [.int x0, .int (0 : Int32), .int (0 : Int32)])))) a (some (.inr (7, [.int x0, .int x1, .int (0 : Int32)])))) a = some (.inr (7, [.int x0, .int x1, .int (0 : Int32)])) := va_up_s
  refine lv_aload_n hx hb dX9_init_14 rfl (lv_at hl 0 rfl) ?_
  refine lv_iload_n hx hb dX9_init_15 rfl (lv_at hl 3 rfl) ?_
  refine mx_putF (T := TX9) X w in_X9 tyX9 tyX9_ok nmX9 (ci := 7) rfl 2 (by decide) q1644 (fun _ h => h) rfl hin rfl (v := .int x2) rfl rfl h_a (show 2 < 3 by decide) dX9_init_16 (fun H locs w => ?_)
  have w : mW G A s (va_up (va_up (va_up M1 a (some (.inr (7, [.int x0, .int (0 : Int32), .int (0 : Int32)])))) a (some (.inr (7, [.int x0, .int x1, .int (0 : Int32)])))) a (some (.inr (7, [.int x0, .int x1, .int x2])))) H locs := w
  have h_a : (va_up (va_up (va_up M1 a (some (.inr (7, [.int x0, .int (0 : Int32), .int (0 : Int32)])))) a (some (.inr (7, [.int x0, .int x1, .int (0 : Int32)])))) a (some (.inr (7, [.int x0, .int x1, .int x2])))) a = some (.inr (7, [.int x0, .int x1, .int x2])) := va_up_s
  exact fin _ H locs ls 19 dX9_init_19 rfl w
section PG
variable {hn tl hn2 tl2 : Nat} {f g : Nat → Int32} {fs fs2 : Nat → Nat → Int32} {tb tb2 : Nat → Int32} {v : Nat → Nat → Int32} {s zo fr too : Int32} {np nz ng T : Nat}
def prY (zo fr too : Int32) : Nat → Int32 := fun w => if w = 0 then zo else if w = 1 then fr else too
theorem prog_v (hg : ng < 8) {w : Nat → Nat → Int32} : Vf w s (aGf f ng (prY zo fr too)) = u2 (u2 (u2 (u2 (Vf w s f) 1 (103 + (3 * ng)) zo) 1 (103 + (3 * ng) + 1) fr) 1 (103 + (3 * ng) + 2) too) 1 16 (nI (ng + 1)) := by
  have e : Vf w s (aGf f ng (prY zo fr too)) = Vf w s (upd (upd (upd (upd f (103 + (3 * ng)) zo) (103 + (3 * ng) + 1) fr) (103 + (3 * ng) + 2) too) 16 (nI (ng + 1))) := by
    refine Vf_q fun q hq => ?_
    by_cases c16 : q = 16
    · rw [c16, pk_us, aGf_16]
    · rw [pk_un c16]
      by_cases c2 : q = 103 + (3 * ng) + 2
      · rw [c2, pk_us, aGf_y (w := 2) (by decide)]; rfl
      · rw [pk_un c2]
        by_cases c1 : q = 103 + (3 * ng) + 1
        · rw [c1, pk_us, aGf_y (w := 1) (by decide)]; rfl
        · rw [pk_un c1]
          by_cases c0 : q = 103 + (3 * ng)
          · rw [c0, pk_us]; exact aGf_y (w := 0) (by decide)
          · rw [pk_un c0, aGf_o (by omega) c16 (by omega)]
  rw [e, Vf_up (by decide) (by decide) (by decide), Vf_up (by omega) (by omega) (by omega), Vf_up (by omega) (by omega) (by omega), Vf_up (by omega) (by omega) (by omega)]
theorem SI.prog (hS : SI T np nz ng f) (hg : ng < 8) (hz : ∃ j, j < nz ∧ zo = nI j) (hf : rg fr 1439) (ht : rg too 1439) : SI T np nz (ng + 1) (aGf f ng (prY zo fr too)) := by
  have hn := hS.n6
  have z8 := hS.ip.z8
  have hb : np ≤ 6 ∧ nz ≤ 8 ∧ ng + 1 ≤ 8 := ⟨hn, z8, by omega⟩
  have hI : IP T np nz (ng + 1) (u2 (u2 (u2 (u2 (Vf (fun _ _ => 0) 0 f) 1 (103 + (3 * ng)) zo) 1 (103 + (3 * ng) + 1) fr) 1 (103 + (3 * ng) + 2) too) 1 16 (nI (ng + 1)) 1) := by
    have h0 := IP_Vf (w := fun _ _ => 0) (s := 0) hS.ip
    refine h0.to ⟨hS.ip.1.1, hb⟩ fun i hi => ?_
    by_cases c16 : i = 16
    · rw [c16, u2_s]; exact okc_16 hb rfl
    · rw [u2_k c16]
      by_cases c2 : i = 103 + (3 * ng) + 2
      · rw [c2, u2_s]; exact okc_pt hb hg (fun _ => ht)
      · rw [u2_k c2]
        by_cases c1 : i = 103 + (3 * ng) + 1
        · rw [c1, u2_s]; exact okc_pf hb hg (fun _ => hf)
        · rw [u2_k c1]
          by_cases c0 : i = 103 + (3 * ng)
          · rw [c0, u2_s]; exact okc_pz hb hg (fun _ => hz)
          · rw [u2_k c0]
            have q0 : ∀ k, k < ng + 1 → i = 103 + (3 * k) → k < ng := fun k hk e => by omega
            have q1 : ∀ k, k < ng + 1 → i = 103 + (3 * k) + 1 → k < ng := fun k hk e => by omega
            have q2 : ∀ k, k < ng + 1 → i = 103 + (3 * k) + 2 → k < ng := fun k hk e => by omega
            generalize Vf (fun _ _ => 0) 0 f 1 i = y at hi ⊢
            obtain ⟨a0, a1, a2, a3, a4, a5, a6, a14, a15, a16, a17, a18, a19, aset, apm, aop, adm, apz, apf, apt⟩ := hi
            exact ⟨a0, a1, a2, a3, a4, a5, a6, a14, a15, fun z => absurd z c16, a17, a18, a19, aset, apm, aop, adm, fun k hk e => apz k (q0 k hk e) e, fun k hk e => apf k (q1 k hk e) e, fun k hk e => apt k (q2 k hk e) e⟩
  refine ⟨IP_Rf (w := fun _ _ => 0) (s := 0) (by rw [prog_v hg]; exact hI), fun k hk => ?_, ?_, hS.vr.cong ?_ (fun d => ?_) (fun d => ?_)⟩
  · rw [aGf_o (by omega) (by omega) (by omega)]; exact hS.2.1 k hk
  · rw [aGf_o (by omega) (by decide) (by decide)]; exact hS.q
  · rw [aGf_o (by omega) (by decide) (by decide)]
  · obtain ⟨e5, h5⟩ := isP_n hS.var d hn
    rw [aGf_o (by omega) (by omega) (by omega)]
  · obtain ⟨e5, h5⟩ := isP_n hS.var d hn
    rw [aGf_o (by omega) (by omega) (by omega)]
end PG

