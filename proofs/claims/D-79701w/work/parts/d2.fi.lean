set_option maxRecDepth 100000
/-! FI: at first -/
theorem sd_tab : ∀ k, k < 19 → stLo k ≤ tN (sdF (20 + k)) ∧ tN (sdF (20 + k)) ≤ stHi k ∧ sdF (20 + k) = nI (tN (sdF (20 + k))) := by decide +kernel
theorem ip_first : IP 0 0 0 0 (Rf (f00 sdF)) := by
  have hb : (0 : Nat) ≤ 6 ∧ (0 : Nat) ≤ 8 ∧ (0 : Nat) ≤ 8 := ⟨by decide, by decide, by decide⟩
  refine ⟨⟨by decide, hb⟩, fun i => ?_⟩
  by_cases c : (7 ≤ i ∧ i ≤ 13) ∨ 127 ≤ i
  · exact okc_free hb c
  · rw [Rf_at (by omega)]
    have z0 : f00 sdF 0 = nI 0 := by rfl
    by_cases c39 : 39 ≤ i
    · have e : f00 sdF i = 0 := f00_0 c39 (by omega)
      rw [e]
      by_cases c87 : i < 87
      · have := okc_pump (T := 0) (np := 0) (nz := 0) (ng := 0) (k := (i - 39) / 8) (w := (i - 39) % 8) (x := 0) hb (by omega) (by omega) (fun z => absurd z (Nat.not_lt_zero _))
        rwa [show 39 + 8 * ((i - 39) / 8) + (i - 39) % 8 = i by omega] at this
      · by_cases c103 : i < 103
        · by_cases o : (i - 87) % 2 = 1
          · have := okc_open (T := 0) (np := 0) (nz := 0) (ng := 0) (k := (i - 87) / 2) (x := 0) hb (by omega) ⟨rg_0, fun _ => rfl⟩
            rwa [show 87 + 2 * ((i - 87) / 2) + 1 = i by omega] at this
          · have := okc_dem (T := 0) (np := 0) (nz := 0) (ng := 0) (k := (i - 87) / 2) (x := 0) hb (by omega) (fun z => absurd z (Nat.not_lt_zero _))
            rwa [show 87 + 2 * ((i - 87) / 2) = i by omega] at this
        · by_cases o0 : (i - 103) % 3 = 0
          · have := okc_pz (T := 0) (np := 0) (nz := 0) (ng := 0) (k := (i - 103) / 3) (x := 0) hb (by omega) (fun z => absurd z (Nat.not_lt_zero _))
            rwa [show 103 + 3 * ((i - 103) / 3) = i by omega] at this
          · by_cases o1 : (i - 103) % 3 = 1
            · have := okc_pf (T := 0) (np := 0) (nz := 0) (ng := 0) (k := (i - 103) / 3) (x := 0) hb (by omega) (fun z => absurd z (Nat.not_lt_zero _))
              rwa [show 103 + 3 * ((i - 103) / 3) + 1 = i by omega] at this
            · have := okc_pt (T := 0) (np := 0) (nz := 0) (ng := 0) (k := (i - 103) / 3) (x := 0) hb (by omega) (fun z => absurd z (Nat.not_lt_zero _))
              rwa [show 103 + 3 * ((i - 103) / 3) + 2 = i by omega] at this
    · by_cases c20 : 20 ≤ i
      · obtain ⟨k, rfl⟩ : ∃ k, i = 20 + k := ⟨i - 20, by omega⟩
        obtain ⟨h1, h2, h3⟩ := sd_tab k (by omega)
        rw [f00_s (by omega)]
        exact okc_set hb (by omega) ⟨_, h1, h2, h3⟩
      · have hc : i = 0 ∨ i = 1 ∨ i = 2 ∨ i = 3 ∨ i = 4 ∨ i = 5 ∨ i = 6 ∨ i = 14 ∨ i = 15 ∨ i = 16 ∨ i = 17 ∨ i = 18 ∨ i = 19 := by omega
        rcases hc with rfl | rfl | rfl | rfl | rfl | rfl | rfl | rfl | rfl | rfl | rfl | rfl | rfl
        · exact okc_0 hb z0
        · exact okc_1 hb ⟨0, by decide, by rfl⟩
        · exact okc_2 hb ⟨10000, by decide, by rfl⟩
        · exact okc_3 hb ⟨0, by decide, by rfl⟩
        · exact okc_4 hb (Or.inl (by rfl))
        · exact okc_5 hb ⟨0, by decide, by rfl⟩
        · exact okc_6 hb ⟨0, by decide, by rfl⟩
        · exact okc_14 hb (by rfl)
        · exact okc_15 hb (by rfl)
        · exact okc_16 hb (by rfl)
        · exact okc_17 hb ⟨0, by decide, by rfl⟩
        · exact okc_18 hb ⟨0, by decide, by rfl⟩
        · exact okc_19 hb ⟨0, by decide, by rfl⟩
theorem si_first : SI 0 0 0 0 (f00 sdF) := ⟨ip_first, fun k hk => absurd hk (Nat.not_lt_zero _), ⟨0, by decide, by rfl⟩, Or.inl (by rfl)⟩
theorem mi_tab : ∀ k, k < 170 → mf_init (fun _ _ => 0) 1 k = Rf (z7 (f00 sdF)) k := by decide +kernel
theorem mi_0 : mf_init (fun _ _ => 0) 0 2 = nI 0 ∧ mf_init (fun _ _ => 0) 0 6 = nI 0 := by decide +kernel
theorem init_rel {fs : Nat → Nat → Int32} {tb : Nat → Int32} : RelV (mf_init (fun _ _ => 0)) (mf_init (fun _ _ => 0) 1 170) (f00 sdF) 0 fs 0 tb := by
  refine ⟨⟨by decide, by decide⟩, Vf_row fun k hk => ?_, mi_0.1, fun i p hi => absurd hi (Nat.not_lt_zero _), mi_0.2, fun i hi => absurd hi (Nat.not_lt_zero _)⟩
  unfold Vf
  rw [if_pos rfl]
  by_cases c : k < 170
  · rw [if_pos c]; exact mi_tab k c
  · rw [if_neg c, if_pos (by omega), show k = 170 by omega, show z7 (f00 sdF) 177 = 0 from pk_us]
    exact Int32.or_zero.symm
section FI
variable {G : mg} {M M1 M3 : mh} {ad : Nat → Nat} {fo dq tx da va : Nat} {f : Nat → Int32} {gq : Nat → Option Nat} {ml : Int32} {fs0 : List Value}
theorem cwx_init (hM3 : Sta G ad 0 0 M1 M3 f) (hN : adN 0 0 ad) (hI : ∃ T nz, T ≤ 20000 ∧ SI T 0 nz 0 f) (h3 : M3 fo = some (.inr (0, fs0))) (hk : ∀ q, M3 q ≠ none → q ≠ fo → M q = M3 q) (hfo : M fo = some (.inr (0, [.ref (ad 0), .ref dq, .ref tx]))) (hdq : M dq = some (.inr (11, [.ref da, .int (nI 0), .int (nI 0)]))) (hda : M da = some (mRc (G.1.1 103) 17 gq))
    (htx : M tx = some (.inr (12, [.ref va, .int (0 : Int32), .int ml, .int (nI 0)]))) (hva : M va = some (mIc (G.1.1 102) 16 (fun _ => 0))) (n1 : M3 dq = none) (n2 : M3 da = none) (n3 : M3 tx = none) (n4 : M3 va = none) : ∃ own adt, CWX G fo own M adt 0 0 f 0 (fun _ => adt) (fun _ => 0) (fun _ => 0) (fun _ => f) 0 (fun _ => 0) := by
  obtain ⟨adt, hIt, e0, hr⟩ := hM3.renew (own := fun _ => none) hN hI
  have nn : ∀ r, r < 32 → ¬ (adt r = fo ∨ adt r = dq ∨ adt r = da ∨ adt r = tx ∨ adt r = va) := fun r hr9 z => by
    rcases z with z | z | z | z | z
    · exact hIt.cl hr9 (c := 0) (by decide) fs0 (by rw [z]; exact h3)
    · exact hIt.ne hr9 (by rw [z]; exact n1)
    · exact hIt.ne hr9 (by rw [z]; exact n2)
    · exact hIt.ne hr9 (by rw [z]; exact n3)
    · exact hIt.ne hr9 (by rw [z]; exact n4)
  refine ⟨fun q => if q = fo ∨ q = dq ∨ q = da ∨ q = tx ∨ q = va then some fo else reO (fun _ => none) adt q, adt, ⟨dq, tx, da, va, 0, 0, 16, gq, fun _ => 0, ml, by rw [e0]; exact hfo, hdq, hda, ⟨by decide, by decide, rfl⟩, fun i hi => absurd hi (Nat.not_lt_zero _), ⟨htx, hva, Nat.zero_le _, by decide, fun i hi => absurd hi (Nat.not_lt_zero _), fun i hi => rfl⟩, if_pos (Or.inl rfl), if_pos (Or.inr (Or.inl rfl)), if_pos (Or.inr (Or.inr (Or.inl rfl))), if_pos (Or.inr (Or.inr (Or.inr (Or.inl rfl)))), if_pos (Or.inr (Or.inr (Or.inr (Or.inr rfl))))⟩,
    hIt.keep (W := fun q => q = fo) (fun q hq hn9 => hk q hq hn9) (fun r hr9 z => nn r hr9 (Or.inl z)) (fun q fs9 z y => by rw [z, h3] at y; cases y) (fun q fs9 z y => by rw [z, h3] at y; cases y) (fun r hr9 => if_neg (nn r hr9)), fun i hi => absurd hi (Nat.not_lt_zero _), fun i hi => absurd hi (Nat.not_lt_zero _), fun i j hi => absurd hi (Nat.not_lt_zero _)⟩
end FI

