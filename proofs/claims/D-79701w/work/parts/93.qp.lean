set_option maxRecDepth 100000
/-! QP: the night's stage is the reference's -/
section QP
variable {w : Nat → Nat → Int32} {s : Int32} {f g : Nat → Int32} {nn : Nat}
theorem n4_Vf : mf_minuteOfDay (Vf w s f) - mf_setting (Vf w s f) 15 + (1440 : Int32) - (mf_minuteOfDay (Vf w s f) - mf_setting (Vf w s f) 15 + (1440 : Int32)) / (1440 : Int32) * (1440 : Int32) = n4 f := by
  unfold mf_minuteOfDay mf_setting n4
  rw [Vf_at (p := 0) (by decide), Vf_at (p := 20 + 15) (by decide)]
theorem lt_pred {x y : Int32} {a : Nat} (h1 : 1 ≤ a) (h2 : a < 2 ^ 31) (hy : y = nI a) : (x < y ∧ y - (1 : Int32) ≤ x) ↔ x = y - (1 : Int32) := by
  have e1 : y - (1 : Int32) = nI (a - 1) := by rw [hy]; exact nI_sub (b := 1) h1
  rw [e1, hy]
  have t1 : (nI a).toInt = a := nI_toInt h2
  have t2 : (nI (a - 1)).toInt = ((a - 1 : Nat) : Int) := nI_toInt (by omega)
  constructor
  · rintro ⟨c1, c2⟩
    have d1 := Int32.lt_iff_toInt_lt.mp c1
    have d2 := Int32.le_iff_toInt_le.mp c2
    exact Int32.toInt_inj.mp (by omega)
  · intro e
    rw [e]
    exact ⟨Int32.lt_iff_toInt_lt.mpr (by omega), Int32.le_iff_toInt_le.mpr (Int.le_refl _)⟩
theorem E_night1 (h18 : f 18 = nI nn) (hn7 : nn ≤ 7) (he : rg (f 19) 12) {v : Nat → Nat → Int32} (hg : NightG f nn g) : Vf w s g = (if Vf w s f 1 18 < (3 : Int32) then mf_night_110 v (Vf w s f) else (if Vf w s f 1 8 ≤ mf_middleNight (Vf w s f) + mf_setting (Vf w s f) 17 then mf_night_110 v (Vf w s f) else mf_night_c107 v (mf_event (u2 (Vf w s f) 1 9 (Vf w s f 1 9 + (1 : Int32))) (6 : Int32) (-1 : Int32)))) := by
  obtain ⟨mid, hm, rfl⟩ := hg
  unfold nightF night1
  rw [Vf_at (p := 18) (by decide), h18]
  by_cases c : nn < 3
  · rw [if_neg (show ¬ (3 ≤ nn ∧ mid + f 37 < f 8) from fun z => by have := z.1; omega), if_pos (show nI nn < (3 : Int32) from Int32.not_le.mp fun z => by have := (nI_leq (a := 3) (by omega) (by omega)).mp z; omega)]
    exact E_nightT h18 hn7
  · rw [if_neg (show ¬ nI nn < (3 : Int32) from Int32.not_lt.mpr ((nI_leq (a := 3) (by omega) (by omega)).mpr (by omega))), E_mid h18 hn7 (by omega) (hm (by omega)), Vf_at (p := 8) (by decide)]
    unfold mf_setting
    rw [Vf_at (p := 20 + 17) (by decide)]
    by_cases d : f 8 ≤ mid + f 37
    · rw [if_neg (show ¬ (3 ≤ nn ∧ mid + f 37 < f 8) from fun z => absurd z.2 (Int32.not_lt.mpr d)), if_pos (show f 8 ≤ mid + f (20 + 17) from d)]
      exact E_nightT h18 hn7
    · rw [if_pos (show 3 ≤ nn ∧ mid + f 37 < f 8 from ⟨by omega, Int32.not_le.mp d⟩), if_neg (show ¬ f 8 ≤ mid + f (20 + 17) from d)]
      have he' : rg (upd f 9 (f 9 + 1) 19) 12 := by rw [pk_un (by decide)]; exact he
      rw [E_nightT (v := v) ((tell1_o he' _ (Or.inl (by decide)) (by decide)).trans ((pk_un (by decide)).trans h18)) hn7, E_tell1 he', Vf_up (by decide) (by decide) (by decide), Vf_at (p := 9) (by decide)]
      rfl
theorem E_go4 (h18 : f 18 = nI nn) (hn7 : nn ≤ 7) (he : rg (f 19) 12) {a : Nat} (h1 : 1 ≤ a) (h2 : a < 2 ^ 31) (h36 : f 36 = nI a) (hg : Go4 f nn g) : Vf w s g = mf_night (Vf w s f) := by
  have hl := lt_pred (x := n4 f) h1 h2 h36
  unfold mf_night
  rw [n4_Vf]
  unfold Go4 at hg
  have s16 : mf_setting (Vf w s f) 16 = f 36 := Vf_at (p := 36) (by decide)
  rw [s16]
  by_cases c : n4 f < f 36
  · have e4 : f4 f = upd f 8 (f 8 + f 3) := f4_of (Or.inl ⟨c, rfl⟩)
    rw [e4] at hg
    rw [if_pos c]
    have eu : u2 (Vf w s f) 1 8 (Vf w s f 1 8 + Vf w s f 1 3) = Vf w s (upd f 8 (f 8 + f 3)) := by
      rw [Vf_up (by decide) (by decide) (by decide), Vf_at (p := 8) (by decide), Vf_at (p := 3) (by decide)]
    rw [eu, show mf_setting (Vf w s (upd f 8 (f 8 + f 3))) 16 = f 36 from (Vf_at (p := 36) (by decide)).trans (pk_un (by decide))]
    by_cases d : f 36 - (1 : Int32) ≤ n4 f
    · rw [if_pos (hl.mp ⟨c, d⟩)] at hg
      rw [if_pos d]
      exact E_night1 ((pk_un (by decide)).trans h18) hn7 (by rw [pk_un (by decide)]; exact he) hg
    · rw [if_neg (fun z => d (hl.mpr z).2)] at hg
      rw [if_neg d, hg]
  · have e4 : f4 f = upd f 8 (f 8 + (0 : Int32)) := f4_of (Or.inr ⟨c, rfl⟩)
    rw [if_neg (fun z => c (hl.mpr z).1), e4] at hg
    rw [if_neg c, hg, Vf_up (by decide) (by decide) (by decide), show f 8 + (0 : Int32) = Vf w s f 1 8 from (Int32.add_zero _).trans (Vf_at (p := 8) (by decide)).symm]
    exact u2_same
end QP

