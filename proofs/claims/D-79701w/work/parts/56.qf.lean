set_option maxRecDepth 100000
set_option maxRecDepth 100000
/-! QF: the root and the curve -/
section QF
variable {w : Nat → Nat → Int32} {s : Int32} {f g : Nat → Int32} {T np nz ng : Nat}
theorem root_5_eq (q : Nat) : ∀ (n lo hi : Nat), lo ≤ hi → hi < lo + n → lo * lo ≤ q → q < (hi + 1) * (hi + 1) → ∃ r, cf_root_5 q n lo hi = nI r ∧ r * r ≤ q ∧ q < (r + 1) * (r + 1) := by
  intro n
  induction n with
  | zero => intro lo hi h1 h2; omega
  | succ n ih =>
    intro lo hi h1 h2 h3 h4
    rw [cf_root_5]
    by_cases c : hi ≤ lo
    · have : hi = lo := by omega
      subst this
      rw [if_pos c]
      exact ⟨hi, rfl, h3, h4⟩
    · rw [if_neg c]
      by_cases d : q < ((lo + hi + 1) / 2) * ((lo + hi + 1) / 2)
      · rw [if_pos d]
        have e : (lo + hi + 1) / 2 - 1 + 1 = (lo + hi + 1) / 2 := by omega
        exact ih lo ((lo + hi + 1) / 2 - 1) (by omega) (by omega) h3 (by rw [e]; exact d)
      · rw [if_neg d]
        exact ih ((lo + hi + 1) / 2) hi (by omega) (by omega) (by omega) h4
theorem root_uniq {q a b : Nat} (h1 : a * a ≤ q) (h2 : q < (a + 1) * (a + 1)) (h3 : b * b ≤ q) (h4 : q < (b + 1) * (b + 1)) : a = b := by
  rcases Nat.lt_trichotomy a b with h | h | h
  · have := Nat.mul_le_mul (show a + 1 ≤ b by omega) (show a + 1 ≤ b by omega)
    omega
  · exact h
  · have := Nat.mul_le_mul (show b + 1 ≤ a by omega) (show b + 1 ≤ a by omega)
    omega
theorem E_root {x : Int64} {nn : Nat} (hx : x = lN nn) (hn : nn ≤ 2000000) : cf_root nn = mf_root x := by
  obtain ⟨q, e, h1, h2⟩ := root_eq hx hn
  obtain ⟨r, e2, h3, h4⟩ := root_5_eq nn 46341 0 46340 (by omega) (by omega) (by omega) (by omega)
  rw [cf_root, e2, e, root_uniq h1 h2 h3 h4]
theorem E_curve {v : Nat → Nat → Int32} {k : Nat} {speed pressure : Int32} (h : FlowOk v k speed pressure) : cf_curve (mf_of v k 1) (mf_of v k 2) speed pressure = mf_flow v k speed pressure := by
  obtain ⟨sp, pr, sh, st, a, b, c1, d, h1, h2, h3, h4, h5, h6, e⟩ := flow_lift h
  have hl : sh * sp * sp / 1000000 ≤ 2000 := by omega
  have hc : (0 < lg_cmp ((((mf_of v k 1).toInt64 * speed.toInt64) * speed.toInt64) / 1000000) pressure.toInt64) ↔ pr < sh * sp * sp / 1000000 := by
    rw [e, b, nI_l (by omega), lg_cmp_gt, pk_lLT (by omega) (by omega)]
  have hd : (pressure < mf_of v k 1 * speed * speed / 1000000) ↔ pr < sh * sp * sp / 1000000 := by
    rw [c1, a, b, cv_lift h3 h1]
    exact nI_ltI (by omega) (by omega)
  rw [cf_curve, mf_flow]
  by_cases c : pr < sh * sp * sp / 1000000
  · rw [if_pos (hd.mpr c), if_pos (hc.mpr c), cf_curve_34, mf_flow_51]
    have hq : (sh * sp * sp / 1000000 - pr) * 1000 / st ≤ 2000000 := Nat.le_trans (Nat.div_le_self _ _) (by omega)
    have e1 : ((mf_of v k 1 * speed * speed / 1000000 - pressure) * 1000) / mf_of v k 2 = nI ((sh * sp * sp / 1000000 - pr) * 1000 / st) := by
      rw [c1, a, b, d, cv_lift h3 h1, nI_sub (by omega), show (1000 : Int32) = nI 1000 from rfl, nI_mul, pk_div (by omega) (by omega) (by omega)]
    have e2 : ((((((mf_of v k 1).toInt64 * speed.toInt64) * speed.toInt64) / 1000000) - pressure.toInt64) * 1000) / (mf_of v k 2).toInt64 = lN ((sh * sp * sp / 1000000 - pr) * 1000 / st) := by
      rw [e, b, d, nI_l (by omega), nI_l (by omega), lN_sub (by omega)]
      rw [show (lN (sh * sp * sp / 1000000 - pr) * 1000 : Int64) = lN ((sh * sp * sp / 1000000 - pr) * 1000) from lN_mul _ 1000]
      exact pk_lDiv (by omega) h4 (by omega)
    rw [e1, e2, tN_nI (by omega)]
    exact E_root rfl hq
  · rw [if_neg (fun q => c (hd.mp q)), if_neg (fun q => c (hc.mp q)), cf_curve_34, mf_flow_51]
end QF

