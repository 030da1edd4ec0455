set_option maxRecDepth 100000
/-! QU: the pumps' minutes and the water's numbers do not meet -/
section QU
variable {g : Nat → Int32}
theorem runK_upd {q k : Nat} {x : Int32} (hq : q < 39) : runK (upd g q x) k = upd (runK g k) q x := by
  have er : cf_runs (upd g q x) k = cf_runs g k := runs_cong (pk_un (by omega))
  unfold runK
  rw [er, pk_un (by omega), pk_un (by omega), upd_swap (a := q) (by omega), upd_swap (a := q) (by omega)]
theorem go3_upd {f0 f1 : Nat → Int32} {q : Nat} {x : Int32} (hq : q < 14) : ∀ (n k : Nat) (g : Nat → Int32), cf_go3_2 f0 n k (upd g q x) = upd (cf_go3_2 f1 n k g) q x := by
  intro n
  induction n with
  | zero => intro k g; rfl
  | succ n ih =>
    intro k g
    have e14 : nC (upd g q x) 14 = nC g 14 := by
      unfold nC
      rw [pk_un (by omega)]
    by_cases c : nC g 14 ≤ k
    · rw [cf_go3_2, cf_go3_2, e14, if_pos c, if_pos c]
    · rw [go3_step f0 n k (by rw [e14]; exact c), go3_step f1 n k c, runK_upd (by omega), ih]
theorem go3_put {a b c d : Int32} : cf_go3 (upd (upd (upd (upd g 3 a) 13 b) 2 c) 1 d) = upd (upd (upd (upd (cf_go3 g) 3 a) 13 b) 2 c) 1 d := by
  unfold cf_go3
  rw [go3_upd (f1 := g) (by decide), go3_upd (f1 := g) (by decide), go3_upd (f1 := g) (by decide), go3_upd (f1 := g) (by decide)]
theorem go3_o (f0 : Nat → Int32) {p : Nat} (hp : ∀ k, p ≠ 39 + (8 * k) + 5 ∧ p ≠ 39 + (8 * k) + 6) : ∀ (n k : Nat) (g : Nat → Int32), cf_go3_2 f0 n k g p = g p := by
  intro n
  induction n with
  | zero => intro k g; rfl
  | succ n ih =>
    intro k g
    by_cases c : nC g 14 ≤ k
    · rw [cf_go3_2, if_pos c]
    · rw [go3_step f0 n k c, ih]
      exact runK_o (hp k).1 (hp k).2
end QU

