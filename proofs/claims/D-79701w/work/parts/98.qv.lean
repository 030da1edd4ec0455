set_option maxRecDepth 100000
/-! QV: the water's numbers -/
section QV
variable {w : Nat → Nat → Int32} {s : Int32} {G : Nat → Int32}
theorem within_jm {x : Int32} : mf_within x (0 : Int32) (2000 : Int32) = jmax (0 : Int32) (jmin (2000 : Int32) x) := by
  unfold mf_within mf_within_19 jmax jmin
  by_cases c : (0 : Int32) ≤ x
  · rw [if_pos c]
    by_cases d : x < (2000 : Int32)
    · rw [if_pos (Int32.le_of_lt d), if_pos d]
      by_cases e : (0 : Int32) < x
      · rw [if_pos e]
      · rw [if_neg e]
        exact Int32.le_antisymm (Int32.not_lt.mp e) c
    · rw [if_neg d, if_pos (show (0 : Int32) < 2000 by decide)]
      by_cases e : x ≤ (2000 : Int32)
      · rw [if_pos e]
        exact Int32.le_antisymm e (Int32.not_lt.mp d)
      · rw [if_neg e]
  · have d : x < (2000 : Int32) := Int32.lt_of_lt_of_le (Int32.not_le.mp c) (by decide)
    rw [if_neg c, if_pos d, if_neg (fun e => c (Int32.le_of_lt e))]
theorem within_20 {x : Int32} (c : (0 : Int32) ≤ x) : mf_within x (0 : Int32) (20000 : Int32) = jmin (20000 : Int32) x := by
  unfold mf_within mf_within_19 jmin
  rw [if_pos c]
  by_cases d : x < (20000 : Int32)
  · rw [if_pos (Int32.le_of_lt d), if_pos d]
  · rw [if_neg d]
    by_cases e : x ≤ (20000 : Int32)
    · rw [if_pos e]
      exact Int32.le_antisymm e (Int32.not_lt.mp d)
    · rw [if_neg e]
theorem wat_A {t : Int32} : wat (Vf w s G) t = mf_water_99 (Vf w s G) (fun _ _ z => z) 0 0 (Vf w s G) (jmin (G 2) t) := by
  unfold wat jmin
  rw [Vf_at (by decide)]
  by_cases c : t < G 2
  · rw [if_pos (Int32.le_of_lt c), if_pos c]
  · rw [if_neg c]
    by_cases d : t ≤ G 2
    · rw [if_pos d, Int32.le_antisymm d (Int32.not_lt.mp c)]
    · rw [if_neg d]
def watA (G : Nat → Int32) (A : Int32) : Nat → Int32 := upd (upd (upd G 3 A) 13 (G 13 + A)) 2 (jmin (20000 : Int32) (G 2 - A + G 34))
theorem E_wat {A : Int32} (hC : (0 : Int32) ≤ G 2 - A + G 34) (hz : nC G 15 ≤ 8) (hb : ∀ k, k < 8 → rg (G (87 + (2 * k) + 1)) 1) : mf_water_99 (Vf w s G) (fun _ _ z => z) 0 0 (Vf w s G) A = Vf w s (upd (watA G A) 1 (jmax (0 : Int32) (jmin (2000 : Int32) (G 1 + (A - cf_demand (watA G A) (G 1)) / G 30)))) := by
  have e1 : u2 (u2 (Vf w s G) 1 3 A) 1 13 ((u2 (Vf w s G) 1 3 A) 1 13 + A) = Vf w s (upd (upd G 3 A) 13 (G 13 + A)) := by
    rw [u2_k (by decide), Vf_at (by decide), Vf_up (by decide) (by decide) (by decide), Vf_up (by decide) (by decide) (by decide)]
  have e2 : u2 (Vf w s (upd (upd G 3 A) 13 (G 13 + A))) 1 2 (mf_within (((Vf w s (upd (upd G 3 A) 13 (G 13 + A))) 1 2 - A) + (mf_setting (Vf w s (upd (upd G 3 A) 13 (G 13 + A))) 14)) (0 : Int32) (20000 : Int32)) = Vf w s (watA G A) := by
    unfold mf_setting watA
    rw [Vf_at (p := 2) (by decide), Vf_at (p := 20 + 14) (by decide), pk_un (by decide), pk_un (by decide), pk_un (by decide), pk_un (by decide), within_20 hC, Vf_up (p := 2) (by decide) (by decide) (by decide)]
  have o : ∀ p, p ≠ 3 → p ≠ 13 → p ≠ 2 → watA G A p = G p := fun p h3 h13 h2 => by
    unfold watA
    rw [pk_un h2, pk_un h13, pk_un h3]
  unfold mf_water_99
  rw [e1, e2]
  have ed : mf_demand (Vf w s (watA G A)) = cf_demand (watA G A) (G 1) := by
    rw [← E_demand (by unfold nC; rw [o 15 (by decide) (by decide) (by decide)]; exact hz) (fun k hk => by rw [o _ (by omega) (by omega) (by omega)]; exact hb k hk), o 1 (by decide) (by decide) (by decide)]
  rw [ed]
  unfold mf_setting
  rw [Vf_at (p := 1) (by decide), Vf_at (p := 20 + 10) (by decide), o 1 (by decide) (by decide) (by decide), o (20 + 10) (by decide) (by decide) (by decide), within_jm, Vf_up (p := 1) (by decide) (by decide) (by decide)]
theorem go2_eq {f : Nat → Int32} : cf_go2 f = upd (watA f (jmin (f 2) (cf_flow f))) 1 (jmax (0 : Int32) (jmin (2000 : Int32) (f 1 + (jmin (f 2) (cf_flow f) - cf_demand (watA f (jmin (f 2) (cf_flow f))) (f 1)) / f 30))) := rfl
end QV

