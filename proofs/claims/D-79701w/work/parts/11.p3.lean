set_option maxRecDepth 100000
/-! pure: the day changes row 1 alone -/
theorem put_row {v : Nat → Nat → Int32} {k w : Nat} {x : Int32} {r : Nat} (h : r ≠ 1) : mf_put v k w x r = v r := by rw [mf_put, u2_r h]
theorem stop_row {v : Nat → Nat → Int32} {k r : Nat} (h : r ≠ 1) : mf_stop v k r = v r := by
  simp only [mf_stop, mf_stop_c4, mf_stop_c12, mf_stop_43, mf_stop_c47]
  split <;> rw [event_row h, u2_r h, put_row h, put_row h]
theorem begins_row {v : Nat → Nat → Int32} {k : Nat} {sp : Int32} {vb : Bool} {r : Nat} (h : r ≠ 1) : mf_begins v k sp vb r = v r := by
  simp only [mf_begins, mf_begins_c4, mf_begins_c12, mf_begins_c28, mf_begins_50, mf_begins_c54]
  split <;> rw [event_row h, u2_r h, put_row h, put_row h, put_row h]
theorem start_row {v : Nat → Nat → Int32} {k r : Nat} (h : r ≠ 1) : mf_start v k r = v r := by
  rw [mf_start]
  split
  · rw [mf_start_c15, begins_row h]
  · split
    · rw [mf_start_43, mf_start_c51, begins_row h]
    · rw [mf_start_c40, mf_start_43, mf_start_c51, begins_row h, put_row h]
theorem serves_row {v : Nat → Nat → Int32} {k : Nat} {is : Int32} {r : Nat} (h : r ≠ 1) : (mf_serves v k is).2 r = v r := by
  simp only [mf_serves, mf_serves_16, mf_serves_17, mf_serves_c22, mf_serves_34, mf_serves_43, mf_serves_c31]
  repeat' split
  all_goals first | exact put_row h | exact (stop_row h).trans (put_row h)
theorem programmes_7_row {r : Nat} (h : r ≠ 1) (v : Nat → Nat → Int32) : ∀ (n k : Nat) (w : Nat → Nat → Int32), mf_programmes_7 v n k w r = w r := by
  intro n
  induction n with
  | zero => intro k w; rfl
  | succ n ih =>
    intro k w
    rw [mf_programmes_7]
    simp only [mf_programmes_85]
    repeat' split
    all_goals first | rfl | (rw [ih, u2_r h])
theorem programmes_row {v : Nat → Nat → Int32} {r : Nat} (h : r ≠ 1) : mf_programmes v r = v r := programmes_7_row h v 9 0 v
theorem water_4_row {r : Nat} (h : r ≠ 1) (v : Nat → Nat → Int32) : ∀ (n : Nat) (i : Int32) (k : Nat) (w : Nat → Nat → Int32), mf_water_4 v n i k w r = w r := by
  intro n
  induction n with
  | zero => intro i k w; rfl
  | succ n ih =>
    intro i k w
    rw [mf_water_4]
    split
    · split <;> rw [mf_water_99, u2_r h, u2_r h, u2_r h, u2_r h]
    · split
      · rw [mf_water_c54, mf_water_c70, mf_water_73, ih, put_row h, put_row h]
      · rw [mf_water_73, ih]
theorem water_row {v : Nat → Nat → Int32} {r : Nat} (h : r ≠ 1) : mf_water v r = v r := water_4_row h v 7 0 0 v
theorem night_113_row {r : Nat} (h : r ≠ 1) (v v0 : Nat → Nat → Int32) : ∀ (n i : Nat) (w : Nat → Nat → Int32), mf_night_113 v v0 n i w r = w r := by
  intro n
  induction n with
  | zero => intro i w; rfl
  | succ n ih =>
    intro i w
    rw [mf_night_113]
    split
    · split <;> rw [mf_night_190, u2_r h, u2_r h, u2_r h]
    · rw [ih, u2_r h]
theorem night_row {v : Nat → Nat → Int32} {r : Nat} (h : r ≠ 1) : mf_night v r = v r := by
  rw [mf_night]
  split
  · split
    · split
      · rw [mf_night_110, night_113_row h, u2_r h]
      · split
        · rw [mf_night_110, night_113_row h, u2_r h]
        · rw [mf_night_c107, mf_night_110, night_113_row h, event_row h, u2_r h, u2_r h]
    · exact u2_r h
  · rfl
theorem dryness_116_row {r : Nat} (h : r ≠ 1) (v : Nat → Nat → Int32) (x : Int32) (w : Nat → Nat → Int32) : mf_dryness_116 v x w r = w r := by
  rw [mf_dryness_116]
  repeat' split
  all_goals first | (rw [mf_dryness_165]) | (rw [mf_dryness_c162, mf_dryness_165, event_row h, u2_r h])
theorem dryness_69_row {r : Nat} (h : r ≠ 1) (v : Nat → Nat → Int32) (x : Int32) : ∀ (n k : Nat) (w : Nat → Nat → Int32), mf_dryness_69 v x n k w r = w r := by
  intro n
  induction n with
  | zero => intro k w; rfl
  | succ n ih =>
    intro k w
    rw [mf_dryness_69]
    split
    · rw [mf_dryness_c113, dryness_116_row h, event_row h, u2_r h]
    · split
      · rw [mf_dryness_c90, mf_dryness_93, ih, stop_row h]
      · rw [mf_dryness_93, ih]
theorem dryness_row {v : Nat → Nat → Int32} {r : Nat} (h : r ≠ 1) : mf_dryness v r = v r := by
  have key : ∀ x, mf_dryness_34 v x r = v r := fun x => by
    rw [mf_dryness_34]
    split
    · rw [dryness_116_row h, u2_r h]
    · split
      · rw [dryness_69_row h, u2_r h, u2_r h]
      · rw [dryness_116_row h, u2_r h]
  rw [mf_dryness]
  split <;> exact key _
theorem regulate_row {v : Nat → Nat → Int32} {r : Nat} (h : r ≠ 1) : mf_regulate v r = v r := by
  rw [mf_regulate]
  split
  · rw [mf_regulate_73]
  · rw [mf_regulate_c70, mf_regulate_73, put_row h]
theorem countAll_row {v : Nat → Nat → Int32} {r : Nat} (h : r ≠ 1) : mf_countAll v r = v r := by
  obtain ⟨b, b', b'', _, e⟩ := countAll_eq v
  rw [e, counts_eq, counts_eq, counts_eq, u2_r h, u2_r h, u2_r h]
theorem beginAnew_row {v : Nat → Nat → Int32} {r : Nat} (h : r ≠ 1) : mf_beginAnew v r = v r := by rw [mf_beginAnew, u2_r h, u2_r h, u2_r h]
theorem cascade_row {v : Nat → Nat → Int32} {r : Nat} (h : r ≠ 1) : mf_cascade v r = v r := by
  have k115 : ∀ w : Nat → Nat → Int32, mf_cascade_115 v w r = w r := fun w => by rw [mf_cascade_115]
  have k79 : mf_cascade_79 v r = v r := by
    rw [mf_cascade_79]
    split
    · exact k115 _
    · rw [mf_cascade_c102, mf_cascade_c108, mf_cascade_c112, k115, beginAnew_row h, event_row h, stop_row h]
  have k40 : mf_cascade_40 v r = v r := by
    rw [mf_cascade_40]
    split
    · exact k79
    · split
      · exact k79
      · rw [mf_cascade_c69, mf_cascade_c73, k115, beginAnew_row h, stop_row h]
  rw [mf_cascade]
  split
  · exact k40
  · split
    · exact k40
    · rw [mf_cascade_c30, mf_cascade_c34, k115, beginAnew_row h, start_row h]
theorem rotate_42_row {r : Nat} (h : r ≠ 1) (v : Nat → Nat → Int32) : ∀ (n : Nat) (i : Int32) (k : Nat), mf_rotate_42 v n i k r = v r := by
  intro n
  induction n with
  | zero => intro i k; rfl
  | succ n ih =>
    intro i k
    rw [mf_rotate_42]
    simp only [mf_rotate_89, mf_rotate_90, mf_rotate_117, mf_rotate_121, mf_rotate_122, mf_rotate_158, mf_rotate_c143, mf_rotate_c150, mf_rotate_c155]
    repeat' split
    all_goals first | rfl | exact ih _ _ | (rw [stop_row h, event_row h, begins_row h])
theorem rotate_row {v : Nat → Nat → Int32} {r : Nat} (h : r ≠ 1) : mf_rotate v r = v r := by
  rw [mf_rotate]
  simp only [mf_rotate_37]
  repeat' split
  all_goals first | rfl | exact rotate_42_row h v _ _ _
theorem minute_row {v : Nat → Nat → Int32} {r : Nat} (h : r ≠ 1) : mf_minute v r = v r := by
  have k97 : ∀ w1 w2 w3 w4 w5 x : Nat → Nat → Int32, mf_minute_97 v w1 w2 w3 w4 w5 x r = x r := fun w1 w2 w3 w4 w5 x => by
    rw [mf_minute_97, mf_minute_c98, mf_minute_c102, mf_minute_c106, rotate_row h, cascade_row h, countAll_row h]
  rw [mf_minute, mf_minute_c11, mf_minute_c15, mf_minute_c19, mf_minute_c23]
  generalize e4 : mf_dryness (mf_night (mf_water (mf_programmes (u2 v 1 0 (v 1 0 + 1))))) = w4
  have h4 : w4 r = v r := by rw [← e4, dryness_row h, night_row h, water_row h, programmes_row h, u2_r h]
  split
  · rw [mf_minute_c37, beginAnew_row h, h4]
  · rw [mf_minute_c42]
    split
    · split
      · rw [k97, regulate_row h, h4]
      · split
        · rw [k97, regulate_row h, h4]
        · rw [mf_minute_c88, mf_minute_c94, k97, event_row h, start_row h, regulate_row h, h4]
    · rw [k97, regulate_row h, h4]
theorem minutes_2_row {r : Nat} (h : r ≠ 1) (v : Nat → Nat → Int32) (cnt : Nat) : ∀ (n k : Nat) (w : Nat → Nat → Int32), mf_minutes_2 v cnt n k w r = w r := by
  intro n
  induction n with
  | zero => intro k w; rfl
  | succ n ih =>
    intro k w
    rw [mf_minutes_2]
    split
    · rfl
    · rw [mf_minutes_c8, ih, minute_row h]
theorem minutes_row {v : Nat → Nat → Int32} {cnt r : Nat} (h : r ≠ 1) : mf_minutes v cnt r = v r := by rw [mf_minutes]; exact minutes_2_row h v cnt _ _ _
