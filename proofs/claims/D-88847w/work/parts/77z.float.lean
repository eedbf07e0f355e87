/-! SMALL WHOLE NUMBERS AS FLOATS: what rows tell -/
/-- a float of a row widens -/
theorem xr_fl_n {e : Int64} {z : Int32} (h : -9999 ≤ e.toInt ∧ e.toInt ≤ 9999) : Op.cmpValue (FP.fcmp (if z = 0 then FP.l2f e else 0x7fc00000) (if z = 0 then FP.l2f e else 0x7fc00000)) .l = 0 → vf_n64 (FP.f2d (if z = 0 then FP.l2f e else 0x7fc00000)) := by
  by_cases q : z = 0
  · simp only [if_pos q]
    exact fun _ => (xr_fx_t h.1 h.2).1.1.1.1.1.1.2
  · simp only [if_neg q]
    exact fun y => absurd y xr_nan.1
theorem xr_wide_t {e : Int64} {z : Int32} (h : -9999 ≤ e.toInt ∧ e.toInt ≤ 9999) : xr_wide (if z = 0 then FP.l2f e else 0x7fc00000) = if z = 0 then FP.f2d (FP.l2f e) else 9221120237041090560 := by
  by_cases q : z = 0
  · simp only [if_pos q]
    unfold xr_wide
    rw [if_pos (xr_fx_t h.1 h.2).1.1.1.1.1.1.1]
  · simp only [if_neg q]
    unfold xr_wide
    rw [if_neg xr_nan.1]
/-- what an element of reals tells -/
theorem xr_el_t {t : Int32} {e : Int64} {z : Int32} (ht : 3 ≤ t.toInt) (h : -9999 ≤ e.toInt ∧ e.toInt ≤ 9999) : xr_el t e z = if z = 0 then e else 9223372036854775807 := by
  have n0 : ¬ t = 0 := fun q => by rw [q] at ht; exact absurd ht (by decide)
  have n1 : ¬ t = 1 := fun q => by rw [q] at ht; exact absurd ht (by decide)
  have n2 : ¬ t = 2 := fun q => by rw [q] at ht; exact absurd ht (by decide)
  obtain ⟨⟨⟨⟨⟨⟨⟨f1, f2⟩, f3⟩, f4⟩, f5⟩, f6⟩, f7⟩, f8⟩ := xr_fx_t h.1 h.2
  unfold xr_el
  rw [if_neg n0, if_neg n1, if_neg n2, xr_wide_t h]
  by_cases q : z = 0
  · simp only [if_pos q]
    have w1 : xr_whole (FP.f2d (FP.l2f e)) = e := by unfold xr_whole; rw [if_pos f3, f4]
    have w2 : xr_whole (FP.l2d e) = e := by unfold xr_whole; rw [if_pos f6, f7]
    rw [w1, w2]
    split <;> rfl
  · simp only [if_neg q]
    have z1 : xr_whole 9221120237041090560 = 9223372036854775807 := by unfold xr_whole; rw [if_neg xr_nan.2]
    rw [z1]
    split <;> rfl
