/-! NUMBERS: an Int32 by its Int -/
theorem ww_le {a b : Int32} (h : a ≤ b) : a.toInt ≤ b.toInt := Int32.le_iff_toInt_le.mp h
theorem ww_lt {a b : Int32} (h : a < b) : a.toInt < b.toInt := Int32.lt_iff_toInt_lt.mp h
theorem ww_nle {a b : Int32} (h : ¬ a ≤ b) : b.toInt < a.toInt := by
  rcases Int.lt_or_le b.toInt a.toInt with q | q
  · exact q
  · exact absurd (Int32.le_iff_toInt_le.mpr q) h
theorem ww_nlt {a b : Int32} (h : ¬ a < b) : b.toInt ≤ a.toInt := by
  rcases Int.lt_or_le a.toInt b.toInt with q | q
  · exact absurd (Int32.lt_iff_toInt_lt.mpr q) h
  · exact q
theorem ww_le' {a b : Int32} (h : a.toInt ≤ b.toInt) : a ≤ b := Int32.le_iff_toInt_le.mpr h
theorem ww_lt' {a b : Int32} (h : a.toInt < b.toInt) : a < b := Int32.lt_iff_toInt_lt.mpr h
theorem ww_nle' {a b : Int32} (h : b.toInt < a.toInt) : ¬ a ≤ b := fun q => by have := ww_le q; omega
theorem ww_nlt' {a b : Int32} (h : b.toInt ≤ a.toInt) : ¬ a < b := fun q => by have := ww_lt q; omega
theorem ww_eq {a b : Int32} (h : a.toInt = b.toInt) : a = b := Int32.toInt_inj.mp h
theorem ww_ne {a b : Int32} (h : ¬ a = b) : a.toInt ≠ b.toInt := fun q => h (ww_eq q)
theorem ww_ne' {a b : Int32} (h : a.toInt ≠ b.toInt) : ¬ a = b := fun q => h (by rw [q])
theorem ww_in {i : Int32} {n : Nat} (h0 : 0 ≤ i.toInt) (h1 : i.toInt < n) : vp_in i n := vp_in_iff.mpr ⟨h0, h1⟩
theorem ww_lo (a : Int32) : -2147483648 ≤ a.toInt := Int32.le_toInt a
theorem ww_hi (a : Int32) : a.toInt ≤ 2147483647 := by have := Int32.toInt_lt a; omega
theorem ww_bm {x : Int} (h1 : -2147483648 ≤ x) (h2 : x ≤ 2147483647) : x.bmod (2 ^ 32) = x := by
  rw [Int.bmod_eq_of_le]
  · exact h1
  · show x < ((2 ^ 32 : Nat) + 1) / 2
    omega
theorem ww_add (a b : Int32) (h1 : -2147483648 ≤ a.toInt + b.toInt) (h2 : a.toInt + b.toInt ≤ 2147483647) : (a + b).toInt = a.toInt + b.toInt := by
  rw [Int32.toInt_add]; exact ww_bm h1 h2
theorem ww_sub (a b : Int32) (h1 : -2147483648 ≤ a.toInt - b.toInt) (h2 : a.toInt - b.toInt ≤ 2147483647) : (a - b).toInt = a.toInt - b.toInt := by
  rw [Int32.toInt_sub]; exact ww_bm h1 h2
theorem ww_mul (a b : Int32) (h1 : -2147483648 ≤ a.toInt * b.toInt) (h2 : a.toInt * b.toInt ≤ 2147483647) : (a * b).toInt = a.toInt * b.toInt := by
  rw [Int32.toInt_mul]; exact ww_bm h1 h2
theorem ww_neg (a : Int32) (h : -2147483648 < a.toInt) : (-a).toInt = -a.toInt := by
  rw [Int32.toInt_neg]; exact ww_bm (by have := ww_hi a; omega) (by omega)
theorem ww_inc {a b : Int32} (h : a.toInt < b.toInt) : (a + 1).toInt = a.toInt + 1 := by
  have h1 : (1 : Int32).toInt = 1 := by decide
  have := ww_hi b
  have := ww_lo a
  rw [ww_add] <;> rw [h1]
  · omega
  · omega
theorem ww_div (a b : Int32) (h1 : 0 ≤ a.toInt) (h2 : 0 < b.toInt) : (a / b).toInt = a.toInt / b.toInt := by
  have hq : 0 ≤ a.toInt / b.toInt := Int.ediv_nonneg h1 (by omega)
  have hq2 : a.toInt / b.toInt ≤ a.toInt := Int.ediv_le_self _ h1
  have := ww_hi a
  rw [Int32.toInt_div, Int.tdiv_eq_ediv_of_nonneg h1]
  exact ww_bm (by omega) (by omega)
theorem ww_rem (a b : Int32) (h1 : 0 ≤ a.toInt) (h2 : 0 < b.toInt) : (jr_ a b).toInt = a.toInt % b.toInt := by
  have e := ww_div a b h1 h2
  have hm : b.toInt * (a.toInt / b.toInt) ≤ a.toInt := Int.mul_ediv_self_le (by omega)
  have hm0 : 0 ≤ b.toInt * (a.toInt / b.toInt) := Int.mul_nonneg (by omega) (Int.ediv_nonneg h1 (by omega))
  have hc : a.toInt / b.toInt * b.toInt = b.toInt * (a.toInt / b.toInt) := Int.mul_comm _ _
  have := ww_hi a
  have em : (a / b * b).toInt = b.toInt * (a.toInt / b.toInt) := by
    rw [ww_mul, e, hc]
    · rw [e, hc]; omega
    · rw [e, hc]; omega
  unfold jr_
  rw [ww_sub, em, Int.emod_def]
  · rw [em]; omega
  · rw [em]; omega
theorem ww_cl (a : Int32) : a.toNatClampNeg = a.toInt.toNat := rfl
theorem ww_cl0 {a b : Int32} (h1 : 0 ≤ a.toInt) (h2 : 0 ≤ b.toInt) (h : a.toNatClampNeg = b.toNatClampNeg) : a = b := by
  rw [ww_cl, ww_cl] at h
  exact ww_eq (by omega)
