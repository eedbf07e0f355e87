/-! SMALL WHOLE NUMBERS AS FLOATS: exact -/
def xr_fq (e : Int64) : Bool :=
  Op.cmpValue (FP.fcmp (FP.l2f e) (FP.l2f e)) .l == 0 && decide (FP.f2d (FP.l2f e) &&& 0x7fffffffffffffff ≤ 0x7ff0000000000000) && Op.cmpValue (FP.dcmp (FP.f2d (FP.l2f e)) (FP.f2d (FP.l2f e))) .l == 0 && FP.d2l (FP.f2d (FP.l2f e)) == e && FP.d2i (FP.f2d (FP.l2f e)) == e.toInt32 &&
  Op.cmpValue (FP.dcmp (FP.l2d e) (FP.l2d e)) .l == 0 && FP.d2l (FP.l2d e) == e && FP.d2i (FP.l2d e) == e.toInt32
def xr_fa (k : Nat) : Bool := (List.range 500).all fun n => xr_fq (Int64.ofInt ((k : Int) * 500 - 10000 + (n : Int)))
theorem xr_f0 : xr_fa 0 = true := by decide +kernel
theorem xr_f1 : xr_fa 1 = true := by decide +kernel
theorem xr_f2 : xr_fa 2 = true := by decide +kernel
theorem xr_f3 : xr_fa 3 = true := by decide +kernel
theorem xr_f4 : xr_fa 4 = true := by decide +kernel
theorem xr_f5 : xr_fa 5 = true := by decide +kernel
theorem xr_f6 : xr_fa 6 = true := by decide +kernel
theorem xr_f7 : xr_fa 7 = true := by decide +kernel
theorem xr_f8 : xr_fa 8 = true := by decide +kernel
theorem xr_f9 : xr_fa 9 = true := by decide +kernel
theorem xr_f10 : xr_fa 10 = true := by decide +kernel
theorem xr_f11 : xr_fa 11 = true := by decide +kernel
theorem xr_f12 : xr_fa 12 = true := by decide +kernel
theorem xr_f13 : xr_fa 13 = true := by decide +kernel
theorem xr_f14 : xr_fa 14 = true := by decide +kernel
theorem xr_f15 : xr_fa 15 = true := by decide +kernel
theorem xr_f16 : xr_fa 16 = true := by decide +kernel
theorem xr_f17 : xr_fa 17 = true := by decide +kernel
theorem xr_f18 : xr_fa 18 = true := by decide +kernel
theorem xr_f19 : xr_fa 19 = true := by decide +kernel
theorem xr_f20 : xr_fa 20 = true := by decide +kernel
theorem xr_f21 : xr_fa 21 = true := by decide +kernel
theorem xr_f22 : xr_fa 22 = true := by decide +kernel
theorem xr_f23 : xr_fa 23 = true := by decide +kernel
theorem xr_f24 : xr_fa 24 = true := by decide +kernel
theorem xr_f25 : xr_fa 25 = true := by decide +kernel
theorem xr_f26 : xr_fa 26 = true := by decide +kernel
theorem xr_f27 : xr_fa 27 = true := by decide +kernel
theorem xr_f28 : xr_fa 28 = true := by decide +kernel
theorem xr_f29 : xr_fa 29 = true := by decide +kernel
theorem xr_f30 : xr_fa 30 = true := by decide +kernel
theorem xr_f31 : xr_fa 31 = true := by decide +kernel
theorem xr_f32 : xr_fa 32 = true := by decide +kernel
theorem xr_f33 : xr_fa 33 = true := by decide +kernel
theorem xr_f34 : xr_fa 34 = true := by decide +kernel
theorem xr_f35 : xr_fa 35 = true := by decide +kernel
theorem xr_f36 : xr_fa 36 = true := by decide +kernel
theorem xr_f37 : xr_fa 37 = true := by decide +kernel
theorem xr_f38 : xr_fa 38 = true := by decide +kernel
theorem xr_f39 : xr_fa 39 = true := by decide +kernel
theorem xr_fat : ∀ k : Nat, k < 40 → xr_fa k = true
  | 0, _ => xr_f0
  | 1, _ => xr_f1
  | 2, _ => xr_f2
  | 3, _ => xr_f3
  | 4, _ => xr_f4
  | 5, _ => xr_f5
  | 6, _ => xr_f6
  | 7, _ => xr_f7
  | 8, _ => xr_f8
  | 9, _ => xr_f9
  | 10, _ => xr_f10
  | 11, _ => xr_f11
  | 12, _ => xr_f12
  | 13, _ => xr_f13
  | 14, _ => xr_f14
  | 15, _ => xr_f15
  | 16, _ => xr_f16
  | 17, _ => xr_f17
  | 18, _ => xr_f18
  | 19, _ => xr_f19
  | 20, _ => xr_f20
  | 21, _ => xr_f21
  | 22, _ => xr_f22
  | 23, _ => xr_f23
  | 24, _ => xr_f24
  | 25, _ => xr_f25
  | 26, _ => xr_f26
  | 27, _ => xr_f27
  | 28, _ => xr_f28
  | 29, _ => xr_f29
  | 30, _ => xr_f30
  | 31, _ => xr_f31
  | 32, _ => xr_f32
  | 33, _ => xr_f33
  | 34, _ => xr_f34
  | 35, _ => xr_f35
  | 36, _ => xr_f36
  | 37, _ => xr_f37
  | 38, _ => xr_f38
  | 39, _ => xr_f39
  | n + 40, h => absurd h (by omega)
theorem xr_fx {e : Int64} (h0 : -9999 ≤ e.toInt) (h1 : e.toInt ≤ 9999) : xr_fq e = true := by
  have a := xr_fat ((e.toInt + 10000) / 500).toNat (by omega)
  have b := List.all_eq_true.mp a ((e.toInt + 10000) % 500).toNat (List.mem_range.mpr (by omega))
  have ei : ((((e.toInt + 10000) / 500).toNat : Nat) : Int) * 500 - 10000 + (((e.toInt + 10000) % 500).toNat : Nat) = e.toInt := by omega
  rw [ei, Int64.ofInt_toInt] at b
  exact b
theorem xr_fx_t {e : Int64} (h0 : -9999 ≤ e.toInt) (h1 : e.toInt ≤ 9999) : (((((((Op.cmpValue (FP.fcmp (FP.l2f e) (FP.l2f e)) .l = 0 ∧ FP.f2d (FP.l2f e) &&& 0x7fffffffffffffff ≤ 0x7ff0000000000000) ∧ Op.cmpValue (FP.dcmp (FP.f2d (FP.l2f e)) (FP.f2d (FP.l2f e))) .l = 0) ∧ FP.d2l (FP.f2d (FP.l2f e)) = e) ∧ FP.d2i (FP.f2d (FP.l2f e)) = e.toInt32) ∧ Op.cmpValue (FP.dcmp (FP.l2d e) (FP.l2d e)) .l = 0) ∧ FP.d2l (FP.l2d e) = e) ∧ FP.d2i (FP.l2d e) = e.toInt32) := by
  have h := xr_fx h0 h1
  unfold xr_fq at h
  simpa only [Bool.and_eq_true, beq_iff_eq, decide_eq_true_eq] using h
theorem xr_nan : ¬ Op.cmpValue (FP.fcmp 0x7fc00000 0x7fc00000) .l = 0 ∧ ¬ Op.cmpValue (FP.dcmp 0x7ff8000000000000 0x7ff8000000000000) .l = 0 := by decide +kernel
