/-! THE COMPONENT's functions: reading of reals, logs -/
/-- no element there, of a shelf that holds a row of reals or nothing -/
def xf_out (X : mm_S) (s : Int32) (i : Int64) : Int32 := if rd_ X 58 s = -1 then 1 else if 0 ≤ lg_cmp i 0 then (if lg_cmp i (rd_ X 100 s).toInt64 < 0 then 0 else 1) else 1
def xf_dv (X : mm_S) (E : mm_E) (s j : Int32) : UInt64 := if xr_st (rd_ X 58 s) = 3 then xr_wide (if rd_ X 101 (60 * s + j) = 0 then FP.l2f (re_ E 0 (60 * s + j)) else 0x7fc00000) else (if rd_ X 101 (60 * s + j) = 0 then FP.l2d (re_ E 0 (60 * s + j)) else 0x7ff8000000000000)
def xp_real (X : mm_S) (E : mm_E) (D : xg) (s : Int32) (i : Int64) : xz_P := fun v X' E' D' _ => X' = X ∧ E' = E ∧ D' = D ∧ xf_out X s i = 0 ∧ v = some (.double (xf_dv X E s i.toInt32))
def xt_real (X : mm_S) (E : mm_E) (D : xg) (s : Int32) (i : Int64) : xz_T := fun X' E' D' _ => X' = X ∧ E' = E ∧ D' = D ∧ xf_out X s i = 1
/-- a day's log: what an element says, or what was there the day before -/
def xf_logv (X : mm_S) (b y : Int32) (v : UInt64) : Int32 := if Op.cmpValue (FP.dcmp v v) .l = 0 then FP.d2i v else if ra_ X 71 b (y - 1) = 0 then 0 else ra_ X 70 b (y - 1)
def xf_logX (X : mm_S) (b y : Int32) (v : UInt64) : mm_S := wa_ (wa_ X 70 b y (xf_logv X b y v)) 71 b y 1
def xf_logG (E : mm_E) (b s i y n : Int32) : Nat → Int32 → mm_S → Int32 × Int32 × mm_S
  | 0, k, X => (k, 0, X)
  | fu + 1, k, X => if n ≤ k then (k, 0, X) else if 60 < y + k then (k, 0, X) else if xf_out X s (i.toInt64 + k.toInt64) = 0 then xf_logG E b s i y n fu (k + 1) (xf_logX X b (y + k) (xf_dv X E s (i.toInt64 + k.toInt64).toInt32)) else (k, 1, X)
def xf_logC (b : Int32) : Nat → Int32 → mm_S → mm_S
  | 0, _, X => X
  | fu + 1, j, X => if 60 < j then X else xf_logC b fu (j + 1) (wa_ X 71 b j 0)
def xf_logR (X : mm_S) (E : mm_E) (b s i y n : Int32) : Int32 × Int32 × mm_S := xf_logG E b s i y n 61 0 X
def xf_logE (b y : Int32) (r : Int32 × Int32 × mm_S) : Int32 × mm_S := if r.2.1 = 0 then (r.1, r.2.2) else (r.1, xf_logC b 61 (y + r.1) r.2.2)
def xf_log (X : mm_S) (E : mm_E) (b s i y n : Int32) : Int32 × mm_S :=
  if xf_holeOf X b < 0 then (-1, X) else if ff_isShelf s = 0 then (-1, X) else if ff_in y 1 60 = 0 then (-1, X) else if ff_in n 1 60 = 0 then (-1, X)
  else if rd_ X 58 s = -1 then xf_logE (xf_holeOf X b) y (xf_logR X E (xf_holeOf X b) s i y n) else if xr_is 3 (rd_ X 58 s) = 0 then (if xr_is 4 (rd_ X 58 s) = 0 then (-12, X) else xf_logE (xf_holeOf X b) y (xf_logR X E (xf_holeOf X b) s i y n)) else xf_logE (xf_holeOf X b) y (xf_logR X E (xf_holeOf X b) s i y n)
theorem xf_lc0 {i : Int64} (c : 0 ≤ lg_cmp i 0) : 0 ≤ i.toInt := by
  have h := (lg_cmp_ge i 0).mp c
  rw [Int64.le_iff_toInt_le] at h
  have e0 : (0 : Int64).toInt = 0 := by decide
  omega
theorem xf_lc1 {i : Int64} {n : Int32} (c : lg_cmp i n.toInt64 < 0) : i.toInt < n.toInt := by
  have h := lc_lt.mp c
  rw [ix_i2l] at h
  exact h
theorem xf_l32 {x : Int64} (h0 : 0 ≤ x.toInt) (h1 : x.toInt < 2147483648) : (x.toInt32).toInt = x.toInt := by
  rw [Int64.toInt_toInt32]
  exact ww_bm (by omega) (by omega)
theorem xf_ixe {i : Int64} {n : Int32} (c7 : 0 ≤ lg_cmp i 0) (c : lg_cmp i n.toInt64 < 0) : i.toInt32.toInt = i.toInt :=
  xf_l32 (xf_lc0 c7) (by have := xf_lc1 c; have := ww_hi n; omega)
theorem xf_ix0 {i : Int64} {n : Int32} (c7 : 0 ≤ lg_cmp i 0) (c : lg_cmp i n.toInt64 < 0) : 0 ≤ i.toInt32.toInt := by
  rw [xf_ixe c7 c]; exact xf_lc0 c7
theorem xf_ix1 {i : Int64} {n : Int32} (c7 : 0 ≤ lg_cmp i 0) (c : lg_cmp i n.toInt64 < 0) : i.toInt32.toInt < n.toInt := by
  rw [xf_ixe c7 c]; exact xf_lc1 c
theorem fr_.wa {ks : List Nat} {S T : mm_S} {k : Nat} {i y v : Int32} (r : fr_ ks S T) (h : k ∈ ks) : fr_ ks S (wa_ T k i y v) := r.tr (fun _ hk => mm_up_k (fun q => hk (by rw [q]; exact h)))
theorem xv_E_fr {X X' : mm_S} {E : mm_E} (h : fr_ [70, 71] X X') (hE : xv_E X E) : xv_E X' E := fun i j a b c d e => hE i j a b c d (by
  have : rd_ X' 58 i = rd_ X 58 i := by unfold rd_; rw [h 58 (by decide)]
  rw [← this]; exact e)
theorem xr_is_t {k v : Int32} (h : ¬ xr_is k v = 0) : xr_st v = k := by
  unfold xr_is at h
  split at h
  · assumption
  · exact absurd rfl h
