/-! THE COMPONENT's METHODS AS FUNCTIONS: 2 (laws of machines, logs, maps; boring) -/
/-- yards told and bored -/
def xv_T (X : mm_S) : Prop := ∀ b : Int32, 0 ≤ b.toInt → b.toInt < 120 → 0 ≤ (rd_ X 66 b).toInt ∧ (rd_ X 66 b).toInt ≤ (rd_ X 64 b).toInt ∧ (rd_ X 64 b).toInt ≤ 60
/-- maps -/
def xv_M (X : mm_S) : Prop := 0 ≤ (fd_ X 18).toInt ∧ (fd_ X 18).toInt ≤ 8
/-- the machines' holes are some -/
def xj_w (X : mm_S) : Prop := ∀ m : Int32, 0 ≤ m.toInt → m.toInt < 3 → ¬ rd_ X 9 m < 0 → xh_in X (rd_ X 9 m)
theorem xh_or_of {X : mm_S} {b : Int32} (hB : xv_B X) : xh_or X (xf_holeOf X b) := by
  by_cases h : xf_holeOf X b < 0
  · refine ⟨?_, fun q => absurd h q⟩
    have a := ww_l0 h
    have := hB.1
    omega
  · have := xf_holeOf_q hB h
    exact ⟨this.1.2, fun _ => this⟩
theorem xf_isBored_t {X : mm_S} {h y : Int32} (q : ¬ xf_isBored X h y = 0) : ¬ h < 0 ∧ 1 ≤ y.toInt ∧ y.toInt ≤ (rd_ X 66 h).toInt := by
  unfold xf_isBored at q
  split at q
  · exact absurd rfl q
  · rename_i h1
    split at q
    · exact absurd rfl q
    · rename_i h2
      have := ff_in_t h2
      exact ⟨h1, this.1, this.2⟩
theorem xf_oldAt_t {m x y : Int32} (m0 : 0 ≤ m.toInt) (m1 : m.toInt < 8) (x0 : 0 ≤ x.toInt) (x1 : x.toInt < 32) (y0 : 0 ≤ y.toInt) (y1 : y.toInt ≤ 60) : (xf_oldAt m x y).toInt = 1952 * m.toInt + (61 * x.toInt + y.toInt) := by
  have e32 : (32 : Int32).toInt = 32 := by decide
  have e61 : (61 : Int32).toInt = 61 := by decide
  have e1 : (m * 32).toInt = m.toInt * 32 := by rw [ww_mul, e32] <;> rw [e32] <;> omega
  have e2 : (m * 32 * 61).toInt = m.toInt * 32 * 61 := by rw [ww_mul, e1, e61] <;> rw [e1, e61] <;> omega
  have e3 : (x * 61).toInt = x.toInt * 61 := by rw [ww_mul, e61] <;> rw [e61] <;> omega
  have e4 : (x * 61 + y).toInt = x.toInt * 61 + y.toInt := by rw [ww_add, e3] <;> rw [e3] <;> omega
  unfold xf_oldAt
  rw [ww_add] <;> rw [e2, e4] <;> omega
theorem xf_oldAt_in {m x y : Int32} (m0 : 0 ≤ m.toInt) (m1 : m.toInt < 8) (x0 : 0 ≤ x.toInt) (x1 : x.toInt < 32) (y0 : 0 ≤ y.toInt) (y1 : y.toInt ≤ 60) : vp_in (xf_oldAt m x y) 15616 := by
  have := xf_oldAt_t m0 m1 x0 x1 y0 y1
  exact ww_in (by omega) (by omega)
theorem xf_isMap_t {X : mm_S} {m : Int32} (hM : xv_M X) (h : ¬ xf_isMap X m = 0) : 0 ≤ m.toInt ∧ m.toInt < (fd_ X 18).toInt ∧ m.toInt < 8 := by
  have t := ff_in_t h
  have e0 : (0 : Int32).toInt = 0 := by decide
  have e1 : (1 : Int32).toInt = 1 := by decide
  have e : (fd_ X 18 - 1).toInt = (fd_ X 18).toInt - 1 := by
    rw [ww_sub, e1] <;> rw [e1] <;> have := hM.1 <;> have := hM.2 <;> omega
  rw [e, e0] at t
  have := hM.2
  omega
theorem xf_least_t (q : Int32) : 0 ≤ (xf_least q).toInt ∧ (xf_least q).toInt ≤ 31 := ff_held_t _ (a := 0) (b := 31) (by decide)
theorem xf_most_t (q : Int32) : 0 ≤ (xf_most q).toInt ∧ (xf_most q).toInt ≤ 31 := ff_held_t _ (a := 0) (b := 31) (by decide)
/-- cells of olds are 0 or 1 -/
def xv_O (X : mm_S) : Prop := ∀ i : Nat, X 16 i = 0 ∨ X 16 i = 1
theorem xf_isOfShelter_b (X : mm_S) (m x y : Int32) : xf_isOfShelter X m x y = 0 ∨ xf_isOfShelter X m x y = 1 := by
  unfold xf_isOfShelter
  repeat' split
  all_goals first | exact Or.inl rfl | exact Or.inr rfl
theorem xf_isLike_b {X : mm_S} (hO : xv_O X) (m x y t : Int32) : xf_isLike X m x y t = 0 ∨ xf_isLike X m x y t = 1 := by
  unfold xf_isLike
  split
  · repeat' split
    all_goals first | exact Or.inl rfl | exact Or.inr rfl
  · split
    · exact hO _
    · exact xf_isOfShelter_b X m x y
/-- what is left of a search: the yards of a body, then the bodies behind it -/
def xf_wyc (fy fk : Nat) (X : mm_S) (m h lo hi y k : Int32) : Int32 := if xf_wy_go fy X m h lo hi y = 0 then xf_wr_go fk X m (k + 1) else 100 * k + xf_wy_go fy X m h lo hi y
theorem xf_wyc_0 {fy fk : Nat} {X : mm_S} {m h lo hi y k : Int32} (c : h < 0) : xf_wyc (fy + 1) fk X m h lo hi y k = xf_wr_go fk X m (k + 1) := by
  unfold xf_wyc
  simp only [xf_wy_go, if_pos c, ↓reduceIte]
theorem xf_wyc_1 {fy fk : Nat} {X : mm_S} {m h lo hi y k : Int32} (c : ¬ h < 0) (c2 : rd_ X 66 h < y) : xf_wyc (fy + 1) fk X m h lo hi y k = xf_wr_go fk X m (k + 1) := by
  unfold xf_wyc
  simp only [xf_wy_go, if_neg c, if_pos c2, ↓reduceIte]
theorem xf_wyc_s {fy fk : Nat} {X : mm_S} {m h lo hi y k : Int32} (c : ¬ h < 0) (c2 : ¬ rd_ X 66 h < y) (hy : ¬ y = 0) : xf_wyc (fy + 1) fk X m h lo hi y k = if xf_lk_go 33 X m h y (xf_high X h y hi) 0 (xf_least (xf_low X h y lo)) = 0 then 100 * k + y else xf_wyc fy fk X m h (xf_low X h y lo) (xf_high X h y hi) (y + 1) k := by
  unfold xf_wyc
  simp only [xf_wy_go, if_neg c, if_neg c2]
  generalize xf_lk_go 33 X m h y (xf_high X h y hi) 0 (xf_least (xf_low X h y lo)) = z
  by_cases q : z = 0
  · rw [if_pos q, if_neg hy]
    simp only [if_pos q]
  · simp only [if_neg q]
theorem xf_wr_s {fk : Nat} {X : mm_S} {m k : Int32} : xf_wr_go (fk + 1) X m k = if fd_ X 4 ≤ k then -2 else xf_wyc 61 fk X m (xf_holeOf X k) (xf_wc X (xf_holeOf X k)) (xf_wc X (xf_holeOf X k)) 1 k := rfl
/-! a yard bored: the place, what it costs, what is met -/
def xo_y (X : mm_S) (h : Int32) : Int32 := rd_ X 66 h + 1
def xo_x (X : mm_S) (h : Int32) : Int32 := ff_held (rd_ X 67 h + ra_ X 63 h (xo_y X h)) 0 31
def xo_c (X : mm_S) (h : Int32) : Int32 := xo_x X h * 61 + xo_y X h
def xo_t (X : mm_S) (h sp : Int32) : Int32 := if rd_ X 2 (xo_c X h) = 0 then sp * rd_ X 1 (xo_c X h) else 0
def xo_1 (X : mm_S) (h sp : Int32) : mm_S := wr_ (wr_ (wr_ X 68 h (rd_ X 68 h - xo_t X h sp)) 67 h (xo_x X h)) 66 h (xo_y X h)
def xo_m (X : mm_S) (x y c : Int32) : Int32 := if xf_isShelterAt X x y = 0 then (if rd_ X 2 c = 0 then 0 else 1) else 2
def xo_2 (X : mm_S) (h sp : Int32) : mm_S := wa_ (xo_1 X h sp) 65 h (xo_y X h) (xo_m (xo_1 X h sp) (xo_x X h) (xo_y X h) (xo_c X h))
def xo_3 (X : mm_S) (h sp : Int32) : mm_S := if ra_ (xo_2 X h sp) 65 h (xo_y X h) = 2 then wr_ (xo_2 X h sp) 69 h (fd_ (xo_2 X h sp) 0) else xo_2 X h sp
def xf_bore : Nat → mm_S → Int32 → Int32 → mm_S
  | 0, X, _, _ => X
  | fu + 1, X, h, sp => if rd_ X 64 h ≤ rd_ X 66 h then X else if xf_isThrough X h = 0 then (if rd_ X 68 h < xo_t X h sp then X else xf_bore fu (xo_3 X h sp) h sp) else X
theorem rd_an {X : mm_S} {k k2 : Nat} {i y v j : Int32} (h : k2 ≠ k) : rd_ (wa_ X k i y v) k2 j = rd_ X k2 j := congrFun (wa_k h) _
theorem fd_an {X : mm_S} {k k2 : Nat} {i y v : Int32} (h : k2 ≠ k) : fd_ (wa_ X k i y v) k2 = fd_ X k2 := congrFun (wa_k h) 0
theorem rd_wi {S : mm_S} {k : Nat} {i v j : Int32} : rd_ (wr_ S k i v) k j = if j.toNatClampNeg = i.toNatClampNeg then v else rd_ S k j := mm_up_a S k _ v _
theorem xo_3_64 (X : mm_S) (h sp b : Int32) : rd_ (xo_3 X h sp) 64 b = rd_ X 64 b := by
  have e : rd_ (xo_2 X h sp) 64 b = rd_ X 64 b := by
    unfold xo_2 xo_1
    rw [rd_an (by decide), rd_wn (by decide), rd_wn (by decide), rd_wn (by decide)]
  unfold xo_3
  split
  · rw [rd_wn (by decide), e]
  · exact e
theorem xo_3_66 (X : mm_S) (h sp b : Int32) : rd_ (xo_3 X h sp) 66 b = if b.toNatClampNeg = h.toNatClampNeg then xo_y X h else rd_ X 66 b := by
  have e : rd_ (xo_2 X h sp) 66 b = if b.toNatClampNeg = h.toNatClampNeg then xo_y X h else rd_ X 66 b := by
    unfold xo_2 xo_1
    rw [rd_an (by decide), rd_wi, rd_wn (by decide), rd_wn (by decide)]
  unfold xo_3
  split
  · rw [rd_wn (by decide), e]
  · exact e
theorem xo_3_k {X : mm_S} {h sp : Int32} {k : Nat} (h1 : k ≠ 68) (h2 : k ≠ 67) (h3 : k ≠ 66) (h4 : k ≠ 65) (h5 : k ≠ 69) : xo_3 X h sp k = X k := by
  have e : xo_2 X h sp k = X k := by
    unfold xo_2 xo_1
    rw [wa_k h4]
    unfold wr_
    rw [mm_up_k h3, mm_up_k h2, mm_up_k h1]
  unfold xo_3
  split
  · unfold wr_
    rw [mm_up_k h5, e]
  · exact e
theorem xo_y_t {X : mm_S} {h : Int32} (hb : (rd_ X 66 h).toInt < (rd_ X 64 h).toInt) : (xo_y X h).toInt = (rd_ X 66 h).toInt + 1 := ww_inc hb
theorem xo_xv {X : mm_S} {h : Int32} (sp : Int32) (hT : xv_T X) (hb : (rd_ X 66 h).toInt < (rd_ X 64 h).toInt) (h0 : 0 ≤ h.toInt) : xv_T (xo_3 X h sp) := by
  intro b b0 b1
  rw [xo_3_64, xo_3_66]
  obtain ⟨q1, q2, q3⟩ := hT b b0 b1
  split
  · rename_i q
    have e : b = h := ww_cl0 b0 h0 q
    subst e
    rw [xo_y_t hb]
    omega
  · exact ⟨q1, q2, q3⟩
theorem xb_eq {X Y : mm_S} {b : Int32} (e : Y 4 = X 4 ∧ Y 60 = X 60) (h : xb_in X b) : xb_in Y b := by
  unfold xb_in fd_ at *
  rw [e.1]
  exact h
theorem xq_eq {X Y : mm_S} {b : Int32} (e : Y 4 = X 4 ∧ Y 60 = X 60) : xq Y b = xq X b := by
  show (Y 60 b.toNatClampNeg).toInt.toNat = (X 60 b.toNatClampNeg).toInt.toNat
  rw [e.2]
theorem xh_eq {X Y : mm_S} {b : Int32} (e : Y 4 = X 4 ∧ Y 60 = X 60) (h : xh_in X b) : xh_in Y b := ⟨xb_eq e h.1, by rw [xq_eq e]; exact h.2⟩
theorem xm_eq {X Y : mm_S} {b : Int32} (e : Y 4 = X 4 ∧ Y 60 = X 60) (h : xm_in X b) : xm_in Y b := ⟨xb_eq e h.1, by rw [xq_eq e]; exact h.2⟩
theorem xs_eq {X Y : mm_S} {b : Int32} (e : Y 4 = X 4 ∧ Y 60 = X 60) (h : xs_in X b) : xs_in Y b := ⟨xb_eq e h.1, by rw [xq_eq e]; exact h.2⟩
theorem xtu_eq {X Y : mm_S} {b : Int32} (e : Y 4 = X 4 ∧ Y 60 = X 60) (h : xtu_in X b) : xtu_in Y b := ⟨xb_eq e h.1, by rw [xq_eq e]; exact h.2⟩
theorem xj_s_eq {X Y : mm_S} (e : Y 4 = X 4 ∧ Y 60 = X 60) (e5 : Y 5 = X 5) (h : xj_s X) : xj_s Y := by
  intro q
  unfold fd_ at q ⊢
  rw [e5] at q ⊢
  exact xs_eq e (h q)
theorem xj_w_eq {X Y : mm_S} (e : Y 4 = X 4 ∧ Y 60 = X 60) (e9 : Y 9 = X 9) (h : xj_w X) : xj_w Y := by
  intro m m0 m1 q
  unfold rd_ at q ⊢
  rw [e9] at q ⊢
  exact xh_eq e (h m m0 m1 q)
theorem ix_m61 {x y : Int32} (h0 : 0 ≤ x.toInt) (h1 : x.toInt ≤ 31) (y0 : 0 ≤ y.toInt) (y1 : y.toInt ≤ 60) : vp_in (x * 61 + y) 1952 := by rw [Int32.mul_comm]; exact ix_61c h0 h1 y0 y1
theorem xo_1_e (X : mm_S) (h sp : Int32) : (xo_1 X h sp 4 = X 4 ∧ xo_1 X h sp 60 = X 60) ∧ xo_1 X h sp 5 = X 5 := by
  unfold xo_1 wr_
  refine ⟨⟨?_, ?_⟩, ?_⟩ <;> rw [mm_up_k (by decide), mm_up_k (by decide), mm_up_k (by decide)]
