/-! THE COMPONENT's METHODS AS FUNCTIONS of its own store, by the order of their code: 1 -/
/-! main: 0 hour 1 hard 2 isOpen 4 bodyMany 5 shelter 6 trace 7 ran 8 speeds 9 worksOn 10 broken 12 spread 13 mapFrom 14 mapTo 15 mapYard 16 olds 17 oldMany 18 maps 19 names 20 byLine 21 tape 22 length 25 textMany 26 spoons 27 eaten 28 moves 29 movesOn 30 rockRows 31 works 32 strengths 33 downWhat 34 downOn 35 downMany 36 stuffs 37 needHours 38 needWeight 39 needBy 40 needs 41 leastOf 42 orderOf 43 orderMany 44 watchers 45 watchPlaces 46 aimColumn 47 aimMisses 48 aims 49 rock 50 aimedPlace 51 aimedMachine 52 aimedMany 53 upWho 54 upOn 55 upMany 56 upFrom 57 firsts 58 shelves; bodies: 60 kind 61 column 62 width 63 leans 64 told 65 met 66 bored 67 x 68 minutes 69 throughOn 70 logs 71 hasLog 72 free 73 from 74 to 75 yard 76 hasHeld 77 strength 78 skill 79 ill 80 isUp -/
def xi_min (x y : Int32) : Int32 := if y < x then y else x
def xi_max (x y : Int32) : Int32 := if x < y then y else x
def xi_fd (x y : Int32) : Int32 := if 0 ≤ x ^^^ y then x / y else if x / y * y = x then x / y else x / y - 1
def xf_within (v a b : Int64) : Int32 := if lg_cmp v a < 0 then 0 else if 0 < lg_cmp v b then 0 else 1
theorem lc_gt {x y : Int64} : 0 < lg_cmp x y ↔ y.toInt < x.toInt := by
  have h := lg_cmp_le x y
  constructor
  · intro q
    have q2 : ¬ lg_cmp x y ≤ 0 := fun z => by have a := ww_le z; have b := ww_lt q; omega
    have q3 : ¬ x ≤ y := fun z => q2 (h.mpr z)
    rcases Int.lt_or_le y.toInt x.toInt with z | z
    · exact z
    · exact absurd (Int64.le_iff_toInt_le.mpr z) q3
  · intro q
    rcases Int.lt_or_le (0 : Int32).toInt (lg_cmp x y).toInt with z | z
    · exact ww_lt' z
    · have := Int64.le_iff_toInt_le.mp (h.mp (ww_le' z))
      omega
theorem xf_within_in (v a b : Int32) : xf_within v.toInt64 a.toInt64 b.toInt64 = ff_in v a b := by
  unfold xf_within ff_in
  have e1 : lg_cmp v.toInt64 a.toInt64 < 0 ↔ v < a := by
    rw [lc_lt, Int32.toInt_toInt64, Int32.toInt_toInt64]
    exact ⟨fun h => ww_lt' h, fun h => ww_lt h⟩
  have e2 : 0 < lg_cmp v.toInt64 b.toInt64 ↔ b < v := by
    rw [lc_gt, Int32.toInt_toInt64, Int32.toInt_toInt64]
    exact ⟨fun h => ww_lt' h, fun h => ww_lt h⟩
  simp only [e1, e2]
theorem xf_held {v a b : Int32} (h : a.toInt ≤ b.toInt) : xi_max a (xi_min b v) = ff_held v a b := by
  unfold xi_max xi_min ff_held
  by_cases q : v < b
  · rw [if_pos q]
    have qi := ww_lt q
    by_cases z : a < v
    · rw [if_pos z, if_pos (ww_le' (Int.le_of_lt (ww_lt z))), if_pos (ww_le' (Int.le_of_lt qi))]
    · rw [if_neg z]
      by_cases y : a ≤ v
      · rw [if_pos y, if_pos (ww_le' (Int.le_of_lt qi))]
        exact ww_eq (Int.le_antisymm (ww_le y) (ww_nlt z))
      · rw [if_neg y]
  · rw [if_neg q]
    have qi := ww_nlt q
    by_cases z : a < b
    · have zi := ww_lt z
      rw [if_pos z, if_pos (ww_le' (by omega))]
      by_cases y : v ≤ b
      · rw [if_pos y]
        exact ww_eq (Int.le_antisymm qi (ww_le y))
      · rw [if_neg y]
    · have zi := ww_nlt z
      have e : a = b := ww_eq (by omega)
      subst e
      rw [if_neg z]
      by_cases y : a ≤ v
      · rw [if_pos y]
        by_cases x : v ≤ a
        · rw [if_pos x]
          exact ww_eq (Int.le_antisymm (ww_le y) (ww_le x))
        · rw [if_neg x]
      · rw [if_neg y]
def xf_isBody (X : mm_S) (b : Int32) : Int32 := ff_in b 0 (fd_ X 4 - 1)
def xf_holeOf (X : mm_S) (b : Int32) : Int32 := if xf_isBody X b = 0 then -1 else if xk_Hole (rd_ X 60 b) = 0 then -1 else b
def xf_manOf (X : mm_S) (b : Int32) : Int32 := if xf_isBody X b = 0 then -1 else if xk_Man (rd_ X 60 b) = 0 then -1 else b
def xf_belowOf (X : mm_S) (b : Int32) : Int32 := if xf_manOf X b < 0 then -1 else if rd_ X 80 (xf_manOf X b) = 0 then xf_manOf X b else -1
def xf_isShelterAt (X : mm_S) (x y : Int32) : Int32 := if fd_ X 5 < 0 then 0 else if rd_ X 75 (fd_ X 5) = y then (if ff_in x (rd_ X 73 (fd_ X 5)) (rd_ X 74 (fd_ X 5)) = 0 then 0 else 1) else 0
def xf_isThrough (X : mm_S) (h : Int32) : Int32 := if rd_ X 69 h = -1 then 0 else 1
def xf_bit (z : Int32) : Int32 := if z = 0 then 0 else 1
def xf_hard (X : mm_S) (c v : Int32) : Int32 × mm_S := if ff_isCell c = 0 then (-1, X) else if ff_in v 1 9 = 0 then (-1, X) else (rd_ X 1 (ff_placeOf c), wr_ X 1 (ff_placeOf c) v)
def xf_open (X : mm_S) (c v : Int32) : Int32 × mm_S := if ff_isCell c = 0 then (-1, X) else if ff_in v 0 1 = 0 then (-1, X) else (if rd_ X 2 (ff_placeOf c) = 0 then 0 else 1, wr_ X 2 (ff_placeOf c) (if v = 1 then 1 else 0))
def xf_ofCell (X : mm_S) (c w : Int32) : Int32 := if ff_isCell c = 0 then -1 else if ff_in w 0 1 = 0 then -1 else if w = 0 then rd_ X 1 (ff_placeOf c) else if rd_ X 2 (ff_placeOf c) = 0 then 0 else 1
def xf_ofHole (X : mm_S) (h w : Int32) : Int32 := if w = 1 then rd_ X 61 h else if w = 2 then rd_ X 62 h else if w = 3 then rd_ X 66 h else if w = 4 then rd_ X 67 h else if w = 5 then xf_bit (xf_isThrough X h) else if w = 6 then rd_ X 68 h else if w = 7 then rd_ X 64 h else -2000000000
def xf_ofBody (X : mm_S) (b w : Int32) : Int32 :=
  if xf_isBody X b = 0 then -2000000000 else if w = 0 then rd_ X 60 b else
  if xf_holeOf X b < 0 then
    (if xf_manOf X b < 0 then (if b = fd_ X 5 then (if w = 1 then rd_ X 73 (fd_ X 5) else if w = 2 then rd_ X 74 (fd_ X 5) else if w = 3 then rd_ X 75 (fd_ X 5) else if w = 4 then xf_bit (rd_ X 76 (fd_ X 5)) else -2000000000) else -2000000000)
    else if w = 1 then rd_ X 77 (xf_manOf X b) else if w = 2 then rd_ X 78 (xf_manOf X b) else if w = 3 then rd_ X 79 (xf_manOf X b) else if w = 4 then xf_bit (if rd_ X 80 (xf_manOf X b) = 0 then 1 else 0) else -2000000000)
  else xf_ofHole X (xf_holeOf X b) w
def xf_ill (X : mm_S) (b v : Int32) : Int32 × mm_S := if xf_manOf X b < 0 then (-1, X) else if ff_in v 0 9 = 0 then (-1, X) else (rd_ X 79 (xf_manOf X b), wr_ X 79 (xf_manOf X b) v)
def xf_speed (X : mm_S) (m v : Int32) : Int32 × mm_S := if ff_isMachine m = 0 then (-1, X) else if ff_in v 10 60 = 0 then (-1, X) else (rd_ X 8 m, wr_ X 8 m v)
def xf_numberOf (v : Int32) : Int32 := if v < 0 then -1 else v
def xf_set_go : Nat → mm_S → Int32 → Int32 → Int32 → Int32 × mm_S
  | 0, X, _, _, _ => (0, X)
  | fu + 1, X, m, h, k => if 3 ≤ k then (xf_numberOf (rd_ X 9 m), wr_ X 9 m h) else if h < 0 then xf_set_go fu X m h (k + 1) else if k = m then xf_set_go fu X m h (k + 1) else if rd_ X 9 k = h then (-2000000000, X) else xf_set_go fu X m h (k + 1)
def xf_set (X : mm_S) (m h : Int32) : Int32 × mm_S := if ff_isMachine m = 0 then (-2000000000, X) else if h = -1 then xf_set_go 4 X m (-1) 0 else if xf_holeOf X h < 0 then (-2000000000, X) else xf_set_go 4 X m (xf_holeOf X h) 0
def xf_breaks (X : mm_S) (m t : Int32) : Int32 × mm_S := if ff_isMachine m = 0 then (-1, X) else if ff_in t (fd_ X 0) 1699 = 0 then (-1, X) else (1, wr_ X 10 m t)
def xf_yard_1 (X : mm_S) (h : Int32) : mm_S := wr_ X 64 h (rd_ X 64 h + 1)
def xf_yard_2 (X : mm_S) (h v : Int32) : mm_S := wa_ (xf_yard_1 X h) 63 h (rd_ X 64 h + 1) v
def xf_yard (X : mm_S) (h v : Int32) : Int32 × mm_S :=
  if xf_holeOf X h < 0 then (-1, X) else if ff_in v (-2) 2 = 0 then (-1, X) else if xf_isThrough X (xf_holeOf X h) = 0 then (if rd_ X 64 (xf_holeOf X h) = 60 then (-3, X) else (rd_ (xf_yard_2 X (xf_holeOf X h) v) 64 (xf_holeOf X h), xf_yard_2 X (xf_holeOf X h) v)) else (-2, X)
def xf_isBored (X : mm_S) (h y : Int32) : Int32 := if h < 0 then 0 else if ff_in y 1 (rd_ X 66 h) = 0 then 0 else 1
def xf_met (X : mm_S) (h y : Int32) : Int32 := if xf_isBored X (xf_holeOf X h) y = 0 then -1 else ra_ X 65 (xf_holeOf X h) y
def xf_spread (X : mm_S) (v : Int32) : Int32 × mm_S := if ff_in v 0 8 = 0 then (-1, X) else (fd_ X 12, fw_ X 12 v)
def xf_least (q : Int32) : Int32 := ff_held (xi_fd q 4) 0 31
def xf_most (q : Int32) : Int32 := ff_held (-(xi_fd (-q) 4)) 0 31
def xf_low (X : mm_S) (h y q : Int32) : Int32 := q + (if ra_ X 71 h y = 0 then -8 else ra_ X 70 h y - fd_ X 12)
def xf_high (X : mm_S) (h y q : Int32) : Int32 := q + (if ra_ X 71 h y = 0 then 8 else ra_ X 70 h y + fd_ X 12)
def xf_cb_go : Nat → mm_S → Int32 → Int32 → Int32 → Int32 → Int32 → Int32
  | 0, _, _, _, _, _, _ => 0
  | fu + 1, X, h, y, w, q, k => if y < k then (if w = 0 then xf_least q else xf_most q) else xf_cb_go fu X h y w (if w = 0 then xf_low X h k q else xf_high X h k q) (k + 1)
def xf_canBe (X : mm_S) (h y w : Int32) : Int32 := if xf_isBored X (xf_holeOf X h) y = 0 then -1 else if ff_in w 0 1 = 0 then -1 else xf_cb_go 61 X (xf_holeOf X h) y w (4 * rd_ X 61 (xf_holeOf X h)) 1
def xf_isMap (X : mm_S) (m : Int32) : Int32 := ff_in m 0 (fd_ X 18 - 1)
def xf_map (X : mm_S) (s y : Int32) : Int32 × mm_S :=
  if ff_isSpan s = 0 then (-1, X) else if ff_in y 1 60 = 0 then (-1, X) else if fd_ X 18 = 8 then (-3, X) else
  (fd_ X 18, fw_ (wr_ (wr_ (wr_ X 13 (fd_ X 18) (s / 100)) 14 (fd_ X 18) (jr_ s 100)) 15 (fd_ X 18) y) 18 (fd_ X 18 + 1))
def xf_oldAt (m x y : Int32) : Int32 := m * 32 * 61 + (x * 61 + y)
def xf_isOld (X : mm_S) (m x y : Int32) : Int32 := rd_ X 16 (xf_oldAt m x y)
def xf_old (X : mm_S) (m c : Int32) : Int32 × mm_S :=
  if xf_isMap X m = 0 then (-1, X) else if ff_isCell c = 0 then (-1, X) else if xf_isOld X m (c / 100) (jr_ c 100) = 0 then (if rd_ X 17 m = 40 then (-3, X) else
  (rd_ X 17 m + 1, wr_ (wr_ X 16 (xf_oldAt m (c / 100) (jr_ c 100)) 1) 17 m (rd_ X 17 m + 1))) else (-1, X)
def xf_isOfShelter (X : mm_S) (m x y : Int32) : Int32 := if rd_ X 15 m = y then (if ff_in x (rd_ X 13 m) (rd_ X 14 m) = 0 then 0 else 1) else 0
def xf_isLike (X : mm_S) (m x y t : Int32) : Int32 := if t = 0 then (if xf_isOld X m x y = 0 then (if xf_isOfShelter X m x y = 0 then 1 else 0) else 0) else if t = 1 then xf_isOld X m x y else xf_isOfShelter X m x y
/-- some column is like -/
def xf_lk_go : Nat → mm_S → Int32 → Int32 → Int32 → Int32 → Int32 → Int32 → Int32
  | 0, _, _, _, _, _, z, _ => z
  | fu + 1, X, m, h, y, hi, z, x => if xf_most hi < x then z else xf_lk_go fu X m h y hi (z ||| xf_isLike X m x y (ra_ X 65 h y)) (x + 1)
def xf_wy_go : Nat → mm_S → Int32 → Int32 → Int32 → Int32 → Int32 → Int32
  | 0, _, _, _, _, _, _ => 0
  | fu + 1, X, m, h, lo, hi, y => if h < 0 then 0 else if rd_ X 66 h < y then 0 else if xf_lk_go 33 X m h y (xf_high X h y hi) 0 (xf_least (xf_low X h y lo)) = 0 then y else xf_wy_go fu X m h (xf_low X h y lo) (xf_high X h y hi) (y + 1)
def xf_wc (X : mm_S) (h : Int32) : Int32 := if h < 0 then 0 else 4 * rd_ X 61 h
def xf_wy (X : mm_S) (m h : Int32) : Int32 := xf_wy_go 61 X m h (xf_wc X h) (xf_wc X h) 1
def xf_wr_go : Nat → mm_S → Int32 → Int32 → Int32
  | 0, _, _, _ => -2
  | fu + 1, X, m, k => if fd_ X 4 ≤ k then -2 else if xf_wy X m (xf_holeOf X k) = 0 then xf_wr_go fu X m (k + 1) else 100 * k + xf_wy X m (xf_holeOf X k)
def xf_wrong (X : mm_S) (m : Int32) : Int32 := if xf_isMap X m = 0 then -1 else xf_wr_go 121 X m 0
def xf_kn_fin (w a b c d f t : Int32) : Int32 :=
  if w = 0 then a else if w = 1 then b else if w = 2 then c else if w = 3 then d else if w = 4 then f else t
def xf_kn_ret (w a b c d f t : Int32) : Int32 :=
  if b = -1 then -2 else if w ≤ 3 then xf_kn_fin w a b c d f t else if t < f then -2 else if c = d then xf_kn_fin w a b c d f t else -2
def xf_kn_go : Nat → mm_S → Int32 → Int32 → Int32 → Int32 → Int32 → Int32 → Int32 → Int32 → Int32
  | 0, _, _, _, _, _, _, _, _, _ => 0
  | fu + 1, X, w, a, b, c, d, f, t, m => if fd_ X 18 ≤ m then xf_kn_ret w a b c d f t else if xf_wrong X m = -2 then
      xf_kn_go fu X w (xi_min a (rd_ X 13 m)) (xi_max b (rd_ X 14 m)) (xi_min c (rd_ X 15 m)) (xi_max d (rd_ X 15 m)) (xi_max f (rd_ X 13 m)) (xi_min t (rd_ X 14 m)) (m + 1)
    else xf_kn_go fu X w a b c d f t (m + 1)
def xf_known (X : mm_S) (w : Int32) : Int32 := if ff_in w 0 5 = 0 then -1 else xf_kn_go 9 X w 32 (-1) 61 (-1) (-1) 32 0
/-! laws of them -/
def xm_in (X : mm_S) (b : Int32) : Prop := xb_in X b ∧ xq X b = 7
def xs_in (X : mm_S) (b : Int32) : Prop := xb_in X b ∧ xq X b = 6
def xtu_in (X : mm_S) (b : Int32) : Prop := xb_in X b ∧ xq X b = 3
theorem xb_fw {X : mm_S} {k : Nat} {v b : Int32} (h : xb_in X b) (h4 : k ≠ 4) (h60 : k ≠ 60) : xb_in (fw_ X k v) b := by
  unfold xb_in at *
  rw [fd_fn (Ne.symm h4)]
  exact h
theorem xb_wr {X : mm_S} {k : Nat} {i v b : Int32} (h : xb_in X b) (h4 : k ≠ 4) (h60 : k ≠ 60) : xb_in (wr_ X k i v) b := by
  unfold xb_in at *
  rw [fd_wn (Ne.symm h4)]
  exact h
theorem wa_k {X : mm_S} {k k2 : Nat} {i y v : Int32} (h : k2 ≠ k) : wa_ X k i y v k2 = X k2 := mm_up_k h
theorem xb_wa {X : mm_S} {k : Nat} {i y v b : Int32} (h : xb_in X b) (h4 : k ≠ 4) (h60 : k ≠ 60) : xb_in (wa_ X k i y v) b := by
  unfold xb_in fd_ at *
  rw [wa_k (Ne.symm h4)]
  exact h
theorem xq_fw {X : mm_S} {k : Nat} {v b : Int32} (h : k ≠ 60) : xq (fw_ X k v) b = xq X b := by
  show ((fw_ X k v) 60 b.toNatClampNeg).toInt.toNat = _
  rw [show (fw_ X k v) 60 = X 60 from mm_up_k (Ne.symm h)]
  rfl
theorem xq_wr {X : mm_S} {k : Nat} {i v b : Int32} (h : k ≠ 60) : xq (wr_ X k i v) b = xq X b := by
  show ((wr_ X k i v) 60 b.toNatClampNeg).toInt.toNat = _
  rw [show (wr_ X k i v) 60 = X 60 from mm_up_k (Ne.symm h)]
  rfl
theorem xq_wa {X : mm_S} {k : Nat} {i y v b : Int32} (h : k ≠ 60) : xq (wa_ X k i y v) b = xq X b := by
  show ((wa_ X k i y v) 60 b.toNatClampNeg).toInt.toNat = _
  rw [wa_k (Ne.symm h)]
  rfl
theorem xh_fw {X : mm_S} {k : Nat} {v b : Int32} (h : xh_in X b) (h4 : k ≠ 4) (h60 : k ≠ 60) : xh_in (fw_ X k v) b := ⟨xb_fw h.1 h4 h60, by rw [xq_fw h60]; exact h.2⟩
theorem xh_wr {X : mm_S} {k : Nat} {i v b : Int32} (h : xh_in X b) (h4 : k ≠ 4) (h60 : k ≠ 60) : xh_in (wr_ X k i v) b := ⟨xb_wr h.1 h4 h60, by rw [xq_wr h60]; exact h.2⟩
theorem xh_wa {X : mm_S} {k : Nat} {i y v b : Int32} (h : xh_in X b) (h4 : k ≠ 4) (h60 : k ≠ 60) : xh_in (wa_ X k i y v) b := ⟨xb_wa h.1 h4 h60, by rw [xq_wa h60]; exact h.2⟩
theorem xm_fw {X : mm_S} {k : Nat} {v b : Int32} (h : xm_in X b) (h4 : k ≠ 4) (h60 : k ≠ 60) : xm_in (fw_ X k v) b := ⟨xb_fw h.1 h4 h60, by rw [xq_fw h60]; exact h.2⟩
theorem xm_wr {X : mm_S} {k : Nat} {i v b : Int32} (h : xm_in X b) (h4 : k ≠ 4) (h60 : k ≠ 60) : xm_in (wr_ X k i v) b := ⟨xb_wr h.1 h4 h60, by rw [xq_wr h60]; exact h.2⟩
theorem xm_wa {X : mm_S} {k : Nat} {i y v b : Int32} (h : xm_in X b) (h4 : k ≠ 4) (h60 : k ≠ 60) : xm_in (wa_ X k i y v) b := ⟨xb_wa h.1 h4 h60, by rw [xq_wa h60]; exact h.2⟩
theorem xs_fw {X : mm_S} {k : Nat} {v b : Int32} (h : xs_in X b) (h4 : k ≠ 4) (h60 : k ≠ 60) : xs_in (fw_ X k v) b := ⟨xb_fw h.1 h4 h60, by rw [xq_fw h60]; exact h.2⟩
theorem xs_wr {X : mm_S} {k : Nat} {i v b : Int32} (h : xs_in X b) (h4 : k ≠ 4) (h60 : k ≠ 60) : xs_in (wr_ X k i v) b := ⟨xb_wr h.1 h4 h60, by rw [xq_wr h60]; exact h.2⟩
theorem xtu_fw {X : mm_S} {k : Nat} {v b : Int32} (h : xtu_in X b) (h4 : k ≠ 4) (h60 : k ≠ 60) : xtu_in (fw_ X k v) b := ⟨xb_fw h.1 h4 h60, by rw [xq_fw h60]; exact h.2⟩
theorem xtu_wr {X : mm_S} {k : Nat} {i v b : Int32} (h : xtu_in X b) (h4 : k ≠ 4) (h60 : k ≠ 60) : xtu_in (wr_ X k i v) b := ⟨xb_wr h.1 h4 h60, by rw [xq_wr h60]; exact h.2⟩
/-- how many bodies there can be -/
def xv_B (X : mm_S) : Prop := 0 ≤ (fd_ X 4).toInt ∧ (fd_ X 4).toInt ≤ 120
theorem xv_W {G : wm_G} {o d0 : Nat} {X : mm_S} {E : mm_E} {D : xg} {H : Heap} (hW : xx_W G o d0 X E D H) : xv_B X := ⟨hW.cap.1, hW.cap.2.1⟩
theorem xf_isBody_t {X : mm_S} {b : Int32} (hB : xv_B X) (h : ¬ xf_isBody X b = 0) : xb_in X b := by
  have t := ff_in_t h
  have e0 : (0 : Int32).toInt = 0 := by decide
  have e1 : (1 : Int32).toInt = 1 := by decide
  have e : (fd_ X 4 - 1).toInt = (fd_ X 4).toInt - 1 := by
    rw [ww_sub, e1] <;> rw [e1] <;> have := hB.1 <;> have := hB.2 <;> omega
  rw [e, e0] at t
  exact ⟨t.1, by omega⟩
theorem xb_120 {X : mm_S} {b : Int32} (hB : xv_B X) (h : xb_in X b) : 0 ≤ b.toInt ∧ b.toInt < 120 := ⟨h.1, by have := h.2; have := hB.2; omega⟩
theorem xm1 : ((-1 : Int32) < 0) := by decide
theorem xf_holeOf_e {X : mm_S} {b : Int32} (h : ¬ xf_holeOf X b < 0) : xf_holeOf X b = b ∧ ¬ xf_isBody X b = 0 ∧ ¬ xk_Hole (rd_ X 60 b) = 0 := by
  unfold xf_holeOf at *
  split at h
  · exact absurd xm1 h
  · rename_i q
    split at h
    · exact absurd xm1 h
    · rename_i q2
      rw [if_neg q, if_neg q2]
      exact ⟨rfl, q, q2⟩
theorem xk_Hole_t {k : Int32} (h : ¬ xk_Hole k = 0) : 2 ≤ k.toInt ∧ k.toInt ≤ 5 := by
  unfold xk_Hole at h
  split at h
  · exact absurd rfl h
  · rename_i q
    split at h
    · exact absurd rfl h
    · rename_i q2
      exact ⟨ww_nlt q, ww_nlt q2⟩
theorem xh_of {X : mm_S} {b : Int32} (hB : xv_B X) (h : ¬ xf_isBody X b = 0) (hk : ¬ xk_Hole (rd_ X 60 b) = 0) : xh_in X b := by
  have t := xk_Hole_t hk
  refine ⟨xf_isBody_t hB h, ?_, ?_⟩
  · rw [xb_q]; omega
  · rw [xb_q]; omega
theorem xf_holeOf_q {X : mm_S} {b : Int32} (hB : xv_B X) (h : ¬ xf_holeOf X b < 0) : xh_in X (xf_holeOf X b) := by
  obtain ⟨h1, h2, h3⟩ := xf_holeOf_e h
  rw [h1]
  exact xh_of hB h2 h3
theorem xf_manOf_e {X : mm_S} {b : Int32} (h : ¬ xf_manOf X b < 0) : xf_manOf X b = b ∧ ¬ xf_isBody X b = 0 ∧ ¬ xk_Man (rd_ X 60 b) = 0 := by
  unfold xf_manOf at *
  split at h
  · exact absurd xm1 h
  · rename_i q
    split at h
    · exact absurd xm1 h
    · rename_i q2
      rw [if_neg q, if_neg q2]
      exact ⟨rfl, q, q2⟩
theorem xm_of {X : mm_S} {b : Int32} (hB : xv_B X) (h : ¬ xf_isBody X b = 0) (hk : ¬ xk_Man (rd_ X 60 b) = 0) : xm_in X b := by
  refine ⟨xf_isBody_t hB h, ?_⟩
  unfold xk_Man at hk
  split at hk
  · rename_i q
    rw [xb_q, q]
    decide
  · exact absurd rfl hk
theorem xf_manOf_q {X : mm_S} {b : Int32} (hB : xv_B X) (h : ¬ xf_manOf X b < 0) : xm_in X (xf_manOf X b) := by
  obtain ⟨h1, h2, h3⟩ := xf_manOf_e h
  rw [h1]
  exact xm_of hB h2 h3
theorem xf_belowOf_e {X : mm_S} {b : Int32} (h : ¬ xf_belowOf X b < 0) : xf_belowOf X b = b ∧ ¬ xf_manOf X b < 0 := by
  unfold xf_belowOf at *
  split at h
  · exact absurd xm1 h
  · rename_i q
    split at h
    · rename_i q2
      rw [if_neg q, if_pos q2]
      exact ⟨(xf_manOf_e q).1, q⟩
    · exact absurd xm1 h
theorem xf_belowOf_q {X : mm_S} {b : Int32} (hB : xv_B X) (h : ¬ xf_belowOf X b < 0) : xm_in X (xf_belowOf X b) := by
  obtain ⟨h1, h2⟩ := xf_belowOf_e h
  have := xf_manOf_q hB h2
  rw [(xf_manOf_e h2).1] at this
  rw [h1]
  exact this
def xf_isWhat (w : Int32) : Int32 := if w < 0 then 0 else if 1 < w / 10 then 0 else if 2 < jr_ w 10 then 0 else 1
/-- a static method of the JDK's that reads nothing -/
theorem pp_startF {l : Launch} {y : MethodName} {cc : ByteArray} {maxL : Nat} {ret : Option FieldType} {d : Nat} {own : String} {av : List Value} {r : Option Value} (hy : plainFor y = true) (hlen : (lg_sl av).length ≤ maxL) (hN : y.cls = own)
    (body : ∀ (p : Program) (e : Env) (s : State) (m : MethodId) (below : List Frame) (meth : Method) (c : Code), p.tables.exec = Jvm.exec → c.code = cc → c.maxLocals = maxL → meth.sig.returnType = ret → meth.locks = false → (∀ w ∈ lw_all, w.before av.toArray s = true) → s.vm.findClass own = some m.cls → ∀ ls : Array Slot, lv_has ls maxL (lv_args 0 av) →
      W p l e (wm_rm d) s m av.toArray below meth c s.heap [] 0 0 (MQ below (pp_Q r) av.toArray s 0 0 (fun _ => False)) (F0 m 0 ls [])) : pp_Met l y (ws_ y cc maxL ret) d av r := by
  refine va_MetF (cc := cc) (maxL := maxL) (ret := ret) hy rfl ?_
  intro p e s m args below meth c s₁ B hml hv
  obtain ⟨rfl, -⟩ := hv
  have hts := atoms_spec (ws := ws_ y cc maxL ret) B.pre
  have hts : ∀ w ∈ lw_all, w.before av.toArray s = true := fun w h => hts w (List.mem_cons_of_mem _ h)
  have hown : s.vm.findClass own = some m.cls := by rw [← hN]; exact findClass_of_methodNamed B.named
  have hl := lv_entry av hlen
  rw [lg_entry_eq]
  exact body p e s m below meth c B.exec B.bytes hml B.returns B.notSynchronized hts hown _ hl
theorem xb_k {G : wm_G} {o d0 : Nat} {X : mm_S} {E : mm_E} {D : xg} {H : Heap} (hW : xx_W G o d0 X E D H) {b : Int32} (hi : xb_in X b) {q : Nat} (hq : xq X b = q) : rd_ X 60 b = Int32.ofNat q := by
  have h := xb_kind hW hi
  rw [xb_q] at hq
  apply ww_eq
  have e : (Int32.ofNat q).toInt = (q : Int) := nI_toInt (by omega)
  rw [e]
  omega
/-- the shelter is one -/
def xj_s (X : mm_S) : Prop := ¬ fd_ X 5 < 0 → xs_in X (fd_ X 5)
