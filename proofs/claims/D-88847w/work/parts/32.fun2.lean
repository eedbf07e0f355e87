/-! THE REFERENCE's METHODS AS FUNCTIONS: 2 (machines, boring, logs, maps) -/
def ff_speed (S : mm_S) (m v : Int32) : Int32 × mm_S := if ff_isMachine m = 0 then (-1, S) else if ff_in v 10 60 = 0 then (-1, S) else (rd_ S 26 m, wr_ S 26 m v)
def ff_set_go : Nat → mm_S → Int32 → Int32 → Int32 → Int32 × mm_S
  | 0, S, _, _, _ => (0, S)
  | fu + 1, S, m, h, k => if 3 ≤ k then (rd_ S 27 m, wr_ S 27 m h) else if k = m then ff_set_go fu S m h (k + 1) else if h < 0 then ff_set_go fu S m h (k + 1) else if rd_ S 27 k = h then (-2000000000, S) else ff_set_go fu S m h (k + 1)
def ff_set (S : mm_S) (m h : Int32) : Int32 × mm_S :=
  if ff_isMachine m = 0 then (-2000000000, S) else if h = -1 then ff_set_go 4 S m h 0 else if ff_isHole S h = 0 then (-2000000000, S) else ff_set_go 4 S m h 0
def ff_breaks (S : mm_S) (m t : Int32) : Int32 × mm_S := if ff_isMachine m = 0 then (-1, S) else if ff_in t (fd_ S 1) 1699 = 0 then (-1, S) else (1, wr_ S 28 m t)
def ff_yard (S : mm_S) (h v : Int32) : Int32 × mm_S :=
  if ff_isHole S h = 0 then (-1, S) else if ff_in v (-2) 2 = 0 then (-1, S) else if rd_ S 12 h ≤ 0 then (if rd_ S 9 h = 60 then (-3, S) else
  (rd_ (wr_ (wr_ S 9 h (rd_ S 9 h + 1)) 13 (61 * h + rd_ (wr_ S 9 h (rd_ S 9 h + 1)) 9 h) v) 9 h, wr_ (wr_ S 9 h (rd_ S 9 h + 1)) 13 (61 * h + rd_ (wr_ S 9 h (rd_ S 9 h + 1)) 9 h) v)) else (-2, S)
def ff_met (S : mm_S) (h y : Int32) : Int32 := if ff_isHole S h = 0 then -1 else if ff_in y 1 (rd_ S 10 h) = 0 then -1 else rd_ S 14 (61 * h + y)
def ff_firstThrough_go : Nat → mm_S → Int32 → Int32 → Int32
  | 0, _, f, _ => f
  | fu + 1, S, f, b => if fd_ S 4 ≤ b then f else if rd_ S 12 b ≤ 0 then ff_firstThrough_go fu S f (b + 1) else if f ≤ rd_ S 12 b - 1 then ff_firstThrough_go fu S f (b + 1) else ff_firstThrough_go fu S (rd_ S 12 b - 1) (b + 1)
def ff_firstThrough (S : mm_S) : Int32 := ff_firstThrough_go 121 S 1700 0
/-! a yard bored: the place, what it costs, what is left, what is met -/
def fb_y (S : mm_S) (h : Int32) : Int32 := rd_ S 10 h + 1
def fb_x (S : mm_S) (h : Int32) : Int32 := ff_held (rd_ S 8 h + rd_ S 13 (61 * h + fb_y S h)) 0 31
def fb_c (S : mm_S) (h : Int32) : Int32 := 61 * fb_x S h + fb_y S h
def fb_cost (S : mm_S) (h sp : Int32) : Int32 := if rd_ S 3 (fb_c S h) = 0 then sp * (3 + rd_ S 2 (fb_c S h)) else 0
def fb_S1 (S : mm_S) (h sp : Int32) : mm_S := wr_ (wr_ (wr_ S 11 h (rd_ S 11 h - fb_cost S h sp)) 10 h (fb_y S h)) 8 h (fb_x S h)
def fb_there (S : mm_S) (x y : Int32) : Int32 := if fd_ S 21 < 0 then 0 else if y = fd_ S 24 then (if ff_in x (fd_ S 22) (fd_ S 23) = 0 then 0 else 1) else 0
def fb_met (S : mm_S) (c th : Int32) : Int32 := if th = 0 then (if rd_ S 3 c = 0 then 0 else 1) else 2
def fb_S2 (S : mm_S) (h sp : Int32) : mm_S := wr_ (fb_S1 S h sp) 14 (61 * h + fb_y S h) (fb_met (fb_S1 S h sp) (fb_c S h) (fb_there (fb_S1 S h sp) (fb_x S h) (fb_y S h)))
def fb_S3 (S : mm_S) (h sp : Int32) : mm_S := if fb_there (fb_S1 S h sp) (fb_x S h) (fb_y S h) = 0 then fb_S2 S h sp else wr_ (fb_S2 S h sp) 12 h (fd_ (fb_S2 S h sp) 1 + 1)
def ff_bore : Nat → mm_S → Int32 → Int32 → mm_S
  | 0, S, _, _ => S
  | fu + 1, S, h, sp => if rd_ S 9 h ≤ rd_ S 10 h then S else if rd_ S 12 h = 0 then (if fb_cost S h sp ≤ rd_ S 11 h then ff_bore fu (fb_S3 S h sp) h sp else S) else S
def ff_spread (S : mm_S) (v : Int32) : Int32 × mm_S := if ff_in v 0 8 = 0 then (-1, S) else (fd_ S 29, fw_ S 29 v)
def ff_down4 (v : Int32) : Int32 := if v < 0 then -((3 - v) / 4) else v / 4
def ff_cb_go : Nat → mm_S → Int32 → Int32 → Int32 → Int32 → Int32 → Int32
  | 0, _, _, _, _, s, _ => s
  | fu + 1, S, h, y, w, s, k => if y < k then s else ff_cb_go fu S h y w (s + (if rd_ S 15 (61 * h + k) = 0 then (if w = 0 then -8 else 8) else rd_ S 16 (61 * h + k) + (if w = 0 then -(fd_ S 29) else fd_ S 29))) (k + 1)
def ff_cb (S : mm_S) (h y w : Int32) : Int32 := ff_cb_go 61 S h y w (4 * rd_ S 6 h) 1
def ff_canBeAt (S : mm_S) (h y w : Int32) : Int32 := ff_held (if w = 0 then ff_down4 (ff_cb S h y w) else -(ff_down4 (-(ff_cb S h y w)))) 0 31
def ff_canBe (S : mm_S) (h y w : Int32) : Int32 := if ff_isHole S h = 0 then -1 else if ff_in y 1 (rd_ S 10 h) = 0 then -1 else if ff_in w 0 1 = 0 then -1 else ff_canBeAt S h y (if w = 1 then 1 else 0)
def ff_map (S : mm_S) (s y : Int32) : Int32 × mm_S :=
  if ff_isSpan s = 0 then (-1, S) else if ff_in y 1 60 = 0 then (-1, S) else if fd_ S 30 = 8 then (-3, S) else
  (fd_ S 30 + 1 - 1, fw_ (wr_ (wr_ (wr_ S 31 (fd_ S 30) (s / 100)) 32 (fd_ S 30) (jr_ s 100)) 33 (fd_ S 30) y) 30 (fd_ S 30 + 1))
def ff_isOldBy_go : Nat → mm_S → Int32 → Int32 → Int32 → Int32
  | 0, _, _, _, _ => 0
  | fu + 1, S, m, c, k => if rd_ S 34 m ≤ k then 0 else if rd_ S 35 (40 * m + k) = c then 1 else ff_isOldBy_go fu S m c (k + 1)
def ff_isOldBy (S : mm_S) (m c : Int32) : Int32 := ff_isOldBy_go 41 S m c 0
def ff_old (S : mm_S) (m c : Int32) : Int32 × mm_S :=
  if ff_in m 0 (fd_ S 30 - 1) = 0 then (-1, S) else if ff_isCell c = 0 then (-1, S) else if ff_isOldBy S m c = 0 then (if rd_ S 34 m = 40 then (-3, S) else
  (rd_ S 34 m + 1, wr_ (wr_ S 35 (40 * m + rd_ S 34 m) c) 34 m (rd_ S 34 m + 1))) else (-1, S)
def ff_isShelterBy (S : mm_S) (m x y : Int32) : Int32 := if y = rd_ S 33 m then (if ff_in x (rd_ S 31 m) (rd_ S 32 m) = 0 then 0 else 1) else 0
def fu_un (S : mm_S) (m x y t : Int32) : Int32 :=
  if t = 0 then (if ff_isOldBy S m (100 * x + y) = 0 then (if ff_isShelterBy S m x y = 0 then 0 else 1) else 1) else if t = 1 then (if ff_isOldBy S m (100 * x + y) = 0 then 1 else 0) else if ff_isShelterBy S m x y = 0 then 1 else 0
def ff_isUnlike_go : Nat → mm_S → Int32 → Int32 → Int32 → Int32 → Int32
  | 0, _, _, _, _, _ => 1
  | fu + 1, S, m, h, y, x => if ff_canBeAt S h y 1 < x then 1 else if fu_un S m x y (rd_ S 14 (61 * h + y)) = 0 then 0 else ff_isUnlike_go fu S m h y (x + 1)
def ff_isUnlike (S : mm_S) (m h y : Int32) : Int32 := ff_isUnlike_go 33 S m h y (ff_canBeAt S h y 0)
def ff_wb_go : Nat → mm_S → Int32 → Int32 → Int32 → Int32
  | 0, _, _, _, _ => 0
  | fu + 1, S, m, b, y => if rd_ S 10 b < y then 0 else if ff_isUnlike S m b y = 0 then ff_wb_go fu S m b (y + 1) else y
def ff_wrongBy_go : Nat → mm_S → Int32 → Int32 → Int32
  | 0, _, _, _ => -2
  | fu + 1, S, m, b => if fd_ S 4 ≤ b then -2 else if ff_isHole S b = 0 then ff_wrongBy_go fu S m (b + 1) else if ff_wb_go 61 S m b 1 = 0 then ff_wrongBy_go fu S m (b + 1) else 100 * b + ff_wb_go 61 S m b 1
def ff_wrongBy (S : mm_S) (m : Int32) : Int32 := ff_wrongBy_go 121 S m 0
def ff_wrong (S : mm_S) (m : Int32) : Int32 := if ff_in m 0 (fd_ S 30 - 1) = 0 then -1 else ff_wrongBy S m
def ff_known_fin (w a1 a2 b1 b2 y1 y2 : Int32) : Int32 :=
  if y2 = 0 then -2 else if w = 0 then a1 else if w = 1 then b2 else if w = 2 then y1 else if w = 3 then y2 else if y1 = y2 then (if a2 ≤ b1 then (if w = 4 then a2 else b1) else -2) else -2
def ff_known_go : Nat → mm_S → Int32 → Int32 → Int32 → Int32 → Int32 → Int32 → Int32 → Int32 → Int32
  | 0, _, _, _, _, _, _, _, _, _ => 0
  | fu + 1, S, w, a1, a2, b1, b2, y1, y2, m => if fd_ S 30 ≤ m then ff_known_fin w a1 a2 b1 b2 y1 y2 else if ff_wrongBy S m = -2 then
      ff_known_go fu S w (if a1 ≤ rd_ S 31 m then a1 else rd_ S 31 m) (if rd_ S 31 m ≤ a2 then a2 else rd_ S 31 m) (if b1 ≤ rd_ S 32 m then b1 else rd_ S 32 m) (if rd_ S 32 m ≤ b2 then b2 else rd_ S 32 m) (if y1 ≤ rd_ S 33 m then y1 else rd_ S 33 m) (if rd_ S 33 m ≤ y2 then y2 else rd_ S 33 m) (m + 1)
    else ff_known_go fu S w a1 a2 b1 b2 y1 y2 (m + 1)
def ff_known (S : mm_S) (w : Int32) : Int32 := if ff_in w 0 5 = 0 then -1 else ff_known_go 9 S w 32 (-1) 32 (-1) 61 0 0
/-! laws of them -/
/-- yards told and bored -/
def iv_T (S : mm_S) : Prop := ∀ b : Int32, 0 ≤ b.toInt → b.toInt < 120 → 0 ≤ (rd_ S 10 b).toInt ∧ (rd_ S 10 b).toInt ≤ (rd_ S 9 b).toInt ∧ (rd_ S 9 b).toInt ≤ 60
/-- maps and their old holes -/
def iv_M (S : mm_S) : Prop := 0 ≤ (fd_ S 30).toInt ∧ (fd_ S 30).toInt ≤ 8 ∧ ∀ m : Int32, 0 ≤ m.toInt → m.toInt < 8 → 0 ≤ (rd_ S 34 m).toInt ∧ (rd_ S 34 m).toInt ≤ 40
theorem ff_isMachine_t {m : Int32} (h : ¬ ff_isMachine m = 0) : 0 ≤ m.toInt ∧ m.toInt ≤ 2 := ff_in_t h
theorem ix_61t {h y : Int32} (h0 : 0 ≤ h.toInt) (h1 : h.toInt < 120) (y0 : 0 ≤ y.toInt) (y1 : y.toInt ≤ 60) : (61 * h + y).toInt = 61 * h.toInt + y.toInt := by
  have e61 : (61 : Int32).toInt = 61 := by decide
  have e : (61 * h).toInt = 61 * h.toInt := by rw [ww_mul, e61] <;> rw [e61] <;> omega
  rw [ww_add, e] <;> rw [e] <;> omega
theorem ix_61 {h y : Int32} (h0 : 0 ≤ h.toInt) (h1 : h.toInt < 120) (y0 : 0 ≤ y.toInt) (y1 : y.toInt ≤ 60) : vp_in (61 * h + y) 7320 := by
  have := ix_61t h0 h1 y0 y1
  exact ww_in (by omega) (by omega)
theorem ix_61c {x y : Int32} (h0 : 0 ≤ x.toInt) (h1 : x.toInt ≤ 31) (y0 : 0 ≤ y.toInt) (y1 : y.toInt ≤ 60) : vp_in (61 * x + y) 1952 := by
  have := ix_61t h0 (by omega) y0 y1
  exact ww_in (by omega) (by omega)
theorem ix_40t {m k : Int32} (h0 : 0 ≤ m.toInt) (h1 : m.toInt < 8) (y0 : 0 ≤ k.toInt) (y1 : k.toInt ≤ 39) : (40 * m + k).toInt = 40 * m.toInt + k.toInt := by
  have e40 : (40 : Int32).toInt = 40 := by decide
  have e : (40 * m).toInt = 40 * m.toInt := by rw [ww_mul, e40] <;> rw [e40] <;> omega
  rw [ww_add, e] <;> rw [e] <;> omega
theorem ix_40 {m k : Int32} (h0 : 0 ≤ m.toInt) (h1 : m.toInt < 8) (y0 : 0 ≤ k.toInt) (y1 : k.toInt ≤ 39) : vp_in (40 * m + k) 320 := by
  have := ix_40t h0 h1 y0 y1
  exact ww_in (by omega) (by omega)
theorem ff_held_t (v : Int32) {a b : Int32} (h : a.toInt ≤ b.toInt) : a.toInt ≤ (ff_held v a b).toInt ∧ (ff_held v a b).toInt ≤ b.toInt := by
  unfold ff_held
  split
  · rename_i h1
    have t1 := ww_le h1
    split
    · rename_i h2
      exact ⟨t1, ww_le h2⟩
    · exact ⟨h, Int.le_refl _⟩
  · exact ⟨Int.le_refl _, h⟩
theorem fb_x_t (S : mm_S) (h : Int32) : 0 ≤ (fb_x S h).toInt ∧ (fb_x S h).toInt ≤ 31 := ff_held_t _ (a := 0) (b := 31) (by decide)
theorem ff_canBeAt_t (S : mm_S) (h y w : Int32) : 0 ≤ (ff_canBeAt S h y w).toInt ∧ (ff_canBeAt S h y w).toInt ≤ 31 := ff_held_t _ (a := 0) (b := 31) (by decide)
theorem ff_mapin_t {S : mm_S} {m : Int32} (hM : iv_M S) (h : ¬ ff_in m 0 (fd_ S 30 - 1) = 0) : 0 ≤ m.toInt ∧ m.toInt < (fd_ S 30).toInt ∧ m.toInt < 8 := by
  have t := ff_in_t h
  have e0 : (0 : Int32).toInt = 0 := by decide
  have e1 : (1 : Int32).toInt = 1 := by decide
  have h1 := hM.1
  have h2 := hM.2.1
  have e : (fd_ S 30 - 1).toInt = (fd_ S 30).toInt - 1 := by rw [ww_sub, e1] <;> rw [e1] <;> omega
  rw [e, e0] at t
  omega
theorem ff_isOldBy_b (S : mm_S) (m c : Int32) : ff_isOldBy S m c = 0 ∨ ff_isOldBy S m c = 1 := by
  have key : ∀ (n : Nat) (k : Int32), ff_isOldBy_go n S m c k = 0 ∨ ff_isOldBy_go n S m c k = 1 := by
    intro n
    induction n with
    | zero => intro k; exact Or.inl rfl
    | succ n ih =>
      intro k
      unfold ff_isOldBy_go
      split
      · exact Or.inl rfl
      · split
        · exact Or.inr rfl
        · exact ih _
  exact key _ _
theorem ff_isShelterBy_b (S : mm_S) (m x y : Int32) : ff_isShelterBy S m x y = 0 ∨ ff_isShelterBy S m x y = 1 := by
  unfold ff_isShelterBy
  repeat' split
  all_goals first | exact Or.inl rfl | exact Or.inr rfl
theorem ff_isUnlike_b (S : mm_S) (m h y : Int32) : ff_isUnlike S m h y = 0 ∨ ff_isUnlike S m h y = 1 := by
  unfold ff_isUnlike
  generalize ff_canBeAt S h y 0 = k
  generalize 33 = n
  induction n generalizing k with
  | zero => exact Or.inr rfl
  | succ n ih =>
    unfold ff_isUnlike_go
    split
    · exact Or.inr rfl
    · split
      · exact Or.inl rfl
      · exact ih _
theorem ww_inc' {a : Int32} (h : a.toInt < 2147483647) : (a + 1).toInt = a.toInt + 1 := by
  have h1 : (1 : Int32).toInt = 1 := by decide
  have := ww_lo a
  rw [ww_add] <;> rw [h1] <;> omega
theorem rd_wa (S : mm_S) (k : Nat) (i v j : Int32) : rd_ (wr_ S k i v) k j = if j.toNatClampNeg = i.toNatClampNeg then v else rd_ S k j := mm_up_a S k _ v _
theorem fb_S1_9 (S : mm_S) (h sp : Int32) (b : Int32) : rd_ (fb_S1 S h sp) 9 b = rd_ S 9 b := by
  unfold fb_S1
  rw [rd_wn (by decide), rd_wn (by decide), rd_wn (by decide)]
theorem fb_S1_10 (S : mm_S) (h sp : Int32) (b : Int32) : rd_ (fb_S1 S h sp) 10 b = if b.toNatClampNeg = h.toNatClampNeg then fb_y S h else rd_ S 10 b := by
  unfold fb_S1
  rw [rd_wn (by decide), rd_wa, rd_wn (by decide)]
theorem fb_S3_9 (S : mm_S) (h sp : Int32) (b : Int32) : rd_ (fb_S3 S h sp) 9 b = rd_ S 9 b := by
  unfold fb_S3
  split
  · unfold fb_S2; rw [rd_wn (by decide), fb_S1_9]
  · rw [rd_wn (by decide)]; unfold fb_S2; rw [rd_wn (by decide), fb_S1_9]
theorem fb_S3_10 (S : mm_S) (h sp : Int32) (b : Int32) : rd_ (fb_S3 S h sp) 10 b = if b.toNatClampNeg = h.toNatClampNeg then fb_y S h else rd_ S 10 b := by
  unfold fb_S3
  split
  · unfold fb_S2; rw [rd_wn (by decide), fb_S1_10]
  · rw [rd_wn (by decide)]; unfold fb_S2; rw [rd_wn (by decide), fb_S1_10]
theorem fb_y_t {S : mm_S} {h : Int32} (hT : iv_T S) (h0 : 0 ≤ h.toInt) (h1 : h.toInt < 120) (hb : (rd_ S 10 h).toInt < (rd_ S 9 h).toInt) : (fb_y S h).toInt = (rd_ S 10 h).toInt + 1 := ww_inc hb
theorem fb_iv {S : mm_S} {h : Int32} (sp : Int32) (hT : iv_T S) (h0 : 0 ≤ h.toInt) (h1 : h.toInt < 120) (hb : (rd_ S 10 h).toInt < (rd_ S 9 h).toInt) : iv_T (fb_S3 S h sp) := by
  intro b b0 b1
  rw [fb_S3_9, fb_S3_10]
  obtain ⟨q1, q2, q3⟩ := hT b b0 b1
  split
  · rename_i q
    have e : b = h := ww_cl0 b0 h0 q
    subst e
    rw [fb_y_t hT h0 h1 hb]
    omega
  · exact ⟨q1, q2, q3⟩
