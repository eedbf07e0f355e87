/-! THE REFERENCE's METHODS AS FUNCTIONS: 3 (logs of a shelf's reals; the tape and its reading) -/
def ff_isShelf (s : Int32) : Int32 := ff_in s 0 5
def ff_isReals (S : mm_S) (s : Int32) : Int32 := if rd_ S 89 s = -5 then 1 else if rd_ S 89 s = -6 then 1 else 0
def ff_clr : Nat → mm_S → Int32 → Int32 → mm_S
  | 0, S, _, _ => S
  | fu + 1, S, h, z => if 60 < z then S else ff_clr fu (wr_ S 15 (61 * h + z) 0) h (z + 1)
def fl_place (s i k : Int32) : Int32 := 60 * s + (i.toInt64 + k.toInt64).toInt32
def fl_ahead (S : mm_S) (h y : Int32) : Int32 := if y ≤ 1 then 0 else if rd_ S 15 (61 * h + y - 1) = 0 then 0 else rd_ S 16 (61 * h + y - 1)
def fl_val (S : mm_S) (E : mm_E) (h s i y k : Int32) : Int32 := if rd_ S 92 (fl_place s i k) = 0 then (re_ E 91 (fl_place s i k)).toInt32 else fl_ahead S h (y + k)
def fl_S (S : mm_S) (E : mm_E) (h s i y k : Int32) : mm_S := wr_ (wr_ S 16 (61 * h + (y + k)) (fl_val S E h s i y k)) 15 (61 * h + (y + k)) 1
def ff_log_go : Nat → mm_S → mm_E → Int32 → Int32 → Int32 → Int32 → Int32 → Int32 → Int32 × mm_S
  | 0, S, _, _, _, _, _, _, _ => (0, S)
  | fu + 1, S, E, h, s, i, y, n, k => if n ≤ k then (n, S) else if y + k ≤ 60 then
      (if rd_ S 89 s = -1 then (k, ff_clr 61 S h (y + k)) else if lg_cmp (i.toInt64 + k.toInt64) 0 < 0 then (k, ff_clr 61 S h (y + k)) else if lg_cmp (i.toInt64 + k.toInt64) (rd_ S 90 s).toInt64 < 0 then ff_log_go fu (fl_S S E h s i y k) E h s i y n (k + 1) else (k, ff_clr 61 S h (y + k)))
    else (k, S)
def ff_log (S : mm_S) (E : mm_E) (h s i y n : Int32) : Int32 × mm_S :=
  if ff_isHole S h = 0 then (-1, S) else if ff_isShelf s = 0 then (-1, S) else if ff_in y 1 60 = 0 then (-1, S) else if ff_in n 1 60 = 0 then (-1, S) else if rd_ S 89 s = -1 then ff_log_go 61 S E h s i y n 0 else if ff_isReals S s = 0 then (-12, S) else ff_log_go 61 S E h s i y n 0
/-! the tape -/
def fb8 (x : Int32) : Int32 := x.toInt8.toInt32
def ff_feed_go : Nat → mm_S → Int32 → Int32 → Int32 → Int32 × mm_S
  | 0, S, _, _, _ => (0, S)
  | fu + 1, S, n, v, k => if n ≤ k then (fd_ S 37, S) else ff_feed_go fu (fw_ (wr_ S 36 (fd_ S 37) (fb8 (fb8 (v >>> ((8 * k) &&& 31))))) 37 (fd_ (wr_ S 36 (fd_ S 37) (fb8 (fb8 (v >>> ((8 * k) &&& 31))))) 37 + 1)) n v (k + 1)
def ff_feed (S : mm_S) (n v : Int32) : Int32 × mm_S := if ff_in n 1 4 = 0 then (-1, S) else if fd_ S 37 + n ≤ 160 then ff_feed_go 5 S n v 0 else (-3, S)
def fp_look (S : mm_S) : Int32 := if fd_ S 37 ≤ fd_ S 47 then -1 else rd_ S 36 (fd_ S 47)
def fp_fault (S : mm_S) : mm_S := if 0 ≤ fd_ S 48 then S else fw_ S 48 (fd_ S 47)
def fp_ix (S : mm_S) : Int32 := 170 * fd_ S 50 + fd_ S 51
def fp_lay (S : mm_S) (a b : Int32) : mm_S := fw_ (wr_ (wr_ S 45 (fp_ix S) a) 46 (fp_ix S) b) 51 (fd_ S 51 + 1)
def fp_adv (S : mm_S) : mm_S := fw_ S 47 (fd_ S 47 + 1)
def fp_opens (S : mm_S) : Int32 × mm_S := if fd_ S 49 = 8 then (0, fp_fault S) else (1, fp_adv (fw_ S 49 (fd_ S 49 + 1)))
def ff_nameOf (b : Int32) : Int32 := if b = 100 then 1 else if b = 102 then 6 else if b = 104 then 0 else if b = 105 then 4 else if b = 107 then 3 else if b = 110 then 5 else if b = 115 then 2 else if b = 116 then 7 else -1
def fp_turn (f : mm_S → mm_S) (S : mm_S) (b : Int32) : mm_S :=
  if (fp_opens S).1 = 0 then (fp_opens S).2 else fp_lay (fw_ (f (fp_opens S).2) 49 (fd_ (f (fp_opens S).2) 49 - 1)) (if b = 33 then 3 else 4) 0
def fp_paren (g : mm_S → mm_S) (S : mm_S) : mm_S :=
  if (fp_opens S).1 = 0 then (fp_opens S).2 else if fd_ (g (fp_opens S).2) 48 < 0 then (if fp_look (g (fp_opens S).2) = 41 then fp_adv (fw_ (g (fp_opens S).2) 49 (fd_ (g (fp_opens S).2) 49 - 1)) else fp_fault (g (fp_opens S).2)) else g (fp_opens S).2
def fp_fin (S : mm_S) (n v : Int32) : mm_S := if n = 0 then fp_fault S else if ff_in (fp_look S) 48 57 = 0 then fp_lay S 1 v else fp_fault S
def fp_dig : Nat → mm_S → Int32 → Int32 → mm_S
  | 0, S, _, _ => S
  | fu + 1, S, n, v => if 5 ≤ n then fp_fin S n v else if ff_in (fp_look S) 48 57 = 0 then fp_fin S n v else fp_dig fu (fp_adv S) (n + 1) (10 * v + fp_look S - 48)
def fp_one (f g : mm_S → mm_S) (S : mm_S) : mm_S :=
  if ff_nameOf (fp_look S) < 0 then (if fp_look S = 33 then fp_turn f S (fp_look S) else if fp_look S = 45 then fp_turn f S (fp_look S) else if fp_look S = 40 then fp_paren g S else fp_dig 6 S 0 0) else fp_adv (fp_lay S 2 (ff_nameOf (fp_look S)))
/-- a step of a row of signs -/
def fp_step (f : mm_S → mm_S) (S : mm_S) : mm_S := fp_lay (f (fp_adv S)) (fp_look S) 0
def fp_pr (f : mm_S → mm_S) : Nat → mm_S → mm_S
  | 0, S => S
  | n + 1, S => if 0 ≤ fd_ S 48 then S else if fp_look S = 42 then fp_pr f n (fp_step f S) else if fp_look S = 47 then fp_pr f n (fp_step f S) else if fp_look S = 37 then fp_pr f n (fp_step f S) else S
def fp_su (f : mm_S → mm_S) : Nat → mm_S → mm_S
  | 0, S => S
  | n + 1, S => if 0 ≤ fd_ S 48 then S else if fp_look S = 43 then fp_su f n (fp_step f S) else if fp_look S = 45 then fp_su f n (fp_step f S) else S
def fp_al (f : mm_S → mm_S) : Nat → mm_S → mm_S
  | 0, S => S
  | n + 1, S => if 0 ≤ fd_ S 48 then S else if fp_look S = 38 then fp_al f n (fp_lay (f (fp_adv S)) 38 0) else S
def fp_ei (f : mm_S → mm_S) : Nat → mm_S → mm_S
  | 0, S => S
  | n + 1, S => if 0 ≤ fd_ S 48 then S else if fp_look S = 124 then fp_ei f n (fp_lay (f (fp_adv S)) 124 0) else S
def fp_co (f : mm_S → mm_S) (S : mm_S) : mm_S :=
  if 0 ≤ fd_ S 48 then S else if fp_look S = 60 then fp_step f S else if fp_look S = 61 then fp_step f S else if fp_look S = 62 then fp_step f S else S
/-- the reading by levels: 0 an operand, 1 products, 2 sums, 3 a comparison, 4 all, 5 either -/
def ff_ps : Nat → Nat → mm_S → mm_S
  | 0, _, S => S
  | fu + 1, 0, S => fp_one (ff_ps fu 0) (ff_ps fu 5) S
  | fu + 1, 1, S => fp_pr (ff_ps fu 0) 161 (ff_ps fu 0 S)
  | fu + 1, 2, S => fp_su (ff_ps fu 1) 161 (ff_ps fu 1 S)
  | fu + 1, 3, S => fp_co (ff_ps fu 2) (ff_ps fu 2 S)
  | fu + 1, 4, S => fp_al (ff_ps fu 3) 161 (ff_ps fu 3 S)
  | fu + 1, _ + 5, S => fp_ei (ff_ps fu 4) 161 (ff_ps fu 4 S)
def fp_end1 (S : mm_S) (l : Int32) : mm_S := wr_ S 44 l (fd_ S 51)
def fp_end (S : mm_S) (l : Int32) : mm_S := wr_ (fp_end1 S l) 42 (fd_ (fp_end1 S l) 50) (rd_ (fp_end1 S l) 42 (fd_ (fp_end1 S l) 50) + 1)
def fp_l (S : mm_S) : Int32 := 90 * fd_ S 50 + rd_ S 42 (fd_ S 50)
def fp_line1 (S : mm_S) : mm_S := wr_ (ff_ps 64 5 S) 43 (fp_l S) (fd_ S 51)
def fp_mid (S : mm_S) : mm_S := wr_ (fp_adv (fp_line1 S)) 43 (fp_l S) (fd_ (fp_adv (fp_line1 S)) 51)
def ff_readLine (S : mm_S) : mm_S :=
  if 0 ≤ fd_ (fp_line1 S) 48 then fp_end (fp_line1 S) (fp_l S) else if fp_look (fp_line1 S) = 63 then fp_end (ff_ps 64 5 (fp_mid S)) (fp_l S) else fp_end (fp_line1 S) (fp_l S)
def ff_isWhat (w : Int32) : Int32 := if ff_in w 0 12 = 0 then 0 else if 2 < jr_ w 10 then 0 else 1
def ft_fin2 (S : mm_S) (w f : Int32) : Int32 × mm_S :=
  if fd_ S 48 < 0 then (fd_ S 38 + 1 - 1, fw_ (wr_ (wr_ (wr_ S 39 (fd_ S 38) w) 40 (fd_ S 38) (fd_ S 1)) 41 (fd_ S 38) f) 38 (fd_ S 38 + 1)) else (-100 - fd_ S 48, S)
def ft_fin (S : mm_S) (w f : Int32) : Int32 × mm_S :=
  if 0 ≤ fd_ S 48 then ft_fin2 (fw_ S 37 0) w f else if fd_ S 37 ≤ fd_ S 47 then ft_fin2 (fw_ S 37 0) w f else ft_fin2 (fw_ (fp_fault S) 37 0) w f
def ft_go : Nat → mm_S → Int32 → Int32 → Int32 × mm_S
  | 0, S, _, _ => (0, S)
  | fu + 1, S, w, f => if 0 ≤ fd_ S 48 then ft_fin S w f else if fp_look S = 59 then ft_go fu (ff_readLine (fp_adv S)) w f else ft_fin S w f
def ft_start (S : mm_S) : mm_S := fw_ (fw_ (fw_ (fw_ (wr_ (fw_ S 50 (fd_ S 38)) 42 (fd_ S 38) 0) 51 0) 47 0) 48 (-1)) 49 0
def ff_text (S : mm_S) (w f : Int32) : Int32 × mm_S :=
  if ff_isWhat w = 0 then (-1, S) else if ff_in f (fd_ S 1) 1699 = 0 then (-1, S) else if fd_ S 38 = 16 then (-3, S) else ft_go 162 (ff_readLine (ft_start S)) w f
/-! laws of them -/
theorem lc_lt {x y : Int64} : lg_cmp x y < 0 ↔ x.toInt < y.toInt := by
  have h := lg_cmp_ge x y
  rw [Int64.le_iff_toInt_le] at h
  constructor
  · intro q
    rcases Int.lt_or_le x.toInt y.toInt with z | z
    · exact z
    · exact absurd q (ww_nlt' (ww_le (h.mpr z)))
  · intro q
    apply Classical.byContradiction
    intro z
    have := h.mp (ww_le' (by have := ww_nlt z; exact this))
    omega
/-- the shelves' rows -/
def iv_Z (S : mm_S) : Prop := ∀ s : Int32, 0 ≤ s.toInt → s.toInt < 6 → 0 ≤ (rd_ S 90 s).toInt ∧ (rd_ S 90 s).toInt ≤ 60
theorem ff_isShelf_t {s : Int32} (h : ¬ ff_isShelf s = 0) : 0 ≤ s.toInt ∧ s.toInt < 6 := by
  have t := ff_in_t h
  have e0 : (0 : Int32).toInt = 0 := by decide
  have e5 : (5 : Int32).toInt = 5 := by decide
  omega
theorem ix_60t {s k : Int32} (h0 : 0 ≤ s.toInt) (h1 : s.toInt < 6) (y0 : 0 ≤ k.toInt) (y1 : k.toInt < 60) : (60 * s + k).toInt = 60 * s.toInt + k.toInt := by
  have e60 : (60 : Int32).toInt = 60 := by decide
  have e : (60 * s).toInt = 60 * s.toInt := by rw [ww_mul, e60] <;> rw [e60] <;> omega
  rw [ww_add, e] <;> rw [e] <;> omega
theorem ix_60 {s k : Int32} (h0 : 0 ≤ s.toInt) (h1 : s.toInt < 6) (y0 : 0 ≤ k.toInt) (y1 : k.toInt < 60) : vp_in (60 * s + k) 360 := by
  have := ix_60t h0 h1 y0 y1
  exact ww_in (by omega) (by omega)
theorem ix_l {x : Int64} (h0 : 0 ≤ x.toInt) (h1 : x.toInt < 60) : (x.toInt32).toInt = x.toInt := by
  rw [Int64.toInt_toInt32]
  exact ww_bm (by omega) (by omega)
theorem ix_i2l (x : Int32) : x.toInt64.toInt = x.toInt := Int32.toInt_toInt64 x
/-- a reader's state -/
def iv_P (S : mm_S) : Prop := 0 ≤ (fd_ S 47).toInt ∧ (fd_ S 47).toInt ≤ (fd_ S 37).toInt ∧ (fd_ S 37).toInt ≤ 160 ∧ 0 ≤ (fd_ S 51).toInt ∧ (fd_ S 51).toInt ≤ (fd_ S 47).toInt ∧ 0 ≤ (fd_ S 50).toInt ∧ (fd_ S 50).toInt ≤ 15
/-- from one reader's state to a later one: k places are left over, the depth has grown by j -/
def fp_R (k j : Int) (S T : mm_S) : Prop := fd_ T 37 = fd_ S 37 ∧ fd_ T 50 = fd_ S 50 ∧ (fd_ S 47).toInt ≤ (fd_ T 47).toInt ∧ (fd_ T 47).toInt ≤ (fd_ S 37).toInt ∧ (fd_ S 51).toInt ≤ (fd_ T 51).toInt ∧ (fd_ T 51).toInt + k ≤ (fd_ S 51).toInt + ((fd_ T 47).toInt - (fd_ S 47).toInt) ∧ ((fd_ T 48).toInt < 0 → (fd_ S 48).toInt < 0 ∧ (fd_ T 49).toInt = (fd_ S 49).toInt + j)
theorem fp_R.iv {k j : Int} {S T : mm_S} (h : fp_R k j S T) (hk : 0 ≤ k) (hP : iv_P S) : iv_P T := by
  obtain ⟨a, b, c, d, e, f, g⟩ := h
  obtain ⟨p1, p2, p3, p4, p5, p6, p7⟩ := hP
  refine ⟨by omega, by rw [a]; exact d, by rw [a]; exact p3, by omega, by omega, by rw [b]; exact p6, by rw [b]; exact p7⟩
theorem fp_R.trans {k1 j1 k2 j2 : Int} {S T U : mm_S} (h1 : fp_R k1 j1 S T) (h2 : fp_R k2 j2 T U) : fp_R (k1 + k2) (j1 + j2) S U := by
  obtain ⟨a, b, c, d, e, f, g⟩ := h1
  obtain ⟨a2, b2, c2, d2, e2, f2, g2⟩ := h2
  refine ⟨a2.trans a, b2.trans b, by omega, by rw [← a]; exact d2, by omega, by omega, fun h => ?_⟩
  obtain ⟨x, y⟩ := g2 h
  obtain ⟨z, w⟩ := g x
  exact ⟨z, by omega⟩
theorem fp_R.rf {S : mm_S} (hP : iv_P S) (hF : (fd_ S 48).toInt < 0) : fp_R 0 0 S S := ⟨rfl, rfl, Int.le_refl _, hP.2.1, Int.le_refl _, by omega, fun _ => ⟨hF, by omega⟩⟩
theorem fp_R.less {k k2 j : Int} {S T : mm_S} (h : fp_R k j S T) (hk : k2 ≤ k) : fp_R k2 j S T := by
  obtain ⟨a, b, c, d, e, f, g⟩ := h
  exact ⟨a, b, c, d, e, by omega, g⟩
theorem fp_R.faulty {k j j2 : Int} {S T : mm_S} (h : fp_R k j S T) (hf : ¬ (fd_ T 48).toInt < 0) : fp_R k j2 S T := by
  obtain ⟨a, b, c, d, e, f, g⟩ := h
  exact ⟨a, b, c, d, e, f, fun q => absurd q hf⟩
theorem fp_look_lt {S : mm_S} (h : ¬ fp_look S = -1) : (fd_ S 47).toInt < (fd_ S 37).toInt := by
  unfold fp_look at h
  split at h
  · exact absurd rfl h
  · rename_i q
    exact ww_nle q
theorem fp_adv_R {S : mm_S} (hP : iv_P S) (hF : (fd_ S 48).toInt < 0) (h : (fd_ S 47).toInt < (fd_ S 37).toInt) : fp_R 1 0 S (fp_adv S) := by
  have e : (fd_ S 47 + 1).toInt = (fd_ S 47).toInt + 1 := ww_inc h
  unfold fp_adv
  refine ⟨fd_fn (by decide), fd_fn (by decide), ?_, ?_, ?_, ?_, fun _ => ⟨hF, ?_⟩⟩
  · rw [fd_fw, e]; omega
  · rw [fd_fw, e]; omega
  · rw [fd_fn (by decide)]; exact Int.le_refl _
  · rw [fd_fw, e, fd_fn (by decide)]; omega
  · rw [fd_fn (by decide)]; omega
theorem fp_lay_fd {S : mm_S} {a b : Int32} {k : Nat} (h1 : k ≠ 45) (h2 : k ≠ 46) (h3 : k ≠ 51) : fd_ (fp_lay S a b) k = fd_ S k := by
  unfold fp_lay
  rw [fd_fn h3, fd_wn h2, fd_wn h1]
theorem fp_lay_51 (S : mm_S) (a b : Int32) : fd_ (fp_lay S a b) 51 = fd_ S 51 + 1 := fd_fw _ _ _
theorem fp_lay_R {k j : Int} {S T : mm_S} (h : fp_R k j S T) (hP : iv_P S) (hk : 0 ≤ k) (a b : Int32) : fp_R (k - 1) j S (fp_lay T a b) := by
  have hT := h.iv hk hP
  obtain ⟨x1, x2, x3, x4, x5, x6, x7⟩ := h
  obtain ⟨p1, p2, p3, p4, p5, p6, p7⟩ := hT
  have e : (fd_ T 51 + 1).toInt = (fd_ T 51).toInt + 1 := ww_inc' (by omega)
  refine ⟨by rw [fp_lay_fd (by decide) (by decide) (by decide)]; exact x1, by rw [fp_lay_fd (by decide) (by decide) (by decide)]; exact x2, by rw [fp_lay_fd (by decide) (by decide) (by decide)]; exact x3, by rw [fp_lay_fd (by decide) (by decide) (by decide)]; exact x4, ?_, ?_, ?_⟩
  · rw [fp_lay_51, e]; omega
  · rw [fp_lay_51, e, fp_lay_fd (by decide) (by decide) (by decide)]; omega
  · rw [fp_lay_fd (by decide) (by decide) (by decide), fp_lay_fd (by decide) (by decide) (by decide)]; exact x7
theorem fp_fault_fd {S : mm_S} {k : Nat} (h : k ≠ 48) : fd_ (fp_fault S) k = fd_ S k := by
  unfold fp_fault
  split
  · rfl
  · exact fd_fn h
theorem fp_fault_48 {S : mm_S} (hP : 0 ≤ (fd_ S 47).toInt) : ¬ (fd_ (fp_fault S) 48).toInt < 0 := by
  unfold fp_fault
  split
  · rename_i h
    have := ww_le h
    have e0 : (0 : Int32).toInt = 0 := by decide
    omega
  · rw [fd_fw]; omega
theorem fp_fault_R {k j j2 : Int} {S T : mm_S} (h : fp_R k j S T) (hk : 0 ≤ k) (hP : iv_P S) : fp_R k j2 S (fp_fault T) := by
  have hT := h.iv hk hP
  obtain ⟨x1, x2, x3, x4, x5, x6, x7⟩ := h
  refine ⟨by rw [fp_fault_fd (by decide)]; exact x1, by rw [fp_fault_fd (by decide)]; exact x2, by rw [fp_fault_fd (by decide)]; exact x3, by rw [fp_fault_fd (by decide)]; exact x4, by rw [fp_fault_fd (by decide)]; exact x5, by rw [fp_fault_fd (by decide), fp_fault_fd (by decide)]; exact x6, fun q => absurd q (fp_fault_48 hT.1)⟩
theorem fp_open_R {j d : Int} {S T : mm_S} {v : Int32} {k : Int} (h : fp_R k j S T) (hv : (fd_ T 48).toInt < 0 → v.toInt = (fd_ T 49).toInt + d) : fp_R k (j + d) S (fw_ T 49 v) := by
  obtain ⟨x1, x2, x3, x4, x5, x6, x7⟩ := h
  refine ⟨by rw [fd_fn (by decide)]; exact x1, by rw [fd_fn (by decide)]; exact x2, by rw [fd_fn (by decide)]; exact x3, by rw [fd_fn (by decide)]; exact x4, by rw [fd_fn (by decide)]; exact x5, by rw [fd_fn (by decide), fd_fn (by decide)]; exact x6, ?_⟩
  rw [fd_fn (by decide), fd_fw]
  intro q
  obtain ⟨z, w⟩ := x7 q
  exact ⟨z, by rw [hv q]; omega⟩
/-- what a level's reading keeps -/
def iv_Q (S : mm_S) : Prop := iv_P S ∧ 0 ≤ (fd_ S 49).toInt ∧ (fd_ S 49).toInt ≤ 8 ∧ (fd_ S 48).toInt < 0
def fp_ok (f : mm_S → mm_S) : Prop := ∀ S : mm_S, iv_Q S → fp_R 0 0 S (f S)
theorem fp_R.ivQ {k : Int} {S T : mm_S} (h : fp_R k 0 S T) (hk : 0 ≤ k) (hQ : iv_Q S) (hF : (fd_ T 48).toInt < 0) : iv_Q T := by
  obtain ⟨q1, q2, q3, q4⟩ := hQ
  obtain ⟨z, w⟩ := h.2.2.2.2.2.2 hF
  exact ⟨h.iv hk q1, by omega, by omega, hF⟩
theorem fp_adv_48 (S : mm_S) : fd_ (fp_adv S) 48 = fd_ S 48 := fd_fn (by decide)
theorem fp_adv_49 (S : mm_S) : fd_ (fp_adv S) 49 = fd_ S 49 := fd_fn (by decide)
theorem fp_op_R {f : mm_S → mm_S} (hf : fp_ok f) {S : mm_S} (hQ : iv_Q S) (hl : (fd_ S 47).toInt < (fd_ S 37).toInt) (a b : Int32) : fp_R 0 0 S (fp_lay (f (fp_adv S)) a b) := by
  have r1 := fp_adv_R hQ.1 hQ.2.2.2 hl
  have q1 := r1.ivQ (by omega) hQ (by rw [fp_adv_48]; exact hQ.2.2.2)
  have r2 := r1.trans (hf _ q1)
  have r3 := fp_lay_R r2 hQ.1 (by omega) a b
  simpa using r3
theorem fp_pr_R {f : mm_S → mm_S} (hf : fp_ok f) (n : Nat) : ∀ (S0 S : mm_S), iv_Q S0 → fp_R 0 0 S0 S → fp_R 0 0 S0 (fp_pr f n S) := by
  induction n with
  | zero => intro S0 S _ hR; exact hR
  | succ n ih =>
    intro S0 S hQ hR
    unfold fp_pr
    split
    · exact hR
    · rename_i h1
      have hF : (fd_ S 48).toInt < 0 := ww_nle h1
      have hQS := hR.ivQ (by omega) hQ hF
      have go : ¬ fp_look S = -1 → fp_R 0 0 S0 (fp_pr f n (fp_step f S)) := fun q => ih _ _ hQ (by show fp_R 0 0 S0 (fp_lay (f (fp_adv S)) (fp_look S) 0); have := hR.trans (fp_op_R hf hQS (fp_look_lt q) (fp_look S) 0); simpa using this)
      split
      · rename_i q; exact go (by rw [q]; decide)
      · split
        · rename_i q; exact go (by rw [q]; decide)
        · split
          · rename_i q; exact go (by rw [q]; decide)
          · exact hR
theorem fp_su_R {f : mm_S → mm_S} (hf : fp_ok f) (n : Nat) : ∀ (S0 S : mm_S), iv_Q S0 → fp_R 0 0 S0 S → fp_R 0 0 S0 (fp_su f n S) := by
  induction n with
  | zero => intro S0 S _ hR; exact hR
  | succ n ih =>
    intro S0 S hQ hR
    unfold fp_su
    split
    · exact hR
    · rename_i h1
      have hF : (fd_ S 48).toInt < 0 := ww_nle h1
      have hQS := hR.ivQ (by omega) hQ hF
      have go : ¬ fp_look S = -1 → fp_R 0 0 S0 (fp_su f n (fp_step f S)) := fun q => ih _ _ hQ (by show fp_R 0 0 S0 (fp_lay (f (fp_adv S)) (fp_look S) 0); have := hR.trans (fp_op_R hf hQS (fp_look_lt q) (fp_look S) 0); simpa using this)
      split
      · rename_i q; exact go (by rw [q]; decide)
      · split
        · rename_i q; exact go (by rw [q]; decide)
        · exact hR
theorem fp_al_R {f : mm_S → mm_S} (hf : fp_ok f) (n : Nat) : ∀ (S0 S : mm_S), iv_Q S0 → fp_R 0 0 S0 S → fp_R 0 0 S0 (fp_al f n S) := by
  induction n with
  | zero => intro S0 S _ hR; exact hR
  | succ n ih =>
    intro S0 S hQ hR
    unfold fp_al
    split
    · exact hR
    · rename_i h1
      have hF : (fd_ S 48).toInt < 0 := ww_nle h1
      have hQS := hR.ivQ (by omega) hQ hF
      split
      · rename_i q
        exact ih _ _ hQ (by have := hR.trans (fp_op_R hf hQS (fp_look_lt (by rw [q]; decide)) 38 0); simpa using this)
      · exact hR
theorem fp_ei_R {f : mm_S → mm_S} (hf : fp_ok f) (n : Nat) : ∀ (S0 S : mm_S), iv_Q S0 → fp_R 0 0 S0 S → fp_R 0 0 S0 (fp_ei f n S) := by
  induction n with
  | zero => intro S0 S _ hR; exact hR
  | succ n ih =>
    intro S0 S hQ hR
    unfold fp_ei
    split
    · exact hR
    · rename_i h1
      have hF : (fd_ S 48).toInt < 0 := ww_nle h1
      have hQS := hR.ivQ (by omega) hQ hF
      split
      · rename_i q
        exact ih _ _ hQ (by have := hR.trans (fp_op_R hf hQS (fp_look_lt (by rw [q]; decide)) 124 0); simpa using this)
      · exact hR
theorem fp_co_R {f : mm_S → mm_S} (hf : fp_ok f) (S0 S : mm_S) (hQ : iv_Q S0) (hR : fp_R 0 0 S0 S) : fp_R 0 0 S0 (fp_co f S) := by
  unfold fp_co
  split
  · exact hR
  · rename_i h1
    have hF : (fd_ S 48).toInt < 0 := ww_nle h1
    have hQS := hR.ivQ (by omega) hQ hF
    have go : ¬ fp_look S = -1 → fp_R 0 0 S0 (fp_step f S) := fun q => by show fp_R 0 0 S0 (fp_lay (f (fp_adv S)) (fp_look S) 0); have := hR.trans (fp_op_R hf hQS (fp_look_lt q) (fp_look S) 0); simpa using this
    split
    · rename_i q; exact go (by rw [q]; decide)
    · split
      · rename_i q; exact go (by rw [q]; decide)
      · split
        · rename_i q; exact go (by rw [q]; decide)
        · exact hR
theorem fp_opens_R {S : mm_S} (hP : iv_P S) (hF : (fd_ S 48).toInt < 0) (h8 : (fd_ S 49).toInt ≤ 8) (h0 : 0 ≤ (fd_ S 49).toInt) (hl : (fd_ S 47).toInt < (fd_ S 37).toInt) : ((fp_opens S).1 = 0 → fp_R 0 0 S (fp_opens S).2) ∧ (¬ (fp_opens S).1 = 0 → fp_R 1 1 S (fp_opens S).2 ∧ (fd_ (fp_opens S).2 48).toInt < 0) := by
  unfold fp_opens
  split
  · exact ⟨fun _ => fp_fault_R (fp_R.rf hP hF) (by omega) hP, fun q => absurd rfl q⟩
  · rename_i h
    refine ⟨fun q => absurd q (show ¬ (1 : Int32) = 0 by decide), fun _ => ?_⟩
    have e : (fd_ S 49 + 1).toInt = (fd_ S 49).toInt + 1 := ww_inc' (by omega)
    have a := fp_open_R (fp_R.rf hP hF) (v := fd_ S 49 + 1) (d := 1) (fun _ => e)
    have ft : fd_ (fw_ S 49 (fd_ S 49 + 1)) 48 = fd_ S 48 := fd_fn (by decide)
    have b := fp_adv_R (a.iv (by omega) hP) (by rw [ft]; exact hF) (by rw [fd_fn (by decide), fd_fn (by decide)]; exact hl)
    have c := a.trans b
    have ft2 : fd_ (fp_adv (fw_ S 49 (fd_ S 49 + 1))) 48 = fd_ S 48 := by unfold fp_adv; rw [fd_fn (by decide), ft]
    exact ⟨by simpa using c, by show (fd_ (fp_adv (fw_ S 49 (fd_ S 49 + 1))) 48).toInt < 0; rw [ft2]; exact hF⟩
theorem fp_dig_R (n0 : Nat) : ∀ (S : mm_S) (n v : Int32) (S0 : mm_S) (k : Int), iv_P S0 → fp_R k 0 S0 S → (fd_ S 48).toInt < 0 → (n = 0 → k = 0) → (¬ n = 0 → k = 1) → 0 ≤ n.toInt → n.toInt ≤ 5 → fp_R 0 0 S0 (fp_dig n0 S n v) := by
  have fin : ∀ (S : mm_S) (n v : Int32) (S0 : mm_S) (k : Int), iv_P S0 → fp_R k 0 S0 S → (n = 0 → k = 0) → (¬ n = 0 → k = 1) → fp_R 0 0 S0 (fp_fin S n v) := by
    intro S n v S0 k hP hR h0 h1
    unfold fp_fin
    split
    · rename_i q
      have := h0 q
      subst this
      exact fp_fault_R hR (by omega) hP
    · rename_i q
      have := h1 q
      subst this
      split
      · have := fp_lay_R hR hP (by omega) 1 v
        simpa using this
      · exact (fp_fault_R hR (by omega) hP).less (by omega)
  induction n0 with
  | zero =>
    intro S n v S0 k hP hR hF h0 h1 _ _
    refine hR.less ?_
    rcases Classical.em (n = 0) with q | q
    · have := h0 q; omega
    · have := h1 q; omega
  | succ n0 ih =>
    intro S n v S0 k hP hR hF h0 h1 hn hn5
    unfold fp_dig
    split
    · exact fin S n v S0 k hP hR h0 h1
    · rename_i q5
      split
      · exact fin S n v S0 k hP hR h0 h1
      · rename_i q
        have hk : 0 ≤ k := by
          rcases Classical.em (n = 0) with z | z
          · have := h0 z; omega
          · have := h1 z; omega
        have hl := fp_look_lt (S := S) (fun z => q (by rw [z]; decide))
        have a := hR.trans (fp_adv_R (hR.iv hk hP) hF hl)
        have t5 : n.toInt < 5 := ww_nle q5
        have en : (n + 1).toInt = n.toInt + 1 := ww_inc' (by omega)
        have e0 : (0 : Int32).toInt = 0 := by decide
        have nz : ¬ n + 1 = 0 := ww_ne' (by omega)
        exact ih (fp_adv S) (n + 1) _ S0 1 hP (a.less (by omega)) (by unfold fp_adv; rw [fd_fn (by decide)]; exact hF) (fun z => absurd z nz) (fun _ => rfl) (by omega) (by omega)
theorem ff_nameOf_m1 : ff_nameOf (-1) < 0 := by decide
theorem fp_turn_R {f : mm_S → mm_S} (hf : fp_ok f) {S : mm_S} (hQ : iv_Q S) (hl : (fd_ S 47).toInt < (fd_ S 37).toInt) (b : Int32) : fp_R 0 0 S (fp_turn f S b) := by
  have o := fp_opens_R hQ.1 hQ.2.2.2 hQ.2.2.1 hQ.2.1 hl
  unfold fp_turn
  split
  · rename_i h; exact o.1 h
  · rename_i h
    have ⟨o1, o2⟩ := o.2 h
    have hne : ¬ fd_ S 49 = 8 := fun q => h (by unfold fp_opens; rw [if_pos q])
    have h8 := ww_ne hne
    have e8 : (8 : Int32).toInt = 8 := by decide
    have w := (o1.2.2.2.2.2.2 o2).2
    have q1 : iv_Q (fp_opens S).2 := ⟨o1.iv (by omega) hQ.1, by have := hQ.2.1; omega, by have := hQ.2.2.1; omega, o2⟩
    have r2 := o1.trans (hf _ q1)
    have e1 : (1 : Int32).toInt = 1 := by decide
    have r3 := fp_open_R r2 (v := fd_ (f (fp_opens S).2) 49 - 1) (d := -1) (fun q => by
      have z := (r2.2.2.2.2.2.2 q).2
      have := hQ.2.1
      have := hQ.2.2.1
      have y := ww_sub (fd_ (f (fp_opens S).2) 49) 1 (by rw [e1]; omega) (by rw [e1]; omega)
      rw [e1] at y
      omega)
    have r4 := fp_lay_R r3 hQ.1 (by omega) (if b = 33 then 3 else 4) 0
    simpa using r4
theorem fp_paren_R {g : mm_S → mm_S} (hg : fp_ok g) {S : mm_S} (hQ : iv_Q S) (hl : (fd_ S 47).toInt < (fd_ S 37).toInt) : fp_R 0 0 S (fp_paren g S) := by
  have o := fp_opens_R hQ.1 hQ.2.2.2 hQ.2.2.1 hQ.2.1 hl
  unfold fp_paren
  split
  · rename_i h; exact o.1 h
  · rename_i h
    have ⟨o1, o2⟩ := o.2 h
    have hne : ¬ fd_ S 49 = 8 := fun q => h (by unfold fp_opens; rw [if_pos q])
    have h8 := ww_ne hne
    have e8 : (8 : Int32).toInt = 8 := by decide
    have w := (o1.2.2.2.2.2.2 o2).2
    have q1 : iv_Q (fp_opens S).2 := ⟨o1.iv (by omega) hQ.1, by have := hQ.2.1; omega, by have := hQ.2.2.1; omega, o2⟩
    have r2 := o1.trans (hg _ q1)
    have e1 : (1 : Int32).toInt = 1 := by decide
    split
    · rename_i hF
      have hF := ww_lt hF
      have e0 : (0 : Int32).toInt = 0 := by decide
      rw [e0] at hF
      split
      · rename_i hc
        have r3 := fp_open_R r2 (v := fd_ (g (fp_opens S).2) 49 - 1) (d := -1) (fun q => by
          have z := (r2.2.2.2.2.2.2 q).2
          have := hQ.2.1
          have := hQ.2.2.1
          have y := ww_sub (fd_ (g (fp_opens S).2) 49) 1 (by rw [e1]; omega) (by rw [e1]; omega)
          rw [e1] at y
          omega)
        have hl2 := fp_look_lt (S := g (fp_opens S).2) (by rw [hc]; decide)
        have r4 := r3.trans (fp_adv_R (r3.iv (by omega) hQ.1) (by rw [fd_fn (by decide)]; exact hF) (by rw [fd_fn (by decide), fd_fn (by decide)]; exact hl2))
        exact (by simpa using r4 : fp_R _ 0 S _).less (by omega)
      · exact (fp_fault_R r2 (by omega) hQ.1).less (by omega)
    · rename_i hF
      exact (r2.faulty (fun q => hF (ww_lt' q))).less (by omega)
theorem fp_one_ok {f g : mm_S → mm_S} (hf : fp_ok f) (hg : fp_ok g) : fp_ok (fp_one f g) := by
  intro S hQ
  unfold fp_one
  split
  · split
    · rename_i q; exact fp_turn_R hf hQ (fp_look_lt (by rw [q]; decide)) _
    · split
      · rename_i q; exact fp_turn_R hf hQ (fp_look_lt (by rw [q]; decide)) _
      · split
        · rename_i q; exact fp_paren_R hg hQ (fp_look_lt (by rw [q]; decide))
        · exact fp_dig_R 6 S 0 0 S 0 hQ.1 (fp_R.rf hQ.1 hQ.2.2.2) hQ.2.2.2 (fun _ => rfl) (fun q => absurd rfl q) (by decide) (by decide)
  · rename_i h
    have hl := fp_look_lt (S := S) (fun q => h (by rw [q]; exact ff_nameOf_m1))
    have r1 := fp_adv_R hQ.1 hQ.2.2.2 hl
    have r2 := fp_lay_R r1 hQ.1 (by omega) 2 (ff_nameOf (fp_look S))
    have e : fp_adv (fp_lay S 2 (ff_nameOf (fp_look S))) = fp_lay (fp_adv S) 2 (ff_nameOf (fp_look S)) := by
      have a1 : fd_ (fp_lay S 2 (ff_nameOf (fp_look S))) 47 = fd_ S 47 := fp_lay_fd (by decide) (by decide) (by decide)
      have a2 : fd_ (fp_adv S) 51 = fd_ S 51 := fd_fn (by decide)
      have a3 : fp_ix (fp_adv S) = fp_ix S := by unfold fp_ix; rw [a2, show fd_ (fp_adv S) 50 = fd_ S 50 from fd_fn (by decide)]
      show fw_ (fp_lay S 2 (ff_nameOf (fp_look S))) 47 (fd_ (fp_lay S 2 (ff_nameOf (fp_look S))) 47 + 1) = fw_ (wr_ (wr_ (fp_adv S) 45 (fp_ix (fp_adv S)) 2) 46 (fp_ix (fp_adv S)) (ff_nameOf (fp_look S))) 51 (fd_ (fp_adv S) 51 + 1)
      rw [a1, a2, a3]
      funext a b
      show (if a = 47 ∧ b = 0 then fd_ S 47 + 1 else if a = 51 ∧ b = 0 then fd_ S 51 + 1 else if a = 46 ∧ b = (fp_ix S).toNatClampNeg then ff_nameOf (fp_look S) else if a = 45 ∧ b = (fp_ix S).toNatClampNeg then 2 else S a b) = (if a = 51 ∧ b = 0 then fd_ S 51 + 1 else if a = 46 ∧ b = (fp_ix S).toNatClampNeg then ff_nameOf (fp_look S) else if a = 45 ∧ b = (fp_ix S).toNatClampNeg then 2 else if a = 47 ∧ b = 0 then fd_ S 47 + 1 else S a b)
      by_cases h47 : a = 47
      · subst h47
        simp
      · simp [h47]
    rw [e]
    simpa using r2
theorem ps_ok (fu : Nat) : ∀ lv : Nat, fp_ok (ff_ps fu lv) := by
  induction fu with
  | zero => intro lv S hQ; exact fp_R.rf hQ.1 hQ.2.2.2
  | succ fu ih =>
    intro lv
    match lv with
    | 0 => exact fp_one_ok (ih 0) (ih 5)
    | 1 => intro S hQ; exact fp_pr_R (ih 0) 161 S _ hQ (ih 0 S hQ)
    | 2 => intro S hQ; exact fp_su_R (ih 1) 161 S _ hQ (ih 1 S hQ)
    | 3 => intro S hQ; exact fp_co_R (ih 2) S _ hQ (ih 2 S hQ)
    | 4 => intro S hQ; exact fp_al_R (ih 3) 161 S _ hQ (ih 3 S hQ)
    | _ + 5 => intro S hQ; exact fp_ei_R (ih 4) 161 S _ hQ (ih 4 S hQ)
/-! a reading without a fault has moved on -/
def fp_pg (f : mm_S → mm_S) : Prop := ∀ S : mm_S, iv_Q S → (fd_ (f S) 48).toInt < 0 → (fd_ S 47).toInt < (fd_ (f S) 47).toInt
theorem fp_dig_pg (n0 : Nat) : ∀ (S : mm_S) (n v : Int32) (S0 : mm_S), iv_P S → (fd_ S 48).toInt < 0 → n.toInt + n0 = 6 → 0 ≤ n.toInt → n.toInt ≤ 5 → (fd_ S0 47).toInt ≤ (fd_ S 47).toInt → (¬ n = 0 → (fd_ S0 47).toInt < (fd_ S 47).toInt) → (fd_ (fp_dig n0 S n v) 48).toInt < 0 → (fd_ S0 47).toInt < (fd_ (fp_dig n0 S n v) 47).toInt := by
  have fin : ∀ (S : mm_S) (n v : Int32) (S0 : mm_S), iv_P S → (¬ n = 0 → (fd_ S0 47).toInt < (fd_ S 47).toInt) → (fd_ (fp_fin S n v) 48).toInt < 0 → (fd_ S0 47).toInt < (fd_ (fp_fin S n v) 47).toInt := by
    intro S n v S0 hP h1 hF
    unfold fp_fin at hF ⊢
    split at hF
    · exact absurd hF (fp_fault_48 hP.1)
    · rename_i q
      rw [if_neg q]
      split at hF
      · rename_i q2
        rw [if_pos q2, fp_lay_fd (by decide) (by decide) (by decide)]
        exact h1 q
      · exact absurd hF (fp_fault_48 hP.1)
  induction n0 with
  | zero => intro S n v S0 _ _ h1 h2 h3; exact absurd h3 (by omega)
  | succ n0 ih =>
    intro S n v S0 hP hF h1 hn hn5 h0 hs hr
    unfold fp_dig at hr ⊢
    split at hr
    · rename_i q; rw [if_pos q]; exact fin S n v S0 hP hs hr
    · rename_i q5
      rw [if_neg q5]
      split at hr
      · rename_i q; rw [if_pos q]; exact fin S n v S0 hP hs hr
      · rename_i q
        rw [if_neg q]
        have hl := fp_look_lt (S := S) (fun z => q (by rw [z]; decide))
        have a := fp_adv_R hP hF hl
        have t5 : n.toInt < 5 := ww_nle q5
        have en : (n + 1).toInt = n.toInt + 1 := ww_inc' (by omega)
        have e47 : (fd_ (fp_adv S) 47).toInt = (fd_ S 47).toInt + 1 := by unfold fp_adv; rw [fd_fw]; exact ww_inc hl
        exact ih (fp_adv S) (n + 1) _ S0 (a.iv (by omega) hP) (by rw [fp_adv_48]; exact hF) (by omega) (by omega) (by omega) (by omega) (fun _ => by omega) hr
theorem fp_one_pg {f g : mm_S → mm_S} (hf : fp_ok f) (hg : fp_ok g) : fp_pg (fp_one f g) := by
  intro S hQ hF
  have op : (fd_ S 47).toInt < (fd_ S 37).toInt → ¬ (fp_opens S).1 = 0 → (fd_ (fp_opens S).2 47).toInt = (fd_ S 47).toInt + 1 := by
    intro hl h
    have hne : ¬ fd_ S 49 = 8 := fun q => h (by unfold fp_opens; rw [if_pos q])
    unfold fp_opens
    rw [if_neg hne]
    show (fd_ (fp_adv (fw_ S 49 (fd_ S 49 + 1))) 47).toInt = _
    unfold fp_adv
    rw [fd_fw, fd_fn (by decide)]
    exact ww_inc hl
  have q1 : (fd_ S 47).toInt < (fd_ S 37).toInt → ¬ (fp_opens S).1 = 0 → iv_Q (fp_opens S).2 := by
    intro hl h
    have o := fp_opens_R hQ.1 hQ.2.2.2 hQ.2.2.1 hQ.2.1 hl
    have ⟨o1, o2⟩ := o.2 h
    have hne : ¬ fd_ S 49 = 8 := fun q => h (by unfold fp_opens; rw [if_pos q])
    have h8 := ww_ne hne
    have e8 : (8 : Int32).toInt = 8 := by decide
    have w := (o1.2.2.2.2.2.2 o2).2
    exact ⟨o1.iv (by omega) hQ.1, by have := hQ.2.1; omega, by have := hQ.2.2.1; omega, o2⟩
  have op0 : (fp_opens S).1 = 0 → ¬ (fd_ (fp_opens S).2 48).toInt < 0 := by
    intro h
    unfold fp_opens at h ⊢
    split
    · exact fp_fault_48 hQ.1.1
    · rename_i q
      rw [if_neg q] at h
      exact absurd h (show ¬ (1 : Int32) = 0 by decide)
  have turn : (fd_ S 47).toInt < (fd_ S 37).toInt → ∀ b : Int32, (fd_ (fp_turn f S b) 48).toInt < 0 → (fd_ S 47).toInt < (fd_ (fp_turn f S b) 47).toInt := by
    intro hl b hF
    unfold fp_turn at hF ⊢
    split at hF
    · rename_i h; exact absurd hF (op0 h)
    · rename_i h
      rw [if_neg h, fp_lay_fd (by decide) (by decide) (by decide), fd_fn (by decide)]
      have := op hl h
      have := (hf _ (q1 hl h)).2.2.1
      omega
  unfold fp_one at hF ⊢
  split at hF
  · rename_i h1
    rw [if_pos h1]
    split at hF
    · rename_i q; rw [if_pos q]; exact turn (fp_look_lt (by rw [q]; decide)) _ hF
    · rename_i n1
      rw [if_neg n1]
      split at hF
      · rename_i q; rw [if_pos q]; exact turn (fp_look_lt (by rw [q]; decide)) _ hF
      · rename_i n2
        rw [if_neg n2]
        split at hF
        · rename_i q
          rw [if_pos q]
          have hl := fp_look_lt (S := S) (by rw [q]; decide)
          unfold fp_paren at hF ⊢
          split at hF
          · rename_i h; exact absurd hF (op0 h)
          · rename_i h
            rw [if_neg h]
            have e := op hl h
            have r := hg _ (q1 hl h)
            split at hF
            · rename_i hG
              rw [if_pos hG]
              split at hF
              · rename_i hc
                rw [if_pos hc]
                unfold fp_adv
                rw [fd_fw, fd_fn (by decide), ww_inc (fp_look_lt (S := g (fp_opens S).2) (by rw [hc]; decide))]
                have := r.2.2.1
                omega
              · exact absurd hF (fp_fault_48 (r.iv (by omega) (q1 hl h).1).1)
            · rename_i hG
              rw [if_neg hG]
              have := r.2.2.1
              omega
        · rename_i n3
          rw [if_neg n3]
          exact fp_dig_pg 6 S 0 0 S hQ.1 hQ.2.2.2 (by decide) (by decide) (by decide) (Int.le_refl _) (fun q => absurd rfl q) hF
  · rename_i h
    rw [if_neg h]
    have hl := fp_look_lt (S := S) (fun q => h (by rw [q]; exact ff_nameOf_m1))
    unfold fp_adv
    rw [fd_fw, fp_lay_fd (by decide) (by decide) (by decide), ww_inc hl]
    omega
theorem fp_R.mono {k j : Int} {S T : mm_S} (h : fp_R k j S T) : (fd_ S 47).toInt ≤ (fd_ T 47).toInt := h.2.2.1
theorem fp_R.back {k j : Int} {S T : mm_S} (h : fp_R k j S T) (q : (fd_ T 48).toInt < 0) : (fd_ S 48).toInt < 0 := (h.2.2.2.2.2.2 q).1
theorem ps_pg (fu : Nat) : ∀ lv : Nat, lv ≤ 5 → lv + 1 ≤ fu → fp_pg (ff_ps fu lv) := by
  induction fu with
  | zero => intro lv _ h; exact absurd h (by omega)
  | succ fu ih =>
    intro lv h5 hfu
    have ok := ps_ok fu
    match lv, h5, hfu with
    | 0, _, _ => exact fp_one_pg (ok 0) (ok 5)
    | 1, _, hfu =>
      intro S hQ hF
      by_cases q : (fd_ (ff_ps fu 0 S) 48).toInt < 0
      · have a := ih 0 (by omega) (by omega) S hQ q
        have b := (fp_pr_R (ok 0) 161 _ _ ((ok 0 S hQ).ivQ (by omega) hQ q) (fp_R.rf ((ok 0 S hQ).iv (by omega) hQ.1) q)).mono
        exact Int.lt_of_lt_of_le a b
      · exact absurd hF (by
          show ¬ (fd_ (fp_pr (ff_ps fu 0) 161 (ff_ps fu 0 S)) 48).toInt < 0
          unfold fp_pr
          rw [if_pos (ww_le' (by have e0 : (0 : Int32).toInt = 0 := by decide
                                 omega))]
          exact q)
    | 2, _, hfu =>
      intro S hQ hF
      by_cases q : (fd_ (ff_ps fu 1 S) 48).toInt < 0
      · have a := ih 1 (by omega) (by omega) S hQ q
        have b := (fp_su_R (ok 1) 161 _ _ ((ok 1 S hQ).ivQ (by omega) hQ q) (fp_R.rf ((ok 1 S hQ).iv (by omega) hQ.1) q)).mono
        exact Int.lt_of_lt_of_le a b
      · exact absurd hF (by
          show ¬ (fd_ (fp_su (ff_ps fu 1) 161 (ff_ps fu 1 S)) 48).toInt < 0
          unfold fp_su
          rw [if_pos (ww_le' (by have e0 : (0 : Int32).toInt = 0 := by decide
                                 omega))]
          exact q)
    | 3, _, hfu =>
      intro S hQ hF
      by_cases q : (fd_ (ff_ps fu 2 S) 48).toInt < 0
      · have a := ih 2 (by omega) (by omega) S hQ q
        have b := (fp_co_R (ok 2) _ _ ((ok 2 S hQ).ivQ (by omega) hQ q) (fp_R.rf ((ok 2 S hQ).iv (by omega) hQ.1) q)).mono
        exact Int.lt_of_lt_of_le a b
      · exact absurd hF (by
          show ¬ (fd_ (fp_co (ff_ps fu 2) (ff_ps fu 2 S)) 48).toInt < 0
          unfold fp_co
          rw [if_pos (ww_le' (by have e0 : (0 : Int32).toInt = 0 := by decide
                                 omega))]
          exact q)
    | 4, _, hfu =>
      intro S hQ hF
      by_cases q : (fd_ (ff_ps fu 3 S) 48).toInt < 0
      · have a := ih 3 (by omega) (by omega) S hQ q
        have b := (fp_al_R (ok 3) 161 _ _ ((ok 3 S hQ).ivQ (by omega) hQ q) (fp_R.rf ((ok 3 S hQ).iv (by omega) hQ.1) q)).mono
        exact Int.lt_of_lt_of_le a b
      · exact absurd hF (by
          show ¬ (fd_ (fp_al (ff_ps fu 3) 161 (ff_ps fu 3 S)) 48).toInt < 0
          unfold fp_al
          rw [if_pos (ww_le' (by have e0 : (0 : Int32).toInt = 0 := by decide
                                 omega))]
          exact q)
    | 5, _, hfu =>
      intro S hQ hF
      by_cases q : (fd_ (ff_ps fu 4 S) 48).toInt < 0
      · have a := ih 4 (by omega) (by omega) S hQ q
        have b := (fp_ei_R (ok 4) 161 _ _ ((ok 4 S hQ).ivQ (by omega) hQ q) (fp_R.rf ((ok 4 S hQ).iv (by omega) hQ.1) q)).mono
        exact Int.lt_of_lt_of_le a b
      · exact absurd hF (by
          show ¬ (fd_ (fp_ei (ff_ps fu 4) 161 (ff_ps fu 4 S)) 48).toInt < 0
          unfold fp_ei
          rw [if_pos (ww_le' (by have e0 : (0 : Int32).toInt = 0 := by decide
                                 omega))]
          exact q)
theorem wm_rmR {d D L : Nat} (h : d + 1 ≤ D) (hL : L ≤ 41) : d + 1 ≤ (wm_rm D).frames ∧ 8 + (L + 11) + 60 * d ≤ (wm_rm D).locals := ⟨h, by show _ ≤ 60 * D; omega⟩
theorem ix_170 {S : mm_S} (hP : iv_P S) : vp_in (fp_ix S) 2890 := by
  obtain ⟨p1, p2, p3, p4, p5, p6, p7⟩ := hP
  have e170 : (170 : Int32).toInt = 170 := by decide
  have e : (170 * fd_ S 50).toInt = 170 * (fd_ S 50).toInt := by rw [ww_mul, e170] <;> rw [e170] <;> omega
  have e2 : (fp_ix S).toInt = 170 * (fd_ S 50).toInt + (fd_ S 51).toInt := by
    unfold fp_ix
    rw [ww_add, e] <;> rw [e] <;> omega
  exact ww_in (by omega) (by omega)
theorem iv_P_49 {S : mm_S} {v : Int32} (h : iv_P S) : iv_P (fw_ S 49 v) := by
  obtain ⟨p1, p2, p3, p4, p5, p6, p7⟩ := h
  refine ⟨?_, ?_, ?_, ?_, ?_, ?_, ?_⟩ <;> simp only [fd_fn (show (47 : Nat) ≠ 49 by decide), fd_fn (show (37 : Nat) ≠ 49 by decide), fd_fn (show (51 : Nat) ≠ 49 by decide), fd_fn (show (50 : Nat) ≠ 49 by decide)] <;> assumption
theorem fp_opens_Q {S : mm_S} (hQ : iv_Q S) (hl : (fd_ S 47).toInt < (fd_ S 37).toInt) (h : ¬ (fp_opens S).1 = 0) : iv_Q (fp_opens S).2 ∧ (fd_ (fp_opens S).2 49).toInt = (fd_ S 49).toInt + 1 := by
  have o := fp_opens_R hQ.1 hQ.2.2.2 hQ.2.2.1 hQ.2.1 hl
  have ⟨o1, o2⟩ := o.2 h
  have hne : ¬ fd_ S 49 = 8 := fun q => h (by unfold fp_opens; rw [if_pos q])
  have h8 := ww_ne hne
  have e8 : (8 : Int32).toInt = 8 := by decide
  have w := (o1.2.2.2.2.2.2 o2).2
  exact ⟨⟨o1.iv (by omega) hQ.1, by have := hQ.2.1; omega, by have := hQ.2.2.1; omega, o2⟩, w⟩
theorem ix_61p {h y : Int32} (h0 : 0 ≤ h.toInt) (h1 : h.toInt < 120) (y0 : 1 ≤ y.toInt) (y1 : y.toInt ≤ 60) : vp_in (61 * h + y - 1) 7320 := by
  have e1 : (1 : Int32).toInt = 1 := by decide
  have e := ix_61t h0 h1 (by omega) y1
  have e2 := ww_sub (61 * h + y) 1 (by rw [e, e1]; omega) (by rw [e, e1]; omega)
  rw [e, e1] at e2
  exact ww_in (by omega) (by omega)
theorem fp_op_47 {f : mm_S → mm_S} (hf : fp_ok f) {S : mm_S} (hQ : iv_Q S) (hl : (fd_ S 47).toInt < (fd_ S 37).toInt) (a b : Int32) : (fd_ S 47).toInt < (fd_ (fp_lay (f (fp_adv S)) a b) 47).toInt := by
  have r1 := fp_adv_R hQ.1 hQ.2.2.2 hl
  have q1 := r1.ivQ (by omega) hQ (by rw [fp_adv_48]; exact hQ.2.2.2)
  have e : (fd_ (fp_adv S) 47).toInt = (fd_ S 47).toInt + 1 := by unfold fp_adv; rw [fd_fw]; exact ww_inc hl
  rw [fp_lay_fd (by decide) (by decide) (by decide)]
  have := (hf _ q1).mono
  omega
theorem fp_adv_Q {S : mm_S} (hQ : iv_Q S) (hl : (fd_ S 47).toInt < (fd_ S 37).toInt) : iv_Q (fp_adv S) := (fp_adv_R hQ.1 hQ.2.2.2 hl).ivQ (by omega) hQ (by rw [fp_adv_48]; exact hQ.2.2.2)
theorem fp_ok.P {f : mm_S → mm_S} (hf : fp_ok f) {S : mm_S} (hQ : iv_Q S) : iv_P (f S) := (hf S hQ).iv (by omega) hQ.1
