/-! PLAIN LAWS: where a hole can be, maps -/
set_option maxRecDepth 100000
theorem rn_xor4 (x : Int32) : 0 ≤ x ^^^ 4 ↔ 0 ≤ x.toInt := by
  have e : (x ^^^ 4).toInt < 0 ↔ x.toInt < 0 := by
    have m : (x ^^^ 4).toBitVec.msb = x.toBitVec.msb := by
      rw [Int32.toBitVec_xor, BitVec.msb_xor]
      have : (4 : Int32).toBitVec.msb = false := by decide
      rw [this, Bool.xor_false]
    rw [BitVec.msb_eq_toInt, BitVec.msb_eq_toInt] at m
    exact decide_eq_decide.mp m
  constructor
  · intro h
    have := ww_0 h
    omega
  · intro h
    exact ww_le' (by rw [ww_z0]; omega)
theorem rn_fd4 {q : Int32} (h0 : -700000 ≤ q.toInt) (h1 : q.toInt ≤ 700000) : xi_fd q 4 = ff_down4 q := by
  unfold xi_fd ff_down4
  have e4 : (4 : Int32).toInt = 4 := by decide
  have e3 : (3 : Int32).toInt = 3 := by decide
  by_cases c : 0 ≤ q.toInt
  · rw [if_pos ((rn_xor4 q).mpr c), if_neg (ww_nlt' (by rw [ww_z0]; exact c))]
  · rw [if_neg (fun z => c ((rn_xor4 q).mp z)), if_pos (ww_lt' (by rw [ww_z0]; omega))]
    have s : (3 - q).toInt = 3 - q.toInt := by rw [ww_sub _ _ (by omega) (by omega), e3]
    have d : ((3 - q) / 4).toInt = (3 - q).toInt / 4 := by rw [ww_div _ _ (by omega) (by omega), e4]
    have n : (-((3 - q) / 4)).toInt = -((3 - q) / 4).toInt := ww_neg _ (by omega)
    have t : (q / 4).toInt = -((-q.toInt) / 4) := by
      rw [Int32.toInt_div, e4]
      have : q.toInt.tdiv 4 = -((-q.toInt) / 4) := by
        have a : (-q.toInt).tdiv 4 = (-q.toInt) / 4 := Int.tdiv_eq_ediv_of_nonneg (by omega)
        rw [Int.neg_tdiv] at a
        omega
      rw [this, ww_bm (by omega) (by omega)]
    have m : (q / 4 * 4).toInt = (q / 4).toInt * 4 := by rw [ww_mul _ _ (by rw [e4]; omega) (by rw [e4]; omega), e4]
    by_cases z : q / 4 * 4 = q
    · rw [if_pos z]
      have zi : (q / 4 * 4).toInt = q.toInt := by rw [z]
      exact ww_eq (by omega)
    · rw [if_neg z]
      have zi := ww_ne z
      exact ww_eq (by rw [ww_sub1 (by omega)]; omega)
def rs_t (S : mm_S) (h w k : Int32) : Int32 := if rd_ S 15 (61 * h + k) = 0 then (if w = 0 then -8 else 8) else rd_ S 16 (61 * h + k) + (if w = 0 then -(fd_ S 29) else fd_ S 29)
def rs_c (S : mm_S) (h w : Int32) : Nat → Int32
  | 0 => 4 * rd_ S 6 h
  | k + 1 => rs_c S h w k + rs_t S h w (Int32.ofNat (k + 1))
theorem rn_of {k : Nat} (h : k ≤ 1000000) : (Int32.ofNat k).toInt = (k : Int) := nI_toInt (by omega)
theorem rn_suc {k : Nat} (h : k ≤ 900000) : Int32.ofNat k + 1 = Int32.ofNat (k + 1) := ww_eq (by rw [ww_inc' (by rw [rn_of (by omega)]; omega), rn_of (by omega), rn_of (by omega)]; rfl)
section RV2
variable {X S : mm_S}
theorem cb_f {h y w : Int32} (y0 : 0 ≤ y.toInt) (y1 : y.toInt ≤ 60) (fu : Nat) : ∀ k : Nat, k ≤ y.toInt.toNat → y.toInt.toNat - k < fu → ff_cb_go fu S h y w (rs_c S h w k) (Int32.ofNat (k + 1)) = rs_c S h w y.toInt.toNat := by
  induction fu with
  | zero => intro k _ hk; omega
  | succ fu ih =>
    intro k h1 h2
    unfold ff_cb_go
    have e := rn_of (k := k + 1) (by omega)
    by_cases c : y < Int32.ofNat (k + 1)
    · have cl := ww_lt c
      rw [if_pos c, show k = y.toInt.toNat by omega]
    · have cl := ww_nlt c
      rw [if_neg c, rn_suc (by omega)]
      exact ih (k + 1) (by omega) (by omega)
theorem rs_lo (h : RC X S) {b k : Int32} (b0 : 0 ≤ b.toInt) (b1 : b.toInt < 120) (k0 : 0 ≤ k.toInt) (k1 : k.toInt ≤ 60) (q : Int32) : xf_low X b k q = q + rs_t S b 0 k ∧ xf_high X b k q = q + rs_t S b 1 k := by
  unfold xf_low xf_high rs_t
  have i := ix61 b0 b1 k0 k1
  have e71 : ra_ X 71 b k = rd_ S 15 (61 * b + k) := by show X 71 _ = S 15 _; rw [i, h.p71]
  have e70 : ra_ X 70 b k = rd_ S 16 (61 * b + k) := by show X 70 _ = S 16 _; rw [i, h.p70]
  rw [e71, e70, h.f12, Int32.sub_eq_add_neg]
  exact ⟨rfl, rfl⟩
theorem cb_x (h : RC X S) {b y w : Int32} (b0 : 0 ≤ b.toInt) (b1 : b.toInt < 120) (hw : w = 0 ∨ w = 1) (y0 : 0 ≤ y.toInt) (y1 : y.toInt ≤ 60) (fu : Nat) : ∀ k : Nat, k ≤ y.toInt.toNat → y.toInt.toNat - k < fu → xf_cb_go fu X b y w (rs_c S b w k) (Int32.ofNat (k + 1)) = if w = 0 then xf_least (rs_c S b w y.toInt.toNat) else xf_most (rs_c S b w y.toInt.toNat) := by
  induction fu with
  | zero => intro k _ hk; omega
  | succ fu ih =>
    intro k h1 h2
    unfold xf_cb_go
    have e := rn_of (k := k + 1) (by omega)
    by_cases c : y < Int32.ofNat (k + 1)
    · have cl := ww_lt c
      rw [if_pos c, show k = y.toInt.toNat by omega]
    · have cl := ww_nlt c
      rw [if_neg c, rn_suc (by omega), ← ih (k + 1) (by omega) (by omega)]
      have g := rs_lo h b0 b1 (k := Int32.ofNat (k + 1)) (by omega) (by omega) (rs_c S b w k)
      rcases hw with hw | hw
      · rw [hw] at g ⊢; rw [if_pos rfl, g.1]; rfl
      · rw [hw] at g ⊢; rw [if_neg (by decide), g.2]; rfl
theorem rs_tb (h : RC X S) (b w k : Int32) : -10007 ≤ (rs_t S b w k).toInt ∧ (rs_t S b w k).toInt ≤ 10007 := by
  unfold rs_t
  have l := h.ilg (61 * b + k).toNatClampNeg
  have l' : -9999 ≤ (rd_ S 16 (61 * b + k)).toInt ∧ (rd_ S 16 (61 * b + k)).toInt ≤ 9999 := l
  have s : 0 ≤ (fd_ S 29).toInt ∧ (fd_ S 29).toInt ≤ 8 := h.isd
  have e8 : (8 : Int32).toInt = 8 := by decide
  have em : (-8 : Int32).toInt = -8 := by decide
  have n : (-(fd_ S 29)).toInt = -(fd_ S 29).toInt := ww_neg _ (by omega)
  split
  · split <;> omega
  · split
    · rw [ww_add _ _ (by omega) (by omega)]; omega
    · rw [ww_add _ _ (by omega) (by omega)]; omega
theorem rs_cb (h : RC X S) (b w : Int32) : ∀ k : Nat, k ≤ 60 → -10007 * (k : Int) ≤ (rs_c S b w k).toInt ∧ (rs_c S b w k).toInt ≤ 124 + 10007 * (k : Int) := by
  intro k
  induction k with
  | zero =>
    intro _
    have c : 0 ≤ (rd_ S 6 b).toInt ∧ (rd_ S 6 b).toInt ≤ 31 := h.icol _
    have e4 : (4 : Int32).toInt = 4 := by decide
    have m : (4 * rd_ S 6 b).toInt = 4 * (rd_ S 6 b).toInt := by rw [ww_mul _ _ (by rw [e4]; omega) (by rw [e4]; omega), e4]
    show _ ≤ (4 * rd_ S 6 b).toInt ∧ (4 * rd_ S 6 b).toInt ≤ _
    omega
  | succ k ih =>
    intro hk
    have i := ih (by omega)
    have t := rs_tb h b w (Int32.ofNat (k + 1))
    have a : (rs_c S b w k + rs_t S b w (Int32.ofNat (k + 1))).toInt = (rs_c S b w k).toInt + (rs_t S b w (Int32.ofNat (k + 1))).toInt := ww_add _ _ (by omega) (by omega)
    show _ ≤ (rs_c S b w k + rs_t S b w (Int32.ofNat (k + 1))).toInt ∧ (rs_c S b w k + rs_t S b w (Int32.ofNat (k + 1))).toInt ≤ _
    omega
theorem rs_at (h : RC X S) (b : Int32) {y : Int32} (y0 : 0 ≤ y.toInt) (y1 : y.toInt ≤ 60) : ff_canBeAt S b y 0 = xf_least (rs_c S b 0 y.toInt.toNat) ∧ ff_canBeAt S b y 1 = xf_most (rs_c S b 1 y.toInt.toNat) := by
  unfold ff_canBeAt ff_cb xf_least xf_most
  have g0 := cb_f (S := S) (h := b) (w := 0) y0 y1 61 0 (Nat.zero_le _) (by omega)
  have g1 := cb_f (S := S) (h := b) (w := 1) y0 y1 61 0 (Nat.zero_le _) (by omega)
  have g0 : ff_cb_go 61 S b y 0 (4 * rd_ S 6 b) 1 = rs_c S b 0 y.toInt.toNat := g0
  have g1 : ff_cb_go 61 S b y 1 (4 * rd_ S 6 b) 1 = rs_c S b 1 y.toInt.toNat := g1
  rw [g0, g1, if_pos rfl, if_neg (by decide)]
  have b0 := rs_cb h b 0 y.toInt.toNat (by omega)
  have b1 := rs_cb h b 1 y.toInt.toNat (by omega)
  have n1 : (-(rs_c S b 1 y.toInt.toNat)).toInt = -(rs_c S b 1 y.toInt.toNat).toInt := ww_neg _ (by omega)
  rw [rn_fd4 (by omega) (by omega), rn_fd4 (by omega) (by omega)]
  exact ⟨rfl, rfl⟩
theorem rv_canBe (h : RC X S) (b y w : Int32) : xf_canBe X b y w = ff_canBe S b y w := by
  unfold xf_canBe ff_canBe xf_isBored
  rw [h.holeOf]
  by_cases c1 : ff_isHole S b = 0
  · rw [if_pos c1, if_pos c1, if_pos (show (-1 : Int32) < 0 by decide), if_pos rfl]
  obtain ⟨hb, -, -⟩ := rb_hole c1
  rw [if_neg c1, if_neg c1, if_neg (rb_neg h hb), h.r66]
  by_cases c2 : ff_in y 1 (rd_ S 10 b) = 0
  · rw [if_pos c2, if_pos c2, if_pos rfl]
  rw [if_neg c2, if_neg c2, if_neg (by decide)]
  by_cases c3 : ff_in w 0 1 = 0
  · rw [if_pos c3, if_pos c3]
  rw [if_neg c3, if_neg c3]
  have hi := rb_in h hb
  have hy := ff_in_t c2
  have hbo := h.bored hb
  have hw := ff_in_t c3
  have e1 : (1 : Int32).toInt = 1 := by decide
  have e0 : (0 : Int32).toInt = 0 := by decide
  have hw2 : w = 0 ∨ w = 1 := by
    by_cases z : w = 0
    · exact Or.inl z
    · have := ww_ne z; exact Or.inr (ww_eq (by omega))
  have g := cb_x h hi.1 (by omega) hw2 (y := y) (by omega) (by omega) 61 0 (Nat.zero_le _) (by omega)
  have g : xf_cb_go 61 X b y w (4 * rd_ S 6 b) 1 = _ := g
  have a := rs_at h b (y := y) (by omega) (by omega)
  rw [h.r61, g]
  rcases hw2 with z | z
  · rw [z, if_pos rfl, if_neg (show ¬ (0 : Int32) = 1 by decide), a.1]
  · rw [z, if_neg (by decide), if_pos rfl, a.2]
theorem rn_held (v : Int32) : 0 ≤ (ff_held v 0 31).toInt ∧ (ff_held v 0 31).toInt ≤ 31 := by
  have := ff_held_t v (a := 0) (b := 31) (by decide)
  have e0 : (0 : Int32).toInt = 0 := by decide
  have e31 : (31 : Int32).toInt = 31 := by decide
  omega
theorem rv_like (h : RC X S) {m x y t : Int32} (m0 : 0 ≤ m.toInt) (m1 : m.toInt < 8) (x0 : 0 ≤ x.toInt) (x1 : x.toInt < 32) (y0 : 0 ≤ y.toInt) (y1 : y.toInt ≤ 60) : (fu_un S m x y t = 0 ∧ xf_isLike X m x y t = 1) ∨ (fu_un S m x y t = 1 ∧ xf_isLike X m x y t = 0) := by
  have eo : xf_isOld X m x y = ff_isOldBy S m (100 * x + y) := h.old.1 m x y m0 m1 x0 x1 y0 y1
  have es : xf_isOfShelter X m x y = ff_isShelterBy S m x y := by
    unfold xf_isOfShelter ff_isShelterBy
    rw [h.r15, h.r13, h.r14]
    by_cases z : y = rd_ S 33 m
    · rw [if_pos z.symm, if_pos z]
    · rw [if_neg (fun q => z q.symm), if_neg z]
  unfold xf_isLike fu_un
  rw [eo, es]
  rcases ff_isOldBy_b S m (100 * x + y) with p | p <;> rcases ff_isShelterBy_b S m x y with q | q <;> rw [p, q] <;> by_cases t0 : t = 0 <;> by_cases t1 : t = 1 <;> simp [t0, t1]
theorem rv_lk (h : RC X S) {m b y hi : Int32} (m0 : 0 ≤ m.toInt) (m1 : m.toInt < 8) (b0 : 0 ≤ b.toInt) (b1 : b.toInt < 120) (y0 : 0 ≤ y.toInt) (y1 : y.toInt ≤ 60) (hh : xf_most hi = ff_canBeAt S b y 1) (hm : (ff_canBeAt S b y 1).toInt ≤ 31) (fu : Nat) : ∀ z x : Int32, (z = 0 ∨ z = 1) → 0 ≤ x.toInt → xf_lk_go fu X m b y hi z x = if z = 0 then (if ff_isUnlike_go fu S m b y x = 0 then 1 else 0) else 1 := by
  induction fu with
  | zero => intro z x hz _; rcases hz with rfl | rfl <;> rfl
  | succ fu ih =>
    intro z x hz x0
    unfold xf_lk_go ff_isUnlike_go
    rw [hh]
    by_cases c : ff_canBeAt S b y 1 < x
    · rw [if_pos c, if_pos c]
      rcases hz with rfl | rfl <;> rfl
    · have cl := ww_nlt c
      have e65 : ra_ X 65 b y = rd_ S 14 (61 * b + y) := by show X 65 _ = S 14 _; rw [ix61 b0 b1 y0 y1, h.p65]
      have x1 : (x + 1).toInt = x.toInt + 1 := ww_a1 (by omega) x0
      rw [if_neg c, if_neg c, e65]
      rcases rv_like h (t := rd_ S 14 (61 * b + y)) m0 m1 x0 (by omega) y0 y1 with ⟨u, l⟩ | ⟨u, l⟩
      · rw [u, l, if_pos rfl, if_pos rfl, ih _ _ (by rcases hz with rfl | rfl <;> exact Or.inr (by decide)) (by omega)]
        rcases hz with rfl | rfl
        · rw [if_neg (by decide), if_pos rfl]
        · rw [if_neg (by decide), if_neg (by decide)]
      · rw [u, l, if_neg (show ¬ (1 : Int32) = 0 by decide), ih _ _ (by rcases hz with rfl | rfl <;> first | exact Or.inl (by decide) | exact Or.inr (by decide)) (by omega)]
        rcases hz with rfl | rfl <;> rfl
theorem rv_wy (h : RC X S) {m b : Int32} (m0 : 0 ≤ m.toInt) (m1 : m.toInt < 8) (b0 : 0 ≤ b.toInt) (b1 : b.toInt < 120) (bo : 0 ≤ (rd_ S 10 b).toInt ∧ (rd_ S 10 b).toInt ≤ 60) (fu : Nat) : ∀ k : Nat, k ≤ 60 → xf_wy_go fu X m b (rs_c S b 0 k) (rs_c S b 1 k) (Int32.ofNat (k + 1)) = ff_wb_go fu S m b (Int32.ofNat (k + 1)) := by
  induction fu with
  | zero => intro k _; rfl
  | succ fu ih =>
    intro k hk
    unfold xf_wy_go ff_wb_go
    have e := rn_of (k := k + 1) (by omega)
    rw [if_neg (ww_nlt' (by rw [ww_00]; exact b0)), h.r66]
    by_cases c : rd_ S 10 b < Int32.ofNat (k + 1)
    · rw [if_pos c, if_pos c]
    · have cl := ww_nlt c
      rw [if_neg c, if_neg c]
      have gl := (rs_lo h b0 b1 (k := Int32.ofNat (k + 1)) (by omega) (by omega) (rs_c S b 0 k)).1
      have gh := (rs_lo h b0 b1 (k := Int32.ofNat (k + 1)) (by omega) (by omega) (rs_c S b 1 k)).2
      have gl : xf_low X b (Int32.ofNat (k + 1)) (rs_c S b 0 k) = rs_c S b 0 (k + 1) := gl
      have gh : xf_high X b (Int32.ofNat (k + 1)) (rs_c S b 1 k) = rs_c S b 1 (k + 1) := gh
      have a := rs_at h b (y := Int32.ofNat (k + 1)) (by omega) (by omega)
      rw [e, show ((k + 1 : Nat) : Int).toNat = k + 1 from rfl] at a
      have hb := rn_held (-(xi_fd (-(rs_c S b 1 (k + 1))) 4))
      have hb0 := rn_held (xi_fd (rs_c S b 0 (k + 1)) 4)
      have lk := rv_lk h (hi := rs_c S b 1 (k + 1)) m0 m1 b0 b1 (y := Int32.ofNat (k + 1)) (by omega) (by omega) a.2.symm (by rw [a.2]; exact hb.2) 33 0 (xf_least (rs_c S b 0 (k + 1))) (Or.inl rfl) hb0.1
      rw [if_pos rfl] at lk
      rw [gl, gh, lk]
      have eu : ff_isUnlike S m b (Int32.ofNat (k + 1)) = ff_isUnlike_go 33 S m b (Int32.ofNat (k + 1)) (xf_least (rs_c S b 0 (k + 1))) := by unfold ff_isUnlike; rw [a.1]
      rw [eu]
      by_cases z : ff_isUnlike_go 33 S m b (Int32.ofNat (k + 1)) (xf_least (rs_c S b 0 (k + 1))) = 0
      · rw [if_pos z, if_neg (by decide), if_pos z, rn_suc (by omega)]
        exact ih (k + 1) (by omega)
      · rw [if_neg z, if_pos rfl, if_neg z]
theorem rv_wr (h : RC X S) {m : Int32} (m0 : 0 ≤ m.toInt) (m1 : m.toInt < 8) (fu : Nat) : ∀ k : Int32, 0 ≤ k.toInt → xf_wr_go fu X m k = ff_wrongBy_go fu S m k := by
  induction fu with
  | zero => intro k _; rfl
  | succ fu ih =>
    intro k k0
    unfold xf_wr_go ff_wrongBy_go
    rw [h.f4]
    by_cases c : fd_ S 4 ≤ k
    · rw [if_pos c, if_pos c]
    have cl := ww_nle c
    have hB1 : (fd_ S 4).toInt ≤ 120 := h.iB.2
    have k1 : (k + 1).toInt = k.toInt + 1 := ww_a1 (by omega) k0
    rw [if_neg c, if_neg c, h.holeOf]
    by_cases d : ff_isHole S k = 0
    · rw [if_pos d, if_pos d]
      have e : xf_wy X m (-1) = 0 := by
        unfold xf_wy xf_wy_go
        rw [if_pos (by decide)]
      rw [e, if_pos rfl]
      exact ih _ (by omega)
    · obtain ⟨hb, -, -⟩ := rb_hole d
      rw [if_neg d, if_neg d]
      have w := rv_wy h m0 m1 k0 (by omega) (h.bored hb) 61 0 (by decide)
      have w : xf_wy_go 61 X m k (4 * rd_ S 6 k) (4 * rd_ S 6 k) 1 = ff_wb_go 61 S m k 1 := w
      have e : xf_wy X m k = ff_wb_go 61 S m k 1 := by
        unfold xf_wy xf_wc
        rw [if_neg (rb_neg h hb), h.r61]
        exact w
      rw [e, ih _ (by omega)]
theorem rv_wrong (h : RC X S) (m : Int32) : xf_wrong X m = ff_wrong S m := by
  unfold xf_wrong ff_wrong xf_isMap ff_wrongBy
  rw [h.f18]
  by_cases c : ff_in m 0 (fd_ S 30 - 1) = 0
  · rw [if_pos c, if_pos c]
  rw [if_neg c, if_neg c]
  have hM0 : 0 ≤ (fd_ S 30).toInt := h.iM.1
  have hM1 : (fd_ S 30).toInt ≤ 8 := h.iM.2.1
  have q := ff_in_t c
  rw [ww_sub1 (by omega), ww_00] at q
  exact rv_wr h q.1 (by omega) 121 0 (by decide)
theorem rn_mi (a v : Int32) : xi_min a v = if a ≤ v then a else v := by
  unfold xi_min
  by_cases c : v < a
  · rw [if_pos c, if_neg (ww_nle' (ww_lt c))]
  · rw [if_neg c, if_pos (ww_le' (ww_nlt c))]
theorem rn_ma (a v : Int32) : xi_max a v = if v ≤ a then a else v := by
  unfold xi_max
  by_cases c : a < v
  · rw [if_pos c, if_neg (ww_nle' (ww_lt c))]
  · rw [if_neg c, if_pos (ww_le' (ww_nlt c))]
theorem rv_kn (h : RC X S) {w : Int32} (w0 : 0 ≤ w.toInt) (w5 : w.toInt ≤ 5) (fu : Nat) : ∀ a b c d f t y2 m : Int32, 0 ≤ m.toInt → ((b = -1 ∧ d = -1 ∧ y2 = 0) ∨ (0 ≤ b.toInt ∧ d = y2 ∧ 1 ≤ y2.toInt)) → xf_kn_go fu X w a b c d f t m = ff_known_go fu S w a f t b c y2 m := by
  induction fu with
  | zero => intros; rfl
  | succ fu ih =>
    intro a b c d f t y2 m m0 hb
    unfold xf_kn_go ff_known_go
    rw [h.f18]
    have hM1 : (fd_ S 30).toInt ≤ 8 := h.iM.2.1
    have hM0 : 0 ≤ (fd_ S 30).toInt := h.iM.1
    have em1 : (-1 : Int32).toInt = -1 := by decide
    have e0 : (0 : Int32).toInt = 0 := by decide
    by_cases q : fd_ S 30 ≤ m
    · rw [if_pos q, if_pos q]
      unfold xf_kn_ret ff_known_fin xf_kn_fin
      have e3 : (3 : Int32).toInt = 3 := by decide
      rcases hb with ⟨rfl, rfl, rfl⟩ | ⟨b0, rfl, y0⟩
      · rw [if_pos rfl, if_pos rfl]
      · rw [if_neg (show ¬ b = -1 from ww_ne' (by omega)), if_neg (show ¬ d = 0 from ww_ne' (by omega))]
        by_cases c3 : w ≤ 3
        · have l3 := ww_le c3
          rw [if_pos c3]
          by_cases k0 : w = 0
          · rw [if_pos k0, if_pos k0]
          rw [if_neg k0, if_neg k0]
          by_cases k1 : w = 1
          · rw [if_pos k1, if_pos k1]
          rw [if_neg k1, if_neg k1]
          by_cases k2 : w = 2
          · rw [if_pos k2, if_pos k2]
          rw [if_neg k2, if_neg k2]
          have n0 := ww_ne k0; have n1 := ww_ne k1; have n2 := ww_ne k2
          have e1 : (1 : Int32).toInt = 1 := by decide
          have e2 : (2 : Int32).toInt = 2 := by decide
          have k3 : w = 3 := ww_eq (by omega)
          rw [if_pos k3, if_pos k3]
        · have l3 := ww_nle c3
          have e1 : (1 : Int32).toInt = 1 := by decide
          have e2 : (2 : Int32).toInt = 2 := by decide
          have x0 : ¬ w = 0 := ww_ne' (by omega)
          have x1 : ¬ w = 1 := ww_ne' (by omega)
          have x2 : ¬ w = 2 := ww_ne' (by omega)
          have x3 : ¬ w = 3 := ww_ne' (by omega)
          rw [if_neg c3]
          simp only [if_neg x0, if_neg x1, if_neg x2, if_neg x3]
          by_cases u : t < f
          · rw [if_pos u, if_neg (ww_nle' (ww_lt u))]
            split <;> rfl
          · rw [if_neg u, if_pos (ww_le' (ww_nlt u))]
    · have ql := ww_nle q
      have m1 : (m + 1).toInt = m.toInt + 1 := ww_a1 (by omega) m0
      have ew : xf_wrong X m = ff_wrongBy S m := by
        rw [rv_wrong h]
        unfold ff_wrong
        rw [if_neg (fun z => by have z2 := ff_in_f z; rw [ww_sub1 (by omega), ww_00] at z2; omega)]
      rw [if_neg q, if_neg q, ew]
      by_cases z : ff_wrongBy S m = -2
      · rw [if_pos z, if_pos z, h.r13, h.r14, h.r15, rn_mi a, rn_ma b, rn_mi c, rn_ma d, rn_ma f, rn_mi t]
        refine ih _ _ _ _ _ _ _ _ (by omega) (Or.inr ?_)
        have mp := h.imp m m0 ql
        rcases hb with ⟨rfl, rfl, rfl⟩ | ⟨b0, rfl, y0⟩
        · rw [if_neg (ww_nle' (by omega)), if_neg (ww_nle' (by omega)), if_neg (ww_nle' (by omega))]
          exact ⟨mp.2.2.1, rfl, mp.2.2.2.2.1⟩
        · refine ⟨?_, rfl, ?_⟩
          · split
            · exact b0
            · exact mp.2.2.1
          · split
            · exact y0
            · exact mp.2.2.2.2.1
      · rw [if_neg z, if_neg z]
        exact ih _ _ _ _ _ _ _ _ (by omega) hb
theorem rv_known (h : RC X S) (w : Int32) : xf_known X w = ff_known S w := by
  unfold xf_known ff_known
  by_cases c : ff_in w 0 5 = 0
  · rw [if_pos c, if_pos c]
  rw [if_neg c, if_neg c]
  have q := ff_in_t c
  have e5 : (5 : Int32).toInt = 5 := by decide
  exact rv_kn h (by rw [ww_00] at q; exact q.1) (by omega) 9 32 (-1) 61 (-1) (-1) 32 0 0 (by decide) (Or.inl ⟨rfl, rfl, rfl⟩)
end RV2
