/-! PLAIN LAWS: what is only told -/
set_option maxRecDepth 100000
theorem rn_div_neg {a b : Int32} (h : a.toInt ≤ 0) (hb : 0 < b.toInt) : (a / b).toInt ≤ 0 := by
  have e := Int32.toInt_div a b
  have t : a.toInt.tdiv b.toInt ≤ 0 := by
    have := Int.tdiv_nonneg (a := -a.toInt) (b := b.toInt) (by omega) (by omega)
    rw [Int.neg_tdiv] at this
    omega
  have t2 : -2147483648 ≤ a.toInt.tdiv b.toInt := by
    have l := ww_lo a
    have := Int.natAbs_tdiv_le_natAbs a.toInt b.toInt
    omega
  rw [e, ww_bm t2 (by omega)]
  exact t
section RV1
variable {X S : mm_S}
theorem rv_ofCell (h : RC X S) (c w : Int32) : xf_ofCell X c w = ff_ofCell S c w := by
  unfold xf_ofCell ff_ofCell
  rw [h.r2, show rd_ X 1 (ff_placeOf c) = 3 + rd_ S 2 (ff_placeOf c) from h.hard _]
theorem ix61 {b y : Int32} (b0 : 0 ≤ b.toInt) (b1 : b.toInt < 120) (y0 : 0 ≤ y.toInt) (y1 : y.toInt ≤ 60) : (61 * b + y).toNatClampNeg = 61 * b.toNatClampNeg + y.toNatClampNeg := by
  have e61 : (61 : Int32).toInt = 61 := by decide
  have m1 : (61 * b).toInt = 61 * b.toInt := by rw [ww_mul _ _ (by rw [e61]; omega) (by rw [e61]; omega), e61]
  rw [ww_cl, ww_cl, ww_cl, ww_add _ _ (by omega) (by omega), m1]
  omega
theorem rv_ofBody (h : RC X S) (b w : Int32) : xf_ofBody X b w = ff_ofBody S b w := by
  unfold xf_ofBody ff_ofBody
  rw [h.isBody, h.holeOf, h.manOf, h.r60]
  by_cases c1 : ff_isBody S b = 0
  · rw [if_pos c1, if_pos c1]
  rw [if_neg c1, if_neg c1]
  by_cases c2 : w = 0
  · rw [if_pos c2, if_pos c2]
  rw [if_neg c2, if_neg c2]
  have hi := rb_in h c1
  by_cases c3 : ff_isHole S b = 0
  · rw [if_pos c3, if_pos c3, if_pos (by decide)]
    by_cases c4 : rd_ S 5 b = 7
    · have e : ff_isMan S b = 1 := by unfold ff_isMan; rw [if_neg c1, if_pos c4]
      rw [e, if_neg (show ¬ (1 : Int32) = 0 by decide), if_neg (rb_neg h c1), if_neg (show ¬ rd_ S 5 b = 6 by rw [c4]; decide), if_pos c4, h.r77, h.r78, h.r79]
      have u := h.up b.toNatClampNeg
      rw [if_pos (show S 5 b.toNatClampNeg = 7 from c4)] at u
      have u2 : xf_bit (if rd_ X 80 b = 0 then 1 else 0) = if rd_ S 20 b = 0 then 0 else 1 := by
        rw [show rd_ S 20 b = (if rd_ X 80 b = 0 then 1 else 0) from u]
        rfl
      rw [u2]
    · have e : ff_isMan S b = 0 := by unfold ff_isMan; rw [if_neg c1, if_neg c4]
      rw [e, if_pos rfl, if_pos (by decide), if_neg c4, h.f5]
      have sh := h.shel
      by_cases c5 : b = fd_ S 21
      · have g := sh.1 (by have := hi.1; rw [c5] at this; exact this)
        have k6 : rd_ S 5 b = 6 := by rw [c5]; exact g.2.1
        rw [if_pos c5, if_pos k6]
        rw [show rd_ X 73 (fd_ S 21) = fd_ S 22 from g.2.2.1, show rd_ X 74 (fd_ S 21) = fd_ S 23 from g.2.2.2.1, show rd_ X 75 (fd_ S 21) = fd_ S 24 from g.2.2.2.2.1, show rd_ X 76 (fd_ S 21) = fd_ S 25 from g.2.2.2.2.2]
        rfl
      · rw [if_neg c5, if_neg (fun k6 => ?_)]
        have g := sh.2 b.toNatClampNeg k6
        exact c5 (ww_cl0 hi.1 g.1 g.2)
  · rw [if_neg c3, if_neg c3, if_neg (rb_neg h c1)]
    unfold xf_ofHole
    rw [h.r61, h.r62, h.r66, h.r67, h.r68, h.r64, h.thro]
    have e : xf_bit (if rd_ S 12 b = 0 then 0 else 1) = if rd_ S 12 b ≤ 0 then 0 else 1 := by
      by_cases z : rd_ S 12 b = 0
      · rw [if_pos z, if_pos ((h.thz b).mpr z)]; rfl
      · rw [if_neg z, if_neg (fun q => z ((h.thz b).mp q))]; rfl
    rw [e]
theorem RC.bored (h : RC X S) {b : Int32} (c : ¬ ff_isBody S b = 0) : 0 ≤ (rd_ S 10 b).toInt ∧ (rd_ S 10 b).toInt ≤ 60 := by
  have hi := rb_in h c
  have t := h.iT b hi.1 (by omega)
  omega
theorem rv_met (h : RC X S) (b y : Int32) : xf_met X b y = ff_met S b y := by
  unfold xf_met ff_met xf_isBored
  rw [h.holeOf]
  by_cases c1 : ff_isHole S b = 0
  · rw [if_pos c1, if_pos c1, if_pos (show (-1 : Int32) < 0 by decide), if_pos rfl]
  obtain ⟨hb, -, -⟩ := rb_hole c1
  rw [if_neg c1, if_neg c1, if_neg (rb_neg h hb), h.r66]
  by_cases c2 : ff_in y 1 (rd_ S 10 b) = 0
  · rw [if_pos c2, if_pos c2, if_pos rfl]
  rw [if_neg c2, if_neg c2, if_neg (by decide)]
  have hi := rb_in h hb
  have hy := ff_in_t c2
  have hbo := h.bored hb
  have e1 : (1 : Int32).toInt = 1 := by decide
  show X 65 _ = S 14 _
  rw [ix61 hi.1 (by omega) (by omega) (by omega), h.p65]
theorem rv_below (h : RC X S) (w : Int32) : xf_below X w = ff_below S w := by unfold xf_below ff_below; rw [h.f26, h.r36]
theorem rv_trace (h : RC X S) (i : Int32) : xf_trace X i = ff_trace S i := by
  unfold xf_trace ff_trace xi_min
  rw [h.f7, h.r6]
  have t0 : 0 ≤ (fd_ S 87).toInt := h.itr
  have e24 : (24 : Int32).toInt = 24 := by decide
  have e0 : (0 : Int32).toInt = 0 := by decide
  have key : ∀ m : Int32, 0 ≤ m.toInt → (ff_in i 0 (m - 1) = 0 ↔ i.toInt < 0 ∨ m.toInt ≤ i.toInt) := by
    intro m m0
    have em : (m - 1).toInt = m.toInt - 1 := ww_sub1 (by omega)
    constructor
    · intro q
      have := ff_in_f q
      omega
    · intro q
      unfold ff_in
      rcases q with q | q
      · rw [if_pos (ww_lt' (by omega))]
      · by_cases z : i < 0
        · rw [if_pos z]
        · rw [if_neg z, if_pos (ww_lt' (by omega))]
  by_cases a : i < 0
  · rw [if_pos a, if_pos ((key _ (by split <;> omega)).mpr (Or.inl (ww_l0 a)))]
  rw [if_neg a]
  have a0 := ww_nl0 a
  by_cases q : 24 < fd_ S 87
  · rw [if_pos q]
    have ql := ww_lt q
    by_cases r : 24 ≤ i
    · have rl := ww_le r
      rw [if_pos ((key 24 (by omega)).mpr (Or.inr (by omega)))]
      split <;> first | rfl | rw [if_pos r]
    · have rl := ww_nle r
      rw [if_neg (fun z => by have := (key 24 (by omega)).mp z; omega), if_neg (ww_nle' (by omega)), if_neg r]
  · rw [if_neg q]
    have ql := ww_nlt q
    by_cases r : fd_ S 87 ≤ i
    · have rl := ww_le r
      rw [if_pos ((key _ t0).mpr (Or.inr (by omega))), if_pos r]
    · have rl := ww_nle r
      rw [if_neg (fun z => by have := (key _ t0).mp z; omega), if_neg r, if_neg (ww_nle' (by omega))]
theorem rn_in0 (p : Int32) : ff_in p 0 (0 - 1) = 0 ∧ ff_in p 0 (-1 - 1) = 0 := by
  have e0 : (0 : Int32).toInt = 0 := by decide
  have a1 : ((0 : Int32) - 1).toInt = -1 := by decide
  have a2 : ((-1 : Int32) - 1).toInt = -2 := by decide
  unfold ff_in
  by_cases z : p < 0
  · rw [if_pos z, if_pos z]; exact ⟨rfl, rfl⟩
  · have := ww_nl0 z
    rw [if_neg z, if_neg z, if_pos (ww_lt' (by omega)), if_pos (ww_lt' (by omega))]
    exact ⟨rfl, rfl⟩
theorem rv_ordered (h : RC X S) (i : Int32) : xf_ordered X i = ff_ordered S i := by
  unfold xf_ordered ff_ordered
  rw [h.r42]
  rcases h.om with ⟨a, b⟩ | ⟨a, -, -⟩
  · rw [show fd_ X 43 = 0 from b, show fd_ S 72 = -1 from a, (rn_in0 i).1, (rn_in0 i).2, if_pos rfl]
  · rw [show fd_ X 43 = fd_ S 72 from a]
theorem rv_up (h : RC X S) (i w : Int32) : xf_up X i w = ff_up S i w := by
  unfold xf_up ff_up
  rw [h.r53, h.r54]
  rcases h.um with ⟨a, b, -⟩ | ⟨a, -, -⟩
  · rw [show fd_ X 55 = 0 from b, show fd_ S 82 = -1 from a, (rn_in0 i).1, (rn_in0 i).2, if_pos rfl]
  · rw [show fd_ X 55 = fd_ S 82 from a]
theorem rv_watched (h : RC X S) (s p : Int32) : xf_watched X s p = ff_watched S s p := by
  unfold xf_watched ff_watched
  by_cases c1 : ff_in s 0 2 = 0
  · rw [if_pos c1, if_pos c1]
  rw [if_neg c1, if_neg c1]
  rcases h.wp with ⟨a, b⟩ | ⟨a, w0, w3⟩
  · rw [show fd_ X 45 = 0 from b, show fd_ S 74 = -1 from a, (rn_in0 p).1, (rn_in0 p).2, if_pos rfl, if_pos rfl]
  · have a' : fd_ X 45 = fd_ S 74 := a
    rw [a']
    by_cases c2 : ff_in p 0 (fd_ S 74 - 1) = 0
    · rw [if_pos c2, if_pos c2]
    rw [if_neg c2, if_neg c2]
    have hs := ff_in_t c1
    have hp := ff_in_t c2
    have w0' : 0 ≤ (fd_ S 74).toInt := w0
    have w3' : (fd_ S 74).toInt ≤ 3 := w3
    rw [ww_sub1 (by omega)] at hp
    have e0 : (0 : Int32).toInt = 0 := by decide
    have e2 : (2 : Int32).toInt = 2 := by decide
    rw [Int32.mul_comm s]
    have b1 : 0 ≤ (fd_ S 74).toInt * s.toInt := Int.mul_nonneg w0' (by omega)
    have b2 : (fd_ S 74).toInt * s.toInt ≤ (fd_ S 74).toInt * 2 := Int.mul_le_mul_of_nonneg_left (by omega) w0'
    have m : (fd_ S 74 * s).toInt = (fd_ S 74).toInt * s.toInt := ww_mul _ _ (by omega) (by omega)
    have ad : (fd_ S 74 * s + p).toInt = (fd_ S 74 * s).toInt + p.toInt := ww_add _ _ (by omega) (by omega)
    refine h.wat _ ?_
    have e45 : (X 45 0).toInt = (fd_ S 74).toInt := by rw [show X 45 0 = fd_ S 74 from a]
    rw [ww_cl, ad, m, e45]
    omega
theorem rv_aimedAt (h : RC X S) (i w : Int32) : xf_aimedAt X i w = ff_aimedAt S i w := by
  unfold xf_aimedAt ff_aimedAt
  rw [h.f52]
  by_cases c1 : ff_in i 0 (fd_ S 79 - 1) = 0
  · rw [if_pos c1, if_pos c1]
  rw [if_neg c1, if_neg c1]
  obtain ⟨a0, a2, hA⟩ := h.aim
  have a0' : 0 ≤ (fd_ S 79).toInt := a0
  have hi := ff_in_t c1
  rw [ww_sub1 (by omega), ww_00] at hi
  have e : (S 79 0).toInt = (fd_ S 79).toInt := rfl
  obtain ⟨g1, g2⟩ := hA i.toNatClampNeg (by rw [ww_cl]; omega)
  rw [show rd_ X 50 i = rd_ S 80 i from g1, show rd_ X 51 i = rd_ S 81 i from g2]
theorem xa_un : ∀ q : Nat, q < 8 → ∀ k : Nat, k < 8 → xa_und q (Int32.ofNat k) = ff_isUnder (Int32.ofNat q) (Int32.ofNat k) := by decide +kernel
theorem rv_taken (h : RC X S) (s k : Int32) : xf_taken X s k = ff_taken S s k := by
  unfold xf_taken ff_taken
  rw [h.r58]
  by_cases c1 : ff_isShelf s = 0
  · rw [if_pos c1, if_pos c1]
  rw [if_neg c1, if_neg c1]
  by_cases c2 : ff_in k 0 7 = 0
  · rw [if_pos c2, if_pos c2]
  rw [if_neg c2, if_neg c2, h.r60]
  have hk := ff_in_t c2
  have e0 : (0 : Int32).toInt = 0 := by decide
  have e7 : (7 : Int32).toInt = 7 := by decide
  have kd := h.ikd (rd_ S 89 s).toNatClampNeg
  have eq : xq X (rd_ S 89 s) = (S 5 (rd_ S 89 s).toNatClampNeg).toInt.toNat := by unfold xq xx_q; rw [h.p60]
  have e1 : Int32.ofNat (S 5 (rd_ S 89 s).toNatClampNeg).toInt.toNat = rd_ S 5 (rd_ S 89 s) := (ww_nat kd.1).symm
  have e2 : Int32.ofNat k.toInt.toNat = k := (ww_nat (by omega)).symm
  have u := xa_un (S 5 (rd_ S 89 s).toNatClampNeg).toInt.toNat (by omega) k.toInt.toNat (by omega)
  rw [e1, e2] at u
  rw [eq, u]
theorem rv_race (h : RC X S) (m y k : Int32) : xf_race X m y k = ff_race S m y k := by
  unfold xf_race ff_race
  rw [h.r9]
  by_cases c1 : ff_isMachine m = 0
  · rw [if_pos c1, if_pos c1]
  rw [if_neg c1, if_neg c1]
  by_cases c2 : ff_in y 1 60 = 0
  · rw [if_pos c2, if_pos c2]
  rw [if_neg c2, if_neg c2]
  by_cases c3 : ff_in k 1 9 = 0
  · rw [if_pos c3, if_pos c3]
  rw [if_neg c3, if_neg c3]
  by_cases c4 : rd_ S 27 m < 0
  · rw [if_pos c4, if_pos c4]
  rw [if_neg c4, if_neg c4, h.thro, h.r66]
  have t0 := h.thr0 (rd_ S 27 m)
  by_cases c5 : rd_ S 12 (rd_ S 27 m) = 0
  rotate_left
  · have := ww_ne c5
    rw [ww_00] at this
    rw [if_neg c5, if_neg (by decide), if_pos (ww_lt' (by rw [ww_00]; omega))]
  rw [if_pos c5, if_pos rfl, if_neg (show ¬ 0 < rd_ S 12 (rd_ S 27 m) by rw [c5]; decide)]
  by_cases c6 : rd_ S 10 (rd_ S 27 m) < y
  rotate_left
  · rw [if_neg c6, if_neg c6]
  rw [if_pos c6, if_pos c6, h.r8, h.r10, h.r68, h.f0]
  unfold ra_f ra_h ra_m
  have hy := ff_in_t c2
  have hk := ff_in_t c3
  have e1 : (1 : Int32).toInt = 1 := by decide
  have e9 : (9 : Int32).toInt = 9 := by decide
  have e60 : (60 : Int32).toInt = 60 := by decide
  have e59 : (59 : Int32).toInt = 59 := by decide
  have e9999 : (9999 : Int32).toInt = 9999 := by decide
  have e0 : (0 : Int32).toInt = 0 := by decide
  have n4 := ww_nl0 c4
  have hm := ff_in_t c1
  have e2 : (2 : Int32).toInt = 2 := by decide
  have hH := h.iH m (by omega) (by omega)
  have hb : ¬ ff_isBody S (rd_ S 27 m) = 0 := by
    rcases hH with z | z
    · rw [z] at n4; exact absurd n4 (by decide)
    · exact (rb_hole z).1
  have hbo := h.bored hb
  have sp := h.isp m.toNatClampNeg
  have ke := h.ike (rd_ S 27 m).toNatClampNeg
  have hh := h.ih
  have br := h.ibr m.toNatClampNeg
  have sp' : 0 ≤ (rd_ S 26 m).toInt ∧ (rd_ S 26 m).toInt ≤ 60 := sp
  have ke' : 0 ≤ (rd_ S 11 (rd_ S 27 m)).toInt ∧ (rd_ S 11 (rd_ S 27 m)).toInt ≤ 60 * (S 1 0).toInt := ke
  have br' : -1 ≤ (rd_ S 28 m).toInt ∧ (rd_ S 28 m).toInt ≤ 1699 := br
  have hh' : 0 ≤ (fd_ S 1).toInt ∧ (fd_ S 1).toInt ≤ 1699 := hh
  have hl := ww_lt c6
  generalize rd_ S 10 (rd_ S 27 m) = bo at *
  generalize rd_ S 26 m = sv at *
  generalize rd_ S 11 (rd_ S 27 m) = kv at *
  generalize rd_ S 28 m = bv at *
  generalize fd_ S 1 = hv at *
  have d1 : (y - bo).toInt = y.toInt - bo.toInt := ww_sub _ _ (by omega) (by omega)
  have p0 : 0 ≤ (y - bo).toInt * sv.toInt := Int.mul_nonneg (by omega) sp'.1
  have p1 : (y - bo).toInt * sv.toInt ≤ 60 * 60 := Int.mul_le_mul (by omega) sp'.2 sp'.1 (by omega)
  have d2 : ((y - bo) * sv).toInt = (y - bo).toInt * sv.toInt := ww_mul _ _ (by omega) (by omega)
  have q0 : 0 ≤ ((y - bo) * sv).toInt * k.toInt := Int.mul_nonneg (by omega) (by omega)
  have q1 : ((y - bo) * sv).toInt * k.toInt ≤ 3600 * 9 := Int.mul_le_mul (by omega) (by omega) (by omega) (by omega)
  have d3 : ((y - bo) * sv * k).toInt = ((y - bo) * sv).toInt * k.toInt := ww_mul _ _ (by omega) (by omega)
  have d4 : ((y - bo) * sv * k - kv).toInt = ((y - bo) * sv * k).toInt - kv.toInt := ww_sub _ _ (by omega) (by omega)
  have hx : -200000 ≤ ((y - bo) * sv * k - kv).toInt ∧ ((y - bo) * sv * k - kv).toInt ≤ 40000 := by omega
  generalize (y - bo) * sv * k - kv = x at *
  have d5 : (x + 59).toInt = x.toInt + 59 := by rw [ww_add _ _ (by omega) (by omega), e59]
  have ho : xi_max 1 ((x + 59) / 60) = if 60 < x then (x + 59) / 60 else 1 := by
    unfold xi_max
    by_cases z : 60 < x
    · have zl := ww_lt z
      have d6 : ((x + 59) / 60).toInt = (x + 59).toInt / 60 := by rw [ww_div _ _ (by omega) (by rw [e60]; omega), e60]
      rw [if_pos z, if_pos (ww_lt' (by omega))]
    · have zl := ww_nlt z
      rw [if_neg z]
      by_cases z2 : 0 ≤ (x + 59).toInt
      · have d6 : ((x + 59) / 60).toInt = (x + 59).toInt / 60 := by rw [ww_div _ _ (by omega) (by rw [e60]; omega), e60]
        rw [if_neg (ww_nlt' (by omega))]
      · have d6 : ((x + 59) / 60).toInt ≤ 0 := by
          have := rn_div_neg (a := x + 59) (b := 60) (by omega) (by decide)
          exact this
        rw [if_neg (ww_nlt' (by omega))]
  rw [ho]
  have hg : 1 ≤ (if 60 < x then (x + 59) / 60 else (1 : Int32)).toInt ∧ (if 60 < x then (x + 59) / 60 else (1 : Int32)).toInt ≤ 1000 := by
    split
    · rename_i z
      have zl := ww_lt z
      have d6 : ((x + 59) / 60).toInt = (x + 59).toInt / 60 := by rw [ww_div _ _ (by omega) (by rw [e60]; omega), e60]
      omega
    · omega
  generalize (if 60 < x then (x + 59) / 60 else (1 : Int32)) = g at *
  have hfm : xi_max hv bv = if bv ≤ hv then hv else bv := by
    unfold xi_max
    by_cases z : hv < bv
    · rw [if_pos z, if_neg (ww_nle' (ww_lt z))]
    · rw [if_neg z, if_pos (ww_le' (ww_nlt z))]
  rw [hfm]
  have hfb : 0 ≤ (if bv ≤ hv then hv else bv).toInt ∧ (if bv ≤ hv then hv else bv).toInt ≤ 1699 := by
    split
    · omega
    · rename_i z
      have := ww_nle z
      omega
  generalize (if bv ≤ hv then hv else bv) = fv at *
  have d7 : (fv + g).toInt = fv.toInt + g.toInt := ww_add _ _ (by omega) (by omega)
  unfold xi_min ff_held
  rw [if_pos (ww_lt' (by omega)), if_pos (ww_le' (by omega)), if_pos (ww_le' (by omega))]
end RV1
