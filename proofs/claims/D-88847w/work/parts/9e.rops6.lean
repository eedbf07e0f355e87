/-! PLAIN LAWS: the tape, old cells, births -/
set_option maxRecDepth 100000
theorem fb8_and (x : Int32) : fb8 x &&& 255 = x &&& 255 := by
  apply Int32.toBitVec_inj.mp
  unfold fb8
  rw [Int32.toBitVec_and, Int32.toBitVec_and, Int8.toBitVec_toInt32, Int32.toBitVec_toInt8]
  apply BitVec.eq_of_getLsbD_eq
  intro i hi
  rw [BitVec.getLsbD_and, BitVec.getLsbD_and]
  by_cases h8 : i < 8
  · rw [BitVec.getLsbD_signExtend, if_pos h8, BitVec.getLsbD_signExtend, if_pos hi]
    simp [h8, hi]
  · have e : ∀ i : Nat, i < 32 → ¬ i < 8 → (255 : Int32).toBitVec.getLsbD i = false := by decide
    rw [e i hi h8, Bool.and_false, Bool.and_false]
theorem fb8_t (x : Int32) : -128 ≤ (fb8 x).toInt ∧ (fb8 x).toInt ≤ 127 := by
  unfold fb8
  rw [Int8.toInt_toInt32]
  have l := Int8.le_toInt x.toInt8
  have u := Int8.toInt_lt x.toInt8
  omega
theorem wr_ne {X : mm_S} {k j : Nat} {i v : Int32} (h : j ≠ i.toNatClampNeg) : wr_ X k i v k j = X k j := by
  show mm_up X k i.toNatClampNeg v k j = X k j
  rw [mm_up_a, if_neg h]
theorem wr_at {X : mm_S} {k j : Nat} {i v : Int32} (h : j = i.toNatClampNeg) : wr_ X k i v k j = v := by
  show mm_up X k i.toNatClampNeg v k j = v
  rw [mm_up_a, if_pos h]
theorem fw_at {X : mm_S} {k : Nat} {v : Int32} : fw_ X k v k 0 = v := mm_up_s _ _ _ _
theorem rs_fd1 {X S : mm_S} (h : RC X S) (x : Int32) (hl : (S 37 0).toInt < 160) : rr_ [21, 22] [36, 37] X S (wr_ (fw_ X 22 (fd_ S 37 + 1)) 21 (fd_ S 37) (x &&& 255)) (fw_ (wr_ S 36 (fd_ S 37) (fb8 (fb8 x))) 37 (fd_ S 37 + 1)) := by
  have p := h.iP
  have e1 : (fd_ S 37 + 1).toInt = (S 37 0).toInt + 1 := ww_a1 (p := fd_ S 37) (by show (S 37 0).toInt < _; omega) p.1
  refine rr_.mk (((fr_.rf X).fw (by decide)).wr (by decide)) (((fr_.rf S).wr (by decide)).fw (by decide)) h 309485012127188078072692736 (by decide +kernel) ⟨?_, ?_, ?_, trivial⟩
  · dsimp only [rc_p]
    rw [wr_k (k := 21) (k2 := 22) (by decide)]
    exact mm_up_p h.p22
  · dsimp only [rc_tape]
    intro j
    rw [fw_k (k := 37) (k2 := 36) (by decide)]
    by_cases z : j = (fd_ S 37).toNatClampNeg
    · rw [wr_at z, wr_at z, fb8_and, fb8_and]
      exact ⟨rfl, fb8_t _⟩
    · rw [wr_ne z, wr_ne z, fw_k (k := 22) (k2 := 21) (by decide)]
      exact h.tape j
  · dsimp only [rc_iP]
    rw [fw_at, e1]
    omega
theorem rs_fd (v n : Int32) (fu : Nat) : ∀ (X S : mm_S) (k : Int32), RC X S → 0 ≤ k.toInt → n.toInt ≤ 4 → (S 37 0).toInt + (n.toInt - k.toInt) ≤ 160 → n.toInt < k.toInt + (fu : Int) → (xf_fd_go fu X n v k).1 = (ff_feed_go fu S n v k).1 ∧ rr_ [21, 22] [36, 37] X S (xf_fd_go fu X n v k).2 (ff_feed_go fu S n v k).2 := by
  induction fu with
  | zero => intro X S k h k0 _ _ _; exact ⟨rfl, rr_.id h⟩
  | succ fu ih =>
    intro X S k h k0 n4 hl hf
    unfold xf_fd_go ff_feed_go
    by_cases c : n ≤ k
    · rw [if_pos c, if_pos c]; exact ⟨h.f22, rr_.id h⟩
    have cl := ww_nle c
    have k1 : (k + 1).toInt = k.toInt + 1 := ww_a1 (by omega) k0
    have p := h.iP
    rw [if_neg c, if_neg c]
    unfold xf_fd_2 xf_fd_1
    have e : fd_ (wr_ S 36 (fd_ S 37) (fb8 (fb8 (v >>> ((8 * k) &&& 31))))) 37 = fd_ S 37 := fd_wn (by decide)
    rw [e, h.f22]
    have s1 := rs_fd1 h (v >>> ((8 * k) &&& 31)) (by omega)
    have e1 : (fd_ S 37 + 1).toInt = (S 37 0).toInt + 1 := ww_a1 (p := fd_ S 37) (by show (S 37 0).toInt < _; omega) p.1
    have g := ih _ _ (k + 1) s1.2.2 (by omega) n4 (by rw [fw_at, e1]; omega) (by omega)
    exact ⟨g.1, s1.tr g.2⟩
section RV5
variable {X S : mm_S}
theorem rs_feed (h : RC X S) (n v : Int32) : (xf_feed X n v).1 = (ff_feed S n v).1 ∧ rr_ [21, 22] [36, 37] X S (xf_feed X n v).2 (ff_feed S n v).2 := by
  unfold xf_feed ff_feed
  rw [h.f22]
  by_cases c1 : ff_in n 1 4 = 0
  · rw [if_pos c1, if_pos c1]; exact ⟨rfl, rr_.id h⟩
  rw [if_neg c1, if_neg c1]
  by_cases c2 : fd_ S 37 + n ≤ 160
  · have hn := ff_in_t c1
    have e1 : (1 : Int32).toInt = 1 := by decide
    have e4 : (4 : Int32).toInt = 4 := by decide
    have e160 : (160 : Int32).toInt = 160 := by decide
    have p := h.iP
    have p' : 0 ≤ (fd_ S 37).toInt ∧ (fd_ S 37).toInt ≤ 160 := p
    have cl := ww_le c2
    rw [ww_add _ _ (by omega) (by omega)] at cl
    have e37 : (fd_ S 37).toInt = (S 37 0).toInt := rfl
    rw [if_pos c2, if_pos c2]
    exact rs_fd v n 5 X S 0 h (by decide) (by omega) (by rw [ww_00]; omega) (by rw [ww_00]; omega)
  · rw [if_neg c2, if_neg c2]; exact ⟨rfl, rr_.id h⟩
/-! old cells -/
theorem ix40 {m k : Int32} (m0 : 0 ≤ m.toInt) (m1 : m.toInt < 8) (k0 : 0 ≤ k.toInt) (k1 : k.toInt ≤ 40) : (40 * m + k).toNatClampNeg = 40 * m.toNatClampNeg + k.toNatClampNeg := by
  have e40 : (40 : Int32).toInt = 40 := by decide
  have m1' : (40 * m).toInt = 40 * m.toInt := by rw [ww_mul _ _ (by rw [e40]; omega) (by rw [e40]; omega), e40]
  rw [ww_cl, ww_cl, ww_cl, ww_add _ _ (by omega) (by omega), m1']
  omega
theorem ob_go {m c : Int32} (m0 : 0 ≤ m.toInt) (m1 : m.toInt < 8) (n0 : 0 ≤ (rd_ S 34 m).toInt) (n1 : (rd_ S 34 m).toInt ≤ 40) (fu : Nat) : ∀ k : Int32, 0 ≤ k.toInt → k.toInt ≤ (rd_ S 34 m).toInt → (rd_ S 34 m).toInt < k.toInt + (fu : Int) → (ff_isOldBy_go fu S m c k = 1 ↔ ∃ j : Nat, k.toInt ≤ (j : Int) ∧ (j : Int) < (rd_ S 34 m).toInt ∧ S 35 (40 * m.toNatClampNeg + j) = c) := by
  induction fu with
  | zero => intro k k0 h1 h2; omega
  | succ fu ih =>
    intro k k0 h1 h2
    unfold ff_isOldBy_go
    by_cases a : rd_ S 34 m ≤ k
    · have al := ww_le a
      rw [if_pos a]
      exact ⟨fun z => absurd z (by decide), fun ⟨j, p, q, _⟩ => by omega⟩
    have al := ww_nle a
    have k2 : (k + 1).toInt = k.toInt + 1 := ww_a1 (by omega) k0
    rw [if_neg a]
    have e : rd_ S 35 (40 * m + k) = S 35 (40 * m.toNatClampNeg + k.toNatClampNeg) := by show S 35 _ = _; rw [ix40 m0 m1 k0 (by omega)]
    by_cases b : rd_ S 35 (40 * m + k) = c
    · rw [if_pos b]
      exact ⟨fun _ => ⟨k.toNatClampNeg, by rw [ww_cl]; omega, by rw [ww_cl]; omega, by rw [← e]; exact b⟩, fun _ => rfl⟩
    · rw [if_neg b, ih (k + 1) (by omega) (by omega) (by omega)]
      constructor
      · rintro ⟨j, p, q, r⟩
        exact ⟨j, by omega, q, r⟩
      · rintro ⟨j, p, q, r⟩
        by_cases z : (j : Int) = k.toInt
        · exfalso
          rw [show j = k.toNatClampNeg by rw [ww_cl]; omega, ← e] at r
          exact b r
        · exact ⟨j, by omega, q, r⟩
theorem ob_iff (hM : iv_M S) {m c : Int32} (m0 : 0 ≤ m.toInt) (m1 : m.toInt < 8) : ff_isOldBy S m c = 1 ↔ ∃ j : Nat, (j : Int) < (rd_ S 34 m).toInt ∧ S 35 (40 * m.toNatClampNeg + j) = c := by
  have n := hM.2.2 m m0 m1
  have g := ob_go (c := c) m0 m1 n.1 n.2 41 0 (by decide) (by rw [ww_00]; omega) (by rw [ww_00]; omega)
  unfold ff_isOldBy
  rw [g]
  constructor
  · rintro ⟨j, p, q, r⟩
    exact ⟨j, q, r⟩
  · rintro ⟨j, q, r⟩
    exact ⟨j, by rw [ww_00]; omega, q, r⟩
theorem oa_cl {m x y : Int32} (m0 : 0 ≤ m.toInt) (m1 : m.toInt < 8) (x0 : 0 ≤ x.toInt) (x1 : x.toInt < 32) (y0 : 0 ≤ y.toInt) (y1 : y.toInt ≤ 60) : (xf_oldAt m x y).toNatClampNeg = 1952 * m.toNatClampNeg + 61 * x.toNatClampNeg + y.toNatClampNeg := by
  unfold xf_oldAt
  have e32 : (32 : Int32).toInt = 32 := by decide
  have e61 : (61 : Int32).toInt = 61 := by decide
  have a1 : (m * 32).toInt = m.toInt * 32 := by rw [ww_mul _ _ (by rw [e32]; omega) (by rw [e32]; omega), e32]
  have a2 : (m * 32 * 61).toInt = m.toInt * 32 * 61 := by rw [ww_mul _ _ (by rw [e61]; omega) (by rw [e61]; omega), e61, a1]
  have a3 : (x * 61).toInt = x.toInt * 61 := by rw [ww_mul _ _ (by rw [e61]; omega) (by rw [e61]; omega), e61]
  have a4 : (x * 61 + y).toInt = x.toInt * 61 + y.toInt := by rw [ww_add _ _ (by omega) (by omega), a3]
  have a5 : (m * 32 * 61 + (x * 61 + y)).toInt = m.toInt * 32 * 61 + (x.toInt * 61 + y.toInt) := by rw [ww_add _ _ (by omega) (by omega), a2, a4]
  rw [ww_cl, a5, ww_cl, ww_cl, ww_cl]
  omega
theorem ce_t {c : Int32} (h : ¬ ff_isCell c = 0) : 0 ≤ (c / 100).toInt ∧ (c / 100).toInt < 32 ∧ 1 ≤ (jr_ c 100).toInt ∧ (jr_ c 100).toInt ≤ 60 ∧ 100 * (c / 100) + jr_ c 100 = c := by
  unfold ff_isCell at h
  have e100 : (100 : Int32).toInt = 100 := by decide
  have e32 : (32 : Int32).toInt = 32 := by decide
  have e1 : (1 : Int32).toInt = 1 := by decide
  have e60 : (60 : Int32).toInt = 60 := by decide
  by_cases c1 : c < 0
  · rw [if_pos c1] at h; exact absurd rfl h
  rw [if_neg c1] at h
  by_cases c2 : 32 ≤ c / 100
  · rw [if_pos c2] at h; exact absurd rfl h
  rw [if_neg c2] at h
  by_cases c3 : ff_in (jr_ c 100) 1 60 = 0
  · rw [if_pos c3] at h; exact absurd rfl h
  have n1 := ww_nl0 c1
  have n2 := ww_nle c2
  have n3 := ff_in_t c3
  have d := ww_div c 100 n1 (by rw [e100]; decide)
  have r := ww_rem c 100 n1 (by rw [e100]; decide)
  rw [e100] at d r
  have u := ww_hi c
  have d0 : 0 ≤ c.toInt / 100 := Int.ediv_nonneg n1 (by decide)
  have m : (100 * (c / 100)).toInt = 100 * (c / 100).toInt := by rw [ww_mul _ _ (by rw [e100]; omega) (by rw [e100]; omega), e100]
  have s : (100 * (c / 100) + jr_ c 100).toInt = c.toInt := by rw [ww_add _ _ (by omega) (by omega), m]; omega
  exact ⟨by omega, by omega, by omega, by omega, ww_eq s⟩
theorem rs_old (h : RC X S) (m c : Int32) : (xf_old X m c).1 = (ff_old S m c).1 ∧ rr_ [16, 17] [34, 35] X S (xf_old X m c).2 (ff_old S m c).2 := by
  unfold xf_old ff_old xf_isMap
  rw [h.f18]
  by_cases c1 : ff_in m 0 (fd_ S 30 - 1) = 0
  · rw [if_pos c1, if_pos c1]; exact ⟨rfl, rr_.id h⟩
  rw [if_neg c1, if_neg c1]
  by_cases c2 : ff_isCell c = 0
  · rw [if_pos c2, if_pos c2]; exact ⟨rfl, rr_.id h⟩
  rw [if_neg c2, if_neg c2]
  obtain ⟨x0, x1, y0, y1, ec⟩ := ce_t c2
  have hM := h.iM
  have hM0 : 0 ≤ (fd_ S 30).toInt := hM.1
  have hM1 : (fd_ S 30).toInt ≤ 8 := hM.2.1
  have q := ff_in_t c1
  rw [ww_sub1 (by omega), ww_00] at q
  have m0 := q.1
  have m1 : m.toInt < 8 := by omega
  have eo : xf_isOld X m (c / 100) (jr_ c 100) = ff_isOldBy S m c := by
    have := h.old.1 m (c / 100) (jr_ c 100) m0 m1 x0 x1 (by omega) y1
    rw [ec] at this
    exact this
  rw [eo, h.r17]
  by_cases c3 : ff_isOldBy S m c = 0
  rotate_left
  · rw [if_neg c3, if_neg c3]; exact ⟨rfl, rr_.id h⟩
  rw [if_pos c3, if_pos c3]
  by_cases c4 : rd_ S 34 m = 40
  · rw [if_pos c4, if_pos c4]; exact ⟨rfl, rr_.id h⟩
  rw [if_neg c4, if_neg c4]
  have n := hM.2.2 m m0 m1
  have e40 : (40 : Int32).toInt = 40 := by decide
  have n40 := ww_ne c4
  have n1 : (rd_ S 34 m + 1).toInt = (rd_ S 34 m).toInt + 1 := ww_a1 (by omega) n.1
  have ix := ix40 m0 m1 n.1 n.2
  generalize hS' : wr_ (wr_ S 35 (40 * m + rd_ S 34 m) c) 34 m (rd_ S 34 m + 1) = S'
  have s34 : ∀ p : Int32, rd_ S' 34 p = if p.toNatClampNeg = m.toNatClampNeg then rd_ S 34 m + 1 else rd_ S 34 p := fun p => by
    rw [← hS', rd_wa, rd_wn (by decide)]
  have s35 : ∀ j : Nat, S' 35 j = if j = 40 * m.toNatClampNeg + (rd_ S 34 m).toNatClampNeg then c else S 35 j := fun j => by
    rw [← hS', wr_k (k := 34) (k2 := 35) (by decide)]
    by_cases z : j = 40 * m.toNatClampNeg + (rd_ S 34 m).toNatClampNeg
    · rw [if_pos z, wr_at (by rw [ix]; exact z)]
    · rw [if_neg z, wr_ne (by rw [ix]; exact z)]
  have hM' : iv_M S' := by
    refine ⟨by rw [← hS', fd_wn (by decide), fd_wn (by decide)]; exact hM0, by rw [← hS', fd_wn (by decide), fd_wn (by decide)]; exact hM1, fun p p0 p1 => ?_⟩
    rw [s34]
    split
    · omega
    · exact hM.2.2 p p0 p1
  have key : ∀ p d : Int32, 0 ≤ p.toInt → p.toInt < 8 → (ff_isOldBy S' p d = 1 ↔ (p = m ∧ d = c) ∨ ff_isOldBy S p d = 1) := by
    intro p d p0 p1
    rw [ob_iff hM' p0 p1, ob_iff hM p0 p1, s34]
    by_cases z : p.toNatClampNeg = m.toNatClampNeg
    · have zp := ww_cl0 p0 m0 z
      rw [if_pos z, zp]
      constructor
      · rintro ⟨j, j1, j2⟩
        rw [s35] at j2
        by_cases y : j = (rd_ S 34 m).toNatClampNeg
        · rw [if_pos (by omega)] at j2
          exact Or.inl ⟨rfl, j2.symm⟩
        · rw [if_neg (by omega)] at j2
          exact Or.inr ⟨j, by rw [ww_cl] at y; omega, j2⟩
      · rintro (⟨-, rfl⟩ | ⟨j, j1, j2⟩)
        · exact ⟨(rd_ S 34 m).toNatClampNeg, by rw [n1, ww_cl]; omega, by rw [s35, if_pos rfl]⟩
        · exact ⟨j, by omega, by rw [s35, if_neg (by rw [ww_cl, ww_cl]; omega)]; exact j2⟩
    · have np : ¬ p = m := fun e => z (by rw [e])
      have nq := hM.2.2 p p0 p1
      rw [if_neg z]
      constructor
      · rintro ⟨j, j1, j2⟩
        rw [s35, if_neg (by simp only [ww_cl] at z ⊢; omega)] at j2
        exact Or.inr ⟨j, j1, j2⟩
      · rintro (⟨e, -⟩ | ⟨j, j1, j2⟩)
        · exact absurd e np
        · exact ⟨j, j1, by rw [s35, if_neg (by simp only [ww_cl] at z ⊢; omega)]; exact j2⟩
  refine ⟨rfl, rr_.mk (((fr_.rf X).wr (by decide)).wr (by decide)) (by rw [← hS']; exact ((fr_.rf S).wr (by decide)).wr (by decide)) h 4726978168888139710464 (by decide +kernel) ⟨?_, ?_, ?_, trivial⟩⟩
  · dsimp only [rc_p]
    rw [← hS']
    exact mm_up_p (by rw [wr_k (k := 16) (k2 := 17) (by decide), wr_k (k := 35) (k2 := 34) (by decide)]; exact h.p17)
  · dsimp only [rc_old]
    rw [wr_k (k := 17) (k2 := 16) (by decide)]
    refine ⟨fun p x y p0 p1 u0 u1 v0 v1 => ?_, fun i => ?_⟩
    · have ox := h.old.1 p x y p0 p1 u0 u1 v0 v1
      have kk := key p (100 * x + y) p0 p1
      have e100 : (100 : Int32).toInt = 100 := by decide
      have exy : (100 * x + y).toInt = 100 * x.toInt + y.toInt := by
        have a1 : (100 * x).toInt = 100 * x.toInt := by rw [ww_mul _ _ (by rw [e100]; omega) (by rw [e100]; omega), e100]
        rw [ww_add _ _ (by omega) (by omega), a1]
      have ecy : c.toInt = 100 * (c / 100).toInt + (jr_ c 100).toInt := by
        have a1 : (100 * (c / 100)).toInt = 100 * (c / 100).toInt := by rw [ww_mul _ _ (by rw [e100]; omega) (by rw [e100]; omega), e100]
        rw [← a1, ← ww_add _ _ (by omega) (by omega), ec]
      have o1 := oa_cl p0 p1 u0 u1 v0 v1
      have o2 := oa_cl m0 m1 x0 x1 (by omega : 0 ≤ (jr_ c 100).toInt) y1
      by_cases z : p = m ∧ 100 * x + y = c
      · have zy : (100 * x + y).toInt = c.toInt := by rw [z.2]
        have ex : x = c / 100 := ww_eq (by omega)
        have ey : y = jr_ c 100 := ww_eq (by omega)
        rw [z.1, ex, ey, wr_at rfl, ec]
        exact ((key m c m0 m1).mpr (Or.inl ⟨rfl, rfl⟩)).symm
      · have ne : (xf_oldAt p x y).toNatClampNeg ≠ (xf_oldAt m (c / 100) (jr_ c 100)).toNatClampNeg := by
          rw [o1, o2]
          intro e
          simp only [ww_cl] at e
          refine z ⟨ww_eq (by omega), ww_eq (by omega)⟩
        rw [wr_ne ne, ox]
        have kk2 : ff_isOldBy S' p (100 * x + y) = 1 ↔ ff_isOldBy S p (100 * x + y) = 1 := by
          rw [kk]
          exact ⟨fun w => w.resolve_left z, Or.inr⟩
        rcases ff_isOldBy_b S p (100 * x + y) with e | e
        · rcases ff_isOldBy_b S' p (100 * x + y) with e2 | e2
          · rw [e, e2]
          · have := kk2.mp e2
            rw [e] at this
            exact absurd this (by decide)
        · rw [e, kk2.mpr e]
    · by_cases z : i = (xf_oldAt m (c / 100) (jr_ c 100)).toNatClampNeg
      · rw [wr_at z]; exact Or.inr rfl
      · rw [wr_ne z]; exact h.old.2 i
  · exact hM'
/-! births -/
theorem add_eq (h : RC X S) (k : Int32) : ff_add S k = (fd_ S 4, fw_ (wr_ S 5 (fd_ S 4) k) 4 (fd_ S 4 + 1)) := by
  unfold ff_add
  have hB0 : 0 ≤ (fd_ S 4).toInt := h.iB.1
  have hB1 : (fd_ S 4).toInt ≤ 120 := h.iB.2
  have e : fd_ (wr_ S 5 (fd_ S 4) k) 4 = fd_ S 4 := fd_wn (by decide)
  have e1 : (fd_ S 4 + 1).toInt = (fd_ S 4).toInt + 1 := ww_a1 (by omega) hB0
  rw [e, fd_fw, show fd_ S 4 + 1 - 1 = fd_ S 4 from ww_eq (by rw [ww_sub1 (by omega), e1]; omega)]
theorem nw_t (h : RC X S) (c : ¬ fd_ S 4 = 120) : 0 ≤ (S 4 0).toInt ∧ (S 4 0).toInt < 120 ∧ (fd_ S 4 + 1).toInt = (S 4 0).toInt + 1 ∧ (fd_ S 4).toNatClampNeg = (S 4 0).toInt.toNat := by
  have hB0 : 0 ≤ (fd_ S 4).toInt := h.iB.1
  have hB1 : (fd_ S 4).toInt ≤ 120 := h.iB.2
  have e : (120 : Int32).toInt = 120 := by decide
  have n := ww_ne c
  have e4 : (fd_ S 4).toInt = (S 4 0).toInt := rfl
  exact ⟨by omega, by omega, ww_a1 (by omega) hB0, rfl⟩
theorem ho_k {T : mm_S} (h : RC X S) {b : Int32} (h5 : ∀ j : Nat, (j : Int) < (S 4 0).toInt → T 5 j = S 5 j) (h4 : (T 4 0).toInt = (S 4 0).toInt + 1) (h120 : (S 4 0).toInt < 120) (hb : ¬ ff_isHole S b = 0) : ¬ ff_isHole T b = 0 := by
  obtain ⟨h1, k2, k5⟩ := rb_hole hb
  have hi := rb_in h h1
  have e5 : rd_ T 5 b = rd_ S 5 b := h5 b.toNatClampNeg (by rw [ww_cl]; omega)
  unfold ff_isHole ff_isBody
  have t4 : (fd_ T 4).toInt = (S 4 0).toInt + 1 := h4
  have e1 : ff_in b 0 (fd_ T 4 - 1) = 1 := ff_in_1 (by rw [ww_00]; exact hi.1) (by rw [ww_sub1 (by omega)]; omega)
  rw [e1, if_neg (show ¬ (1 : Int32) = 0 by decide), e5]
  unfold ff_isHole at hb
  rw [if_neg h1] at hb
  exact hb
theorem rb_body (h : RC X S) (k : Int32) (c : ¬ fd_ S 4 = 120) (k0 : 0 ≤ k.toInt) (k1 : k.toInt ≤ 1) : rr_ [4, 60] [4, 5] X S (fw_ (wr_ X 60 (fd_ S 4) k) 4 (fd_ S 4 + 1)) (fw_ (wr_ S 5 (fd_ S 4) k) 4 (fd_ S 4 + 1)) := by
  obtain ⟨n0, n1, n2, n3⟩ := nw_t h c
  have n2' : (S 4 0 + 1).toInt = (S 4 0).toInt + 1 := n2
  have e6 : (6 : Int32).toInt = 6 := by decide
  have e7 : (7 : Int32).toInt = 7 := by decide
  have hne : ∀ j : Nat, (j : Int) ≠ (S 4 0).toInt → j ≠ (fd_ S 4).toNatClampNeg := fun j a b => by omega
  refine rr_.mk (((fr_.rf X).wr (by decide)).fw (by decide)) (((fr_.rf S).wr (by decide)).fw (by decide)) h 2658455875203488133415714017496793100 (by decide +kernel) ⟨?_, ?_, ?_, ?_, ?_, ?_, ?_, ?_, ?_, ?_, ?_, ?_, ?_, ?_, ?_, ?_, ?_, ?_, ?_, ?_, ?_, ?_, ?_, ?_, ?_, ?_, ?_, ?_, ?_, ?_, ?_, ?_, trivial⟩
  · dsimp only [rc_p]
    exact mm_up_p (by rw [wr_k (k := 60) (k2 := 4) (by decide), wr_k (k := 5) (k2 := 4) (by decide)]; exact h.p4)
  · dsimp only [rc_p]
    rw [fw_k (k := 4) (k2 := 60) (by decide), fw_k (k := 4) (k2 := 5) (by decide)]
    exact mm_up_p (by exact h.p60)
  · dsimp only [rc_up]
    intro j
    by_cases z : (j : Int) = (S 4 0).toInt
    · have hj : j = (fd_ S 4).toNatClampNeg := by omega
      rw [fw_k (k := 4) (k2 := 20) (by decide), wr_k (k := 5) (k2 := 20) (by decide), fw_k (k := 4) (k2 := 5) (by decide), wr_at (k := 5) hj, if_neg (ww_ne' (by omega)), h.z20 j (by omega)]
    · rw [fw_k (k := 4) (k2 := 20) (by decide), wr_k (k := 5) (k2 := 20) (by decide), fw_k (k := 4) (k2 := 5) (by decide), wr_ne (k := 5) (hne j z), fw_k (k := 4) (k2 := 80) (by decide), wr_k (k := 60) (k2 := 80) (by decide)]
      exact h.up j
  · dsimp only [rc_shel]
    have sh := h.shel
    rw [fw_k (k := 4) (k2 := 21) (by decide), wr_k (k := 5) (k2 := 21) (by decide), fw_k (k := 4) (k2 := 22) (by decide), wr_k (k := 5) (k2 := 22) (by decide), fw_k (k := 4) (k2 := 23) (by decide), wr_k (k := 5) (k2 := 23) (by decide), fw_k (k := 4) (k2 := 24) (by decide), wr_k (k := 5) (k2 := 24) (by decide), fw_k (k := 4) (k2 := 25) (by decide), wr_k (k := 5) (k2 := 25) (by decide), fw_at]
    refine ⟨fun s0 => ?_, fun b h6 => ?_⟩
    · obtain ⟨a1, a2, a3, a4, a5, a6⟩ := sh.1 s0
      rw [fw_k (k := 4) (k2 := 5) (by decide), wr_ne (k := 5) (hne _ (by rw [ww_cl]; omega)), fw_k (k := 4) (k2 := 73) (by decide), wr_k (k := 60) (k2 := 73) (by decide), fw_k (k := 4) (k2 := 74) (by decide), wr_k (k := 60) (k2 := 74) (by decide), fw_k (k := 4) (k2 := 75) (by decide), wr_k (k := 60) (k2 := 75) (by decide), fw_k (k := 4) (k2 := 76) (by decide), wr_k (k := 60) (k2 := 76) (by decide)]
      exact ⟨by omega, a2, a3, a4, a5, a6⟩
    · by_cases z : (b : Int) = (S 4 0).toInt
      · rw [fw_k (k := 4) (k2 := 5) (by decide), wr_at (k := 5) (show b = (fd_ S 4).toNatClampNeg by omega)] at h6
        exact absurd h6 (ww_ne' (by omega))
      · rw [fw_k (k := 4) (k2 := 5) (by decide), wr_ne (k := 5) (hne b z)] at h6
        exact sh.2 b h6
  · dsimp only [rc_iB]
    refine ⟨?_, ?_⟩
    · show 0 ≤ (_ : Int32).toInt
      unfold fd_
      rw [fw_at]
      omega
    · unfold fd_
      rw [fw_at]
      omega
  · dsimp only [rc_iH]
    intro m m0 m3
    unfold rd_
    rw [fw_k (k := 4) (k2 := 27) (by decide), wr_k (k := 5) (k2 := 27) (by decide)]
    rcases h.iH m m0 m3 with y | y
    · exact Or.inl y
    · exact Or.inr (ho_k h (fun j hj => by rw [fw_k (k := 4) (k2 := 5) (by decide), wr_ne (k := 5) (hne j (by omega))]) (by rw [fw_at]; exact n2) n1 y)
  · dsimp only [rc_iS]
    intro s s0 s6
    have g := h.iS s s0 s6
    unfold rd_ fd_ at g ⊢
    rw [fw_k (k := 4) (k2 := 89) (by decide), wr_k (k := 5) (k2 := 89) (by decide), fw_at]
    omega
  · dsimp only [rc_ikd]
    rw [fw_k (k := 4) (k2 := 5) (by decide)]
    exact ra_wr (P := fun x => 0 ≤ x.toInt ∧ x.toInt < 8) h.ikd ⟨by omega, by omega⟩
  · dsimp only [rc_n10]
    intro j
    rw [fw_k (k := 4) (k2 := 10) (by decide), wr_k (k := 5) (k2 := 10) (by decide)]
    by_cases z : (j : Int) = (S 4 0).toInt
    · exact Or.inl (h.z10 j (by omega))
    · rw [fw_k (k := 4) (k2 := 5) (by decide), wr_ne (k := 5) (hne j z)]
      exact h.n10 j
  · dsimp only [rc_n12]
    intro j
    rw [fw_k (k := 4) (k2 := 12) (by decide), wr_k (k := 5) (k2 := 12) (by decide)]
    by_cases z : (j : Int) = (S 4 0).toInt
    · exact Or.inl (h.z12 j (by omega))
    · rw [fw_k (k := 4) (k2 := 5) (by decide), wr_ne (k := 5) (hne j z)]
      exact h.n12 j
  · dsimp only [rc_z5]
    intro b hb
    rw [fw_at] at hb
    rw [fw_k (k := 4) (k2 := 5) (by decide), wr_ne (k := 5) (hne b (by omega))]
    exact h.z5 b (by omega)
  · dsimp only [rc_z6]
    intro b hb
    rw [fw_at] at hb
    rw [fw_k (k := 4) (k2 := 6) (by decide), wr_k (k := 5) (k2 := 6) (by decide)]
    exact h.z6 b (by omega)
  · dsimp only [rc_z7]
    intro b hb
    rw [fw_at] at hb
    rw [fw_k (k := 4) (k2 := 7) (by decide), wr_k (k := 5) (k2 := 7) (by decide)]
    exact h.z7 b (by omega)
  · dsimp only [rc_z8]
    intro b hb
    rw [fw_at] at hb
    rw [fw_k (k := 4) (k2 := 8) (by decide), wr_k (k := 5) (k2 := 8) (by decide)]
    exact h.z8 b (by omega)
  · dsimp only [rc_z9]
    intro b hb
    rw [fw_at] at hb
    rw [fw_k (k := 4) (k2 := 9) (by decide), wr_k (k := 5) (k2 := 9) (by decide)]
    exact h.z9 b (by omega)
  · dsimp only [rc_z10]
    intro b hb
    rw [fw_at] at hb
    rw [fw_k (k := 4) (k2 := 10) (by decide), wr_k (k := 5) (k2 := 10) (by decide)]
    exact h.z10 b (by omega)
  · dsimp only [rc_z11]
    intro b hb
    rw [fw_at] at hb
    rw [fw_k (k := 4) (k2 := 11) (by decide), wr_k (k := 5) (k2 := 11) (by decide)]
    exact h.z11 b (by omega)
  · dsimp only [rc_z12]
    intro b hb
    rw [fw_at] at hb
    rw [fw_k (k := 4) (k2 := 12) (by decide), wr_k (k := 5) (k2 := 12) (by decide)]
    exact h.z12 b (by omega)
  · dsimp only [rc_z17]
    intro b hb
    rw [fw_at] at hb
    rw [fw_k (k := 4) (k2 := 17) (by decide), wr_k (k := 5) (k2 := 17) (by decide)]
    exact h.z17 b (by omega)
  · dsimp only [rc_z18]
    intro b hb
    rw [fw_at] at hb
    rw [fw_k (k := 4) (k2 := 18) (by decide), wr_k (k := 5) (k2 := 18) (by decide)]
    exact h.z18 b (by omega)
  · dsimp only [rc_z19]
    intro b hb
    rw [fw_at] at hb
    rw [fw_k (k := 4) (k2 := 19) (by decide), wr_k (k := 5) (k2 := 19) (by decide)]
    exact h.z19 b (by omega)
  · dsimp only [rc_z20]
    intro b hb
    rw [fw_at] at hb
    rw [fw_k (k := 4) (k2 := 20) (by decide), wr_k (k := 5) (k2 := 20) (by decide)]
    exact h.z20 b (by omega)
  · dsimp only [rc_z65]
    intro b hb
    rw [fw_at] at hb
    rw [fw_k (k := 4) (k2 := 65) (by decide), wr_k (k := 5) (k2 := 65) (by decide)]
    exact h.z65 b (by omega)
  · dsimp only [rc_z13]
    intro b hb
    rw [fw_at] at hb
    rw [fw_k (k := 4) (k2 := 13) (by decide), wr_k (k := 5) (k2 := 13) (by decide)]
    exact h.z13 b (by omega)
  · dsimp only [rc_z14]
    intro b hb
    rw [fw_at] at hb
    rw [fw_k (k := 4) (k2 := 14) (by decide), wr_k (k := 5) (k2 := 14) (by decide)]
    exact h.z14 b (by omega)
  · dsimp only [rc_z15]
    intro b hb
    rw [fw_at] at hb
    rw [fw_k (k := 4) (k2 := 15) (by decide), wr_k (k := 5) (k2 := 15) (by decide)]
    exact h.z15 b (by omega)
  · dsimp only [rc_z16]
    intro b hb
    rw [fw_at] at hb
    rw [fw_k (k := 4) (k2 := 16) (by decide), wr_k (k := 5) (k2 := 16) (by decide)]
    exact h.z16 b (by omega)
  · dsimp only [rc_x73]
    intro b hb
    rw [fw_at] at hb
    have e4 : (X 4 0).toInt = (S 4 0).toInt := by rw [show X 4 0 = S 4 0 from h.f4]
    rw [fw_k (k := 4) (k2 := 73) (by decide), wr_k (k := 60) (k2 := 73) (by decide)]
    exact h.x73 b (by omega)
  · dsimp only [rc_x74]
    intro b hb
    rw [fw_at] at hb
    have e4 : (X 4 0).toInt = (S 4 0).toInt := by rw [show X 4 0 = S 4 0 from h.f4]
    rw [fw_k (k := 4) (k2 := 74) (by decide), wr_k (k := 60) (k2 := 74) (by decide)]
    exact h.x74 b (by omega)
  · dsimp only [rc_x75]
    intro b hb
    rw [fw_at] at hb
    have e4 : (X 4 0).toInt = (S 4 0).toInt := by rw [show X 4 0 = S 4 0 from h.f4]
    rw [fw_k (k := 4) (k2 := 75) (by decide), wr_k (k := 60) (k2 := 75) (by decide)]
    exact h.x75 b (by omega)
  · dsimp only [rc_x76]
    intro b hb
    rw [fw_at] at hb
    have e4 : (X 4 0).toInt = (S 4 0).toInt := by rw [show X 4 0 = S 4 0 from h.f4]
    rw [fw_k (k := 4) (k2 := 76) (by decide), wr_k (k := 60) (k2 := 76) (by decide)]
    exact h.x76 b (by omega)
  · dsimp only [rc_x80]
    intro b hb
    rw [fw_at] at hb
    have e4 : (X 4 0).toInt = (S 4 0).toInt := by rw [show X 4 0 = S 4 0 from h.f4]
    rw [fw_k (k := 4) (k2 := 80) (by decide), wr_k (k := 60) (k2 := 80) (by decide)]
    exact h.x80 b (by omega)
theorem rb_holeB (h : RC X S) (k : Int32) (x : Int32) (w : Int32) (c : ¬ fd_ S 4 = 120) (k0 : 2 ≤ k.toInt) (k1 : k.toInt ≤ 5) (x0 : 0 ≤ x.toInt) (x1 : x.toInt ≤ 31) : rr_ [4, 60, 61, 62, 67] [4, 5, 6, 7, 8] X S (fw_ (wr_ (wr_ (wr_ (wr_ X 60 (fd_ S 4) k) 61 (fd_ S 4) x) 62 (fd_ S 4) w) 67 (fd_ S 4) x) 4 (fd_ S 4 + 1)) (wr_ (wr_ (wr_ (fw_ (wr_ S 5 (fd_ S 4) k) 4 (fd_ S 4 + 1)) 6 (fd_ S 4) x) 8 (fd_ S 4) x) 7 (fd_ S 4) w) := by
  obtain ⟨n0, n1, n2, n3⟩ := nw_t h c
  have n2' : (S 4 0 + 1).toInt = (S 4 0).toInt + 1 := n2
  have e6 : (6 : Int32).toInt = 6 := by decide
  have e7 : (7 : Int32).toInt = 7 := by decide
  have hne : ∀ j : Nat, (j : Int) ≠ (S 4 0).toInt → j ≠ (fd_ S 4).toNatClampNeg := fun j a b => by omega
  refine rr_.mk ((((((fr_.rf X).wr (by decide)).wr (by decide)).wr (by decide)).wr (by decide)).fw (by decide)) ((((((fr_.rf S).wr (by decide)).fw (by decide)).wr (by decide)).wr (by decide)).wr (by decide)) h 2658455875280859385871050284677988476 (by decide +kernel) ⟨?_, ?_, ?_, ?_, ?_, ?_, ?_, ?_, ?_, ?_, ?_, ?_, ?_, ?_, ?_, ?_, ?_, ?_, ?_, ?_, ?_, ?_, ?_, ?_, ?_, ?_, ?_, ?_, ?_, ?_, ?_, ?_, ?_, ?_, ?_, ?_, trivial⟩
  · dsimp only [rc_p]
    rw [wr_k (k := 7) (k2 := 4) (by decide), wr_k (k := 8) (k2 := 4) (by decide), wr_k (k := 6) (k2 := 4) (by decide)]
    exact mm_up_p (by rw [wr_k (k := 67) (k2 := 4) (by decide), wr_k (k := 62) (k2 := 4) (by decide), wr_k (k := 61) (k2 := 4) (by decide), wr_k (k := 60) (k2 := 4) (by decide), wr_k (k := 5) (k2 := 4) (by decide)]; exact h.p4)
  · dsimp only [rc_p]
    rw [fw_k (k := 4) (k2 := 60) (by decide), wr_k (k := 67) (k2 := 60) (by decide), wr_k (k := 62) (k2 := 60) (by decide), wr_k (k := 61) (k2 := 60) (by decide), wr_k (k := 7) (k2 := 5) (by decide), wr_k (k := 8) (k2 := 5) (by decide), wr_k (k := 6) (k2 := 5) (by decide), fw_k (k := 4) (k2 := 5) (by decide)]
    exact mm_up_p (by exact h.p60)
  · dsimp only [rc_p]
    rw [fw_k (k := 4) (k2 := 61) (by decide), wr_k (k := 67) (k2 := 61) (by decide), wr_k (k := 62) (k2 := 61) (by decide), wr_k (k := 7) (k2 := 6) (by decide), wr_k (k := 8) (k2 := 6) (by decide)]
    exact mm_up_p (by rw [wr_k (k := 60) (k2 := 61) (by decide), fw_k (k := 4) (k2 := 6) (by decide), wr_k (k := 5) (k2 := 6) (by decide)]; exact h.p61)
  · dsimp only [rc_p]
    rw [fw_k (k := 4) (k2 := 62) (by decide), wr_k (k := 67) (k2 := 62) (by decide)]
    exact mm_up_p (by rw [wr_k (k := 61) (k2 := 62) (by decide), wr_k (k := 60) (k2 := 62) (by decide), wr_k (k := 8) (k2 := 7) (by decide), wr_k (k := 6) (k2 := 7) (by decide), fw_k (k := 4) (k2 := 7) (by decide), wr_k (k := 5) (k2 := 7) (by decide)]; exact h.p62)
  · dsimp only [rc_p]
    rw [fw_k (k := 4) (k2 := 67) (by decide), wr_k (k := 7) (k2 := 8) (by decide)]
    exact mm_up_p (by rw [wr_k (k := 62) (k2 := 67) (by decide), wr_k (k := 61) (k2 := 67) (by decide), wr_k (k := 60) (k2 := 67) (by decide), wr_k (k := 6) (k2 := 8) (by decide), fw_k (k := 4) (k2 := 8) (by decide), wr_k (k := 5) (k2 := 8) (by decide)]; exact h.p67)
  · dsimp only [rc_up]
    intro j
    by_cases z : (j : Int) = (S 4 0).toInt
    · have hj : j = (fd_ S 4).toNatClampNeg := by omega
      rw [wr_k (k := 7) (k2 := 20) (by decide), wr_k (k := 8) (k2 := 20) (by decide), wr_k (k := 6) (k2 := 20) (by decide), fw_k (k := 4) (k2 := 20) (by decide), wr_k (k := 5) (k2 := 20) (by decide), wr_k (k := 7) (k2 := 5) (by decide), wr_k (k := 8) (k2 := 5) (by decide), wr_k (k := 6) (k2 := 5) (by decide), fw_k (k := 4) (k2 := 5) (by decide), wr_at (k := 5) hj, if_neg (ww_ne' (by omega)), h.z20 j (by omega)]
    · rw [wr_k (k := 7) (k2 := 20) (by decide), wr_k (k := 8) (k2 := 20) (by decide), wr_k (k := 6) (k2 := 20) (by decide), fw_k (k := 4) (k2 := 20) (by decide), wr_k (k := 5) (k2 := 20) (by decide), wr_k (k := 7) (k2 := 5) (by decide), wr_k (k := 8) (k2 := 5) (by decide), wr_k (k := 6) (k2 := 5) (by decide), fw_k (k := 4) (k2 := 5) (by decide), wr_ne (k := 5) (hne j z), fw_k (k := 4) (k2 := 80) (by decide), wr_k (k := 67) (k2 := 80) (by decide), wr_k (k := 62) (k2 := 80) (by decide), wr_k (k := 61) (k2 := 80) (by decide), wr_k (k := 60) (k2 := 80) (by decide)]
      exact h.up j
  · dsimp only [rc_shel]
    have sh := h.shel
    rw [wr_k (k := 7) (k2 := 21) (by decide), wr_k (k := 8) (k2 := 21) (by decide), wr_k (k := 6) (k2 := 21) (by decide), fw_k (k := 4) (k2 := 21) (by decide), wr_k (k := 5) (k2 := 21) (by decide), wr_k (k := 7) (k2 := 22) (by decide), wr_k (k := 8) (k2 := 22) (by decide), wr_k (k := 6) (k2 := 22) (by decide), fw_k (k := 4) (k2 := 22) (by decide), wr_k (k := 5) (k2 := 22) (by decide), wr_k (k := 7) (k2 := 23) (by decide), wr_k (k := 8) (k2 := 23) (by decide), wr_k (k := 6) (k2 := 23) (by decide), fw_k (k := 4) (k2 := 23) (by decide), wr_k (k := 5) (k2 := 23) (by decide), wr_k (k := 7) (k2 := 24) (by decide), wr_k (k := 8) (k2 := 24) (by decide), wr_k (k := 6) (k2 := 24) (by decide), fw_k (k := 4) (k2 := 24) (by decide), wr_k (k := 5) (k2 := 24) (by decide), wr_k (k := 7) (k2 := 25) (by decide), wr_k (k := 8) (k2 := 25) (by decide), wr_k (k := 6) (k2 := 25) (by decide), fw_k (k := 4) (k2 := 25) (by decide), wr_k (k := 5) (k2 := 25) (by decide), wr_k (k := 7) (k2 := 4) (by decide), wr_k (k := 8) (k2 := 4) (by decide), wr_k (k := 6) (k2 := 4) (by decide), fw_at]
    refine ⟨fun s0 => ?_, fun b h6 => ?_⟩
    · obtain ⟨a1, a2, a3, a4, a5, a6⟩ := sh.1 s0
      rw [wr_k (k := 7) (k2 := 5) (by decide), wr_k (k := 8) (k2 := 5) (by decide), wr_k (k := 6) (k2 := 5) (by decide), fw_k (k := 4) (k2 := 5) (by decide), wr_ne (k := 5) (hne _ (by rw [ww_cl]; omega)), fw_k (k := 4) (k2 := 73) (by decide), wr_k (k := 67) (k2 := 73) (by decide), wr_k (k := 62) (k2 := 73) (by decide), wr_k (k := 61) (k2 := 73) (by decide), wr_k (k := 60) (k2 := 73) (by decide), fw_k (k := 4) (k2 := 74) (by decide), wr_k (k := 67) (k2 := 74) (by decide), wr_k (k := 62) (k2 := 74) (by decide), wr_k (k := 61) (k2 := 74) (by decide), wr_k (k := 60) (k2 := 74) (by decide), fw_k (k := 4) (k2 := 75) (by decide), wr_k (k := 67) (k2 := 75) (by decide), wr_k (k := 62) (k2 := 75) (by decide), wr_k (k := 61) (k2 := 75) (by decide), wr_k (k := 60) (k2 := 75) (by decide), fw_k (k := 4) (k2 := 76) (by decide), wr_k (k := 67) (k2 := 76) (by decide), wr_k (k := 62) (k2 := 76) (by decide), wr_k (k := 61) (k2 := 76) (by decide), wr_k (k := 60) (k2 := 76) (by decide)]
      exact ⟨by omega, a2, a3, a4, a5, a6⟩
    · by_cases z : (b : Int) = (S 4 0).toInt
      · rw [wr_k (k := 7) (k2 := 5) (by decide), wr_k (k := 8) (k2 := 5) (by decide), wr_k (k := 6) (k2 := 5) (by decide), fw_k (k := 4) (k2 := 5) (by decide), wr_at (k := 5) (show b = (fd_ S 4).toNatClampNeg by omega)] at h6
        exact absurd h6 (ww_ne' (by omega))
      · rw [wr_k (k := 7) (k2 := 5) (by decide), wr_k (k := 8) (k2 := 5) (by decide), wr_k (k := 6) (k2 := 5) (by decide), fw_k (k := 4) (k2 := 5) (by decide), wr_ne (k := 5) (hne b z)] at h6
        exact sh.2 b h6
  · dsimp only [rc_iB]
    refine ⟨?_, ?_⟩
    · show 0 ≤ (_ : Int32).toInt
      unfold fd_
      rw [wr_k (k := 7) (k2 := 4) (by decide), wr_k (k := 8) (k2 := 4) (by decide), wr_k (k := 6) (k2 := 4) (by decide), fw_at]
      omega
    · unfold fd_
      rw [wr_k (k := 7) (k2 := 4) (by decide), wr_k (k := 8) (k2 := 4) (by decide), wr_k (k := 6) (k2 := 4) (by decide), fw_at]
      omega
  · dsimp only [rc_iH]
    intro m m0 m3
    unfold rd_
    rw [wr_k (k := 7) (k2 := 27) (by decide), wr_k (k := 8) (k2 := 27) (by decide), wr_k (k := 6) (k2 := 27) (by decide), fw_k (k := 4) (k2 := 27) (by decide), wr_k (k := 5) (k2 := 27) (by decide)]
    rcases h.iH m m0 m3 with y | y
    · exact Or.inl y
    · exact Or.inr (ho_k h (fun j hj => by rw [wr_k (k := 7) (k2 := 5) (by decide), wr_k (k := 8) (k2 := 5) (by decide), wr_k (k := 6) (k2 := 5) (by decide), fw_k (k := 4) (k2 := 5) (by decide), wr_ne (k := 5) (hne j (by omega))]) (by rw [wr_k (k := 7) (k2 := 4) (by decide), wr_k (k := 8) (k2 := 4) (by decide), wr_k (k := 6) (k2 := 4) (by decide), fw_at]; exact n2) n1 y)
  · dsimp only [rc_icol]
    rw [wr_k (k := 7) (k2 := 6) (by decide), wr_k (k := 8) (k2 := 6) (by decide)]
    exact ra_wr (P := fun x => 0 ≤ x.toInt ∧ x.toInt ≤ 31) (by rw [fw_k (k := 4) (k2 := 6) (by decide), wr_k (k := 5) (k2 := 6) (by decide)]; exact h.icol) ⟨x0, x1⟩
  · dsimp only [rc_iS]
    intro s s0 s6
    have g := h.iS s s0 s6
    unfold rd_ fd_ at g ⊢
    rw [wr_k (k := 7) (k2 := 89) (by decide), wr_k (k := 8) (k2 := 89) (by decide), wr_k (k := 6) (k2 := 89) (by decide), fw_k (k := 4) (k2 := 89) (by decide), wr_k (k := 5) (k2 := 89) (by decide), wr_k (k := 7) (k2 := 4) (by decide), wr_k (k := 8) (k2 := 4) (by decide), wr_k (k := 6) (k2 := 4) (by decide), fw_at]
    omega
  · dsimp only [rc_ikd]
    rw [wr_k (k := 7) (k2 := 5) (by decide), wr_k (k := 8) (k2 := 5) (by decide), wr_k (k := 6) (k2 := 5) (by decide), fw_k (k := 4) (k2 := 5) (by decide)]
    exact ra_wr (P := fun x => 0 ≤ x.toInt ∧ x.toInt < 8) h.ikd ⟨by omega, by omega⟩
  · dsimp only [rc_n10]
    intro j
    rw [wr_k (k := 7) (k2 := 10) (by decide), wr_k (k := 8) (k2 := 10) (by decide), wr_k (k := 6) (k2 := 10) (by decide), fw_k (k := 4) (k2 := 10) (by decide), wr_k (k := 5) (k2 := 10) (by decide)]
    by_cases z : (j : Int) = (S 4 0).toInt
    · exact Or.inl (h.z10 j (by omega))
    · rw [wr_k (k := 7) (k2 := 5) (by decide), wr_k (k := 8) (k2 := 5) (by decide), wr_k (k := 6) (k2 := 5) (by decide), fw_k (k := 4) (k2 := 5) (by decide), wr_ne (k := 5) (hne j z)]
      exact h.n10 j
  · dsimp only [rc_n12]
    intro j
    rw [wr_k (k := 7) (k2 := 12) (by decide), wr_k (k := 8) (k2 := 12) (by decide), wr_k (k := 6) (k2 := 12) (by decide), fw_k (k := 4) (k2 := 12) (by decide), wr_k (k := 5) (k2 := 12) (by decide)]
    by_cases z : (j : Int) = (S 4 0).toInt
    · exact Or.inl (h.z12 j (by omega))
    · rw [wr_k (k := 7) (k2 := 5) (by decide), wr_k (k := 8) (k2 := 5) (by decide), wr_k (k := 6) (k2 := 5) (by decide), fw_k (k := 4) (k2 := 5) (by decide), wr_ne (k := 5) (hne j z)]
      exact h.n12 j
  · dsimp only [rc_z5]
    intro b hb
    rw [wr_k (k := 7) (k2 := 4) (by decide), wr_k (k := 8) (k2 := 4) (by decide), wr_k (k := 6) (k2 := 4) (by decide), fw_at] at hb
    rw [wr_k (k := 7) (k2 := 5) (by decide), wr_k (k := 8) (k2 := 5) (by decide), wr_k (k := 6) (k2 := 5) (by decide), fw_k (k := 4) (k2 := 5) (by decide), wr_ne (k := 5) (hne b (by omega))]
    exact h.z5 b (by omega)
  · dsimp only [rc_z6]
    intro b hb
    rw [wr_k (k := 7) (k2 := 4) (by decide), wr_k (k := 8) (k2 := 4) (by decide), wr_k (k := 6) (k2 := 4) (by decide), fw_at] at hb
    rw [wr_k (k := 7) (k2 := 6) (by decide), wr_k (k := 8) (k2 := 6) (by decide), wr_ne (k := 6) (hne b (by omega)), fw_k (k := 4) (k2 := 6) (by decide), wr_k (k := 5) (k2 := 6) (by decide)]
    exact h.z6 b (by omega)
  · dsimp only [rc_z7]
    intro b hb
    rw [wr_k (k := 7) (k2 := 4) (by decide), wr_k (k := 8) (k2 := 4) (by decide), wr_k (k := 6) (k2 := 4) (by decide), fw_at] at hb
    rw [wr_ne (k := 7) (hne b (by omega)), wr_k (k := 8) (k2 := 7) (by decide), wr_k (k := 6) (k2 := 7) (by decide), fw_k (k := 4) (k2 := 7) (by decide), wr_k (k := 5) (k2 := 7) (by decide)]
    exact h.z7 b (by omega)
  · dsimp only [rc_z8]
    intro b hb
    rw [wr_k (k := 7) (k2 := 4) (by decide), wr_k (k := 8) (k2 := 4) (by decide), wr_k (k := 6) (k2 := 4) (by decide), fw_at] at hb
    rw [wr_k (k := 7) (k2 := 8) (by decide), wr_ne (k := 8) (hne b (by omega)), wr_k (k := 6) (k2 := 8) (by decide), fw_k (k := 4) (k2 := 8) (by decide), wr_k (k := 5) (k2 := 8) (by decide)]
    exact h.z8 b (by omega)
  · dsimp only [rc_z9]
    intro b hb
    rw [wr_k (k := 7) (k2 := 4) (by decide), wr_k (k := 8) (k2 := 4) (by decide), wr_k (k := 6) (k2 := 4) (by decide), fw_at] at hb
    rw [wr_k (k := 7) (k2 := 9) (by decide), wr_k (k := 8) (k2 := 9) (by decide), wr_k (k := 6) (k2 := 9) (by decide), fw_k (k := 4) (k2 := 9) (by decide), wr_k (k := 5) (k2 := 9) (by decide)]
    exact h.z9 b (by omega)
  · dsimp only [rc_z10]
    intro b hb
    rw [wr_k (k := 7) (k2 := 4) (by decide), wr_k (k := 8) (k2 := 4) (by decide), wr_k (k := 6) (k2 := 4) (by decide), fw_at] at hb
    rw [wr_k (k := 7) (k2 := 10) (by decide), wr_k (k := 8) (k2 := 10) (by decide), wr_k (k := 6) (k2 := 10) (by decide), fw_k (k := 4) (k2 := 10) (by decide), wr_k (k := 5) (k2 := 10) (by decide)]
    exact h.z10 b (by omega)
  · dsimp only [rc_z11]
    intro b hb
    rw [wr_k (k := 7) (k2 := 4) (by decide), wr_k (k := 8) (k2 := 4) (by decide), wr_k (k := 6) (k2 := 4) (by decide), fw_at] at hb
    rw [wr_k (k := 7) (k2 := 11) (by decide), wr_k (k := 8) (k2 := 11) (by decide), wr_k (k := 6) (k2 := 11) (by decide), fw_k (k := 4) (k2 := 11) (by decide), wr_k (k := 5) (k2 := 11) (by decide)]
    exact h.z11 b (by omega)
  · dsimp only [rc_z12]
    intro b hb
    rw [wr_k (k := 7) (k2 := 4) (by decide), wr_k (k := 8) (k2 := 4) (by decide), wr_k (k := 6) (k2 := 4) (by decide), fw_at] at hb
    rw [wr_k (k := 7) (k2 := 12) (by decide), wr_k (k := 8) (k2 := 12) (by decide), wr_k (k := 6) (k2 := 12) (by decide), fw_k (k := 4) (k2 := 12) (by decide), wr_k (k := 5) (k2 := 12) (by decide)]
    exact h.z12 b (by omega)
  · dsimp only [rc_z17]
    intro b hb
    rw [wr_k (k := 7) (k2 := 4) (by decide), wr_k (k := 8) (k2 := 4) (by decide), wr_k (k := 6) (k2 := 4) (by decide), fw_at] at hb
    rw [wr_k (k := 7) (k2 := 17) (by decide), wr_k (k := 8) (k2 := 17) (by decide), wr_k (k := 6) (k2 := 17) (by decide), fw_k (k := 4) (k2 := 17) (by decide), wr_k (k := 5) (k2 := 17) (by decide)]
    exact h.z17 b (by omega)
  · dsimp only [rc_z18]
    intro b hb
    rw [wr_k (k := 7) (k2 := 4) (by decide), wr_k (k := 8) (k2 := 4) (by decide), wr_k (k := 6) (k2 := 4) (by decide), fw_at] at hb
    rw [wr_k (k := 7) (k2 := 18) (by decide), wr_k (k := 8) (k2 := 18) (by decide), wr_k (k := 6) (k2 := 18) (by decide), fw_k (k := 4) (k2 := 18) (by decide), wr_k (k := 5) (k2 := 18) (by decide)]
    exact h.z18 b (by omega)
  · dsimp only [rc_z19]
    intro b hb
    rw [wr_k (k := 7) (k2 := 4) (by decide), wr_k (k := 8) (k2 := 4) (by decide), wr_k (k := 6) (k2 := 4) (by decide), fw_at] at hb
    rw [wr_k (k := 7) (k2 := 19) (by decide), wr_k (k := 8) (k2 := 19) (by decide), wr_k (k := 6) (k2 := 19) (by decide), fw_k (k := 4) (k2 := 19) (by decide), wr_k (k := 5) (k2 := 19) (by decide)]
    exact h.z19 b (by omega)
  · dsimp only [rc_z20]
    intro b hb
    rw [wr_k (k := 7) (k2 := 4) (by decide), wr_k (k := 8) (k2 := 4) (by decide), wr_k (k := 6) (k2 := 4) (by decide), fw_at] at hb
    rw [wr_k (k := 7) (k2 := 20) (by decide), wr_k (k := 8) (k2 := 20) (by decide), wr_k (k := 6) (k2 := 20) (by decide), fw_k (k := 4) (k2 := 20) (by decide), wr_k (k := 5) (k2 := 20) (by decide)]
    exact h.z20 b (by omega)
  · dsimp only [rc_z65]
    intro b hb
    rw [wr_k (k := 7) (k2 := 4) (by decide), wr_k (k := 8) (k2 := 4) (by decide), wr_k (k := 6) (k2 := 4) (by decide), fw_at] at hb
    rw [wr_k (k := 7) (k2 := 65) (by decide), wr_k (k := 8) (k2 := 65) (by decide), wr_k (k := 6) (k2 := 65) (by decide), fw_k (k := 4) (k2 := 65) (by decide), wr_k (k := 5) (k2 := 65) (by decide)]
    exact h.z65 b (by omega)
  · dsimp only [rc_z13]
    intro b hb
    rw [wr_k (k := 7) (k2 := 4) (by decide), wr_k (k := 8) (k2 := 4) (by decide), wr_k (k := 6) (k2 := 4) (by decide), fw_at] at hb
    rw [wr_k (k := 7) (k2 := 13) (by decide), wr_k (k := 8) (k2 := 13) (by decide), wr_k (k := 6) (k2 := 13) (by decide), fw_k (k := 4) (k2 := 13) (by decide), wr_k (k := 5) (k2 := 13) (by decide)]
    exact h.z13 b (by omega)
  · dsimp only [rc_z14]
    intro b hb
    rw [wr_k (k := 7) (k2 := 4) (by decide), wr_k (k := 8) (k2 := 4) (by decide), wr_k (k := 6) (k2 := 4) (by decide), fw_at] at hb
    rw [wr_k (k := 7) (k2 := 14) (by decide), wr_k (k := 8) (k2 := 14) (by decide), wr_k (k := 6) (k2 := 14) (by decide), fw_k (k := 4) (k2 := 14) (by decide), wr_k (k := 5) (k2 := 14) (by decide)]
    exact h.z14 b (by omega)
  · dsimp only [rc_z15]
    intro b hb
    rw [wr_k (k := 7) (k2 := 4) (by decide), wr_k (k := 8) (k2 := 4) (by decide), wr_k (k := 6) (k2 := 4) (by decide), fw_at] at hb
    rw [wr_k (k := 7) (k2 := 15) (by decide), wr_k (k := 8) (k2 := 15) (by decide), wr_k (k := 6) (k2 := 15) (by decide), fw_k (k := 4) (k2 := 15) (by decide), wr_k (k := 5) (k2 := 15) (by decide)]
    exact h.z15 b (by omega)
  · dsimp only [rc_z16]
    intro b hb
    rw [wr_k (k := 7) (k2 := 4) (by decide), wr_k (k := 8) (k2 := 4) (by decide), wr_k (k := 6) (k2 := 4) (by decide), fw_at] at hb
    rw [wr_k (k := 7) (k2 := 16) (by decide), wr_k (k := 8) (k2 := 16) (by decide), wr_k (k := 6) (k2 := 16) (by decide), fw_k (k := 4) (k2 := 16) (by decide), wr_k (k := 5) (k2 := 16) (by decide)]
    exact h.z16 b (by omega)
  · dsimp only [rc_x73]
    intro b hb
    rw [fw_at] at hb
    have e4 : (X 4 0).toInt = (S 4 0).toInt := by rw [show X 4 0 = S 4 0 from h.f4]
    rw [fw_k (k := 4) (k2 := 73) (by decide), wr_k (k := 67) (k2 := 73) (by decide), wr_k (k := 62) (k2 := 73) (by decide), wr_k (k := 61) (k2 := 73) (by decide), wr_k (k := 60) (k2 := 73) (by decide)]
    exact h.x73 b (by omega)
  · dsimp only [rc_x74]
    intro b hb
    rw [fw_at] at hb
    have e4 : (X 4 0).toInt = (S 4 0).toInt := by rw [show X 4 0 = S 4 0 from h.f4]
    rw [fw_k (k := 4) (k2 := 74) (by decide), wr_k (k := 67) (k2 := 74) (by decide), wr_k (k := 62) (k2 := 74) (by decide), wr_k (k := 61) (k2 := 74) (by decide), wr_k (k := 60) (k2 := 74) (by decide)]
    exact h.x74 b (by omega)
  · dsimp only [rc_x75]
    intro b hb
    rw [fw_at] at hb
    have e4 : (X 4 0).toInt = (S 4 0).toInt := by rw [show X 4 0 = S 4 0 from h.f4]
    rw [fw_k (k := 4) (k2 := 75) (by decide), wr_k (k := 67) (k2 := 75) (by decide), wr_k (k := 62) (k2 := 75) (by decide), wr_k (k := 61) (k2 := 75) (by decide), wr_k (k := 60) (k2 := 75) (by decide)]
    exact h.x75 b (by omega)
  · dsimp only [rc_x76]
    intro b hb
    rw [fw_at] at hb
    have e4 : (X 4 0).toInt = (S 4 0).toInt := by rw [show X 4 0 = S 4 0 from h.f4]
    rw [fw_k (k := 4) (k2 := 76) (by decide), wr_k (k := 67) (k2 := 76) (by decide), wr_k (k := 62) (k2 := 76) (by decide), wr_k (k := 61) (k2 := 76) (by decide), wr_k (k := 60) (k2 := 76) (by decide)]
    exact h.x76 b (by omega)
  · dsimp only [rc_x80]
    intro b hb
    rw [fw_at] at hb
    have e4 : (X 4 0).toInt = (S 4 0).toInt := by rw [show X 4 0 = S 4 0 from h.f4]
    rw [fw_k (k := 4) (k2 := 80) (by decide), wr_k (k := 67) (k2 := 80) (by decide), wr_k (k := 62) (k2 := 80) (by decide), wr_k (k := 61) (k2 := 80) (by decide), wr_k (k := 60) (k2 := 80) (by decide)]
    exact h.x80 b (by omega)
theorem rb_manB (h : RC X S) (s : Int32) (q : Int32) (i : Int32) (c : ¬ fd_ S 4 = 120) : rr_ [4, 60, 77, 78, 79] [4, 5, 17, 18, 19, 20] X S (fw_ (wr_ (wr_ (wr_ (wr_ X 60 (fd_ S 4) 7) 77 (fd_ S 4) s) 78 (fd_ S 4) q) 79 (fd_ S 4) i) 4 (fd_ S 4 + 1)) (wr_ (wr_ (wr_ (wr_ (fw_ (wr_ S 5 (fd_ S 4) 7) 4 (fd_ S 4 + 1)) 17 (fd_ S 4) s) 18 (fd_ S 4) q) 19 (fd_ S 4) i) 20 (fd_ S 4) 1) := by
  obtain ⟨n0, n1, n2, n3⟩ := nw_t h c
  have n2' : (S 4 0 + 1).toInt = (S 4 0).toInt + 1 := n2
  have hne : ∀ j : Nat, (j : Int) ≠ (S 4 0).toInt → j ≠ (fd_ S 4).toNatClampNeg := fun j a b => by omega
  refine rr_.mk ((((((fr_.rf X).wr (by decide)).wr (by decide)).wr (by decide)).wr (by decide)).fw (by decide)) (((((((fr_.rf S).wr (by decide)).fw (by decide)).wr (by decide)).wr (by decide)).wr (by decide)).wr (by decide)) h 2658455875203488133415714017496907788 (by decide +kernel) ⟨?_, ?_, ?_, ?_, ?_, ?_, ?_, ?_, ?_, ?_, ?_, ?_, ?_, ?_, ?_, ?_, ?_, ?_, ?_, ?_, ?_, ?_, ?_, ?_, ?_, ?_, ?_, ?_, ?_, ?_, ?_, ?_, ?_, ?_, ?_, trivial⟩
  · dsimp only [rc_p]
    rw [wr_k (k := 20) (k2 := 4) (by decide), wr_k (k := 19) (k2 := 4) (by decide), wr_k (k := 18) (k2 := 4) (by decide), wr_k (k := 17) (k2 := 4) (by decide)]
    exact mm_up_p (by rw [wr_k (k := 79) (k2 := 4) (by decide), wr_k (k := 78) (k2 := 4) (by decide), wr_k (k := 77) (k2 := 4) (by decide), wr_k (k := 60) (k2 := 4) (by decide), wr_k (k := 5) (k2 := 4) (by decide)]; exact h.p4)
  · dsimp only [rc_p]
    rw [fw_k (k := 4) (k2 := 60) (by decide), wr_k (k := 79) (k2 := 60) (by decide), wr_k (k := 78) (k2 := 60) (by decide), wr_k (k := 77) (k2 := 60) (by decide), wr_k (k := 20) (k2 := 5) (by decide), wr_k (k := 19) (k2 := 5) (by decide), wr_k (k := 18) (k2 := 5) (by decide), wr_k (k := 17) (k2 := 5) (by decide), fw_k (k := 4) (k2 := 5) (by decide)]
    exact mm_up_p (by exact h.p60)
  · dsimp only [rc_p]
    rw [fw_k (k := 4) (k2 := 77) (by decide), wr_k (k := 79) (k2 := 77) (by decide), wr_k (k := 78) (k2 := 77) (by decide), wr_k (k := 20) (k2 := 17) (by decide), wr_k (k := 19) (k2 := 17) (by decide), wr_k (k := 18) (k2 := 17) (by decide)]
    exact mm_up_p (by rw [wr_k (k := 60) (k2 := 77) (by decide), fw_k (k := 4) (k2 := 17) (by decide), wr_k (k := 5) (k2 := 17) (by decide)]; exact h.p77)
  · dsimp only [rc_p]
    rw [fw_k (k := 4) (k2 := 78) (by decide), wr_k (k := 79) (k2 := 78) (by decide), wr_k (k := 20) (k2 := 18) (by decide), wr_k (k := 19) (k2 := 18) (by decide)]
    exact mm_up_p (by rw [wr_k (k := 77) (k2 := 78) (by decide), wr_k (k := 60) (k2 := 78) (by decide), wr_k (k := 17) (k2 := 18) (by decide), fw_k (k := 4) (k2 := 18) (by decide), wr_k (k := 5) (k2 := 18) (by decide)]; exact h.p78)
  · dsimp only [rc_p]
    rw [fw_k (k := 4) (k2 := 79) (by decide), wr_k (k := 20) (k2 := 19) (by decide)]
    exact mm_up_p (by rw [wr_k (k := 78) (k2 := 79) (by decide), wr_k (k := 77) (k2 := 79) (by decide), wr_k (k := 60) (k2 := 79) (by decide), wr_k (k := 18) (k2 := 19) (by decide), wr_k (k := 17) (k2 := 19) (by decide), fw_k (k := 4) (k2 := 19) (by decide), wr_k (k := 5) (k2 := 19) (by decide)]; exact h.p79)
  · dsimp only [rc_up]
    intro j
    by_cases z : (j : Int) = (S 4 0).toInt
    · have hj : j = (fd_ S 4).toNatClampNeg := by omega
      rw [wr_at (k := 20) hj, wr_k (k := 20) (k2 := 5) (by decide), wr_k (k := 19) (k2 := 5) (by decide), wr_k (k := 18) (k2 := 5) (by decide), wr_k (k := 17) (k2 := 5) (by decide), fw_k (k := 4) (k2 := 5) (by decide), wr_at (k := 5) hj, if_pos rfl, fw_k (k := 4) (k2 := 80) (by decide), wr_k (k := 79) (k2 := 80) (by decide), wr_k (k := 78) (k2 := 80) (by decide), wr_k (k := 77) (k2 := 80) (by decide), wr_k (k := 60) (k2 := 80) (by decide), h.x80 j (by rw [show X 4 0 = S 4 0 from h.f4]; omega), if_pos rfl]
    · rw [wr_ne (k := 20) (hne j z), wr_k (k := 19) (k2 := 20) (by decide), wr_k (k := 18) (k2 := 20) (by decide), wr_k (k := 17) (k2 := 20) (by decide), fw_k (k := 4) (k2 := 20) (by decide), wr_k (k := 5) (k2 := 20) (by decide), wr_k (k := 20) (k2 := 5) (by decide), wr_k (k := 19) (k2 := 5) (by decide), wr_k (k := 18) (k2 := 5) (by decide), wr_k (k := 17) (k2 := 5) (by decide), fw_k (k := 4) (k2 := 5) (by decide), wr_ne (k := 5) (hne j z), fw_k (k := 4) (k2 := 80) (by decide), wr_k (k := 79) (k2 := 80) (by decide), wr_k (k := 78) (k2 := 80) (by decide), wr_k (k := 77) (k2 := 80) (by decide), wr_k (k := 60) (k2 := 80) (by decide)]
      exact h.up j
  · dsimp only [rc_shel]
    have sh := h.shel
    rw [wr_k (k := 20) (k2 := 21) (by decide), wr_k (k := 19) (k2 := 21) (by decide), wr_k (k := 18) (k2 := 21) (by decide), wr_k (k := 17) (k2 := 21) (by decide), fw_k (k := 4) (k2 := 21) (by decide), wr_k (k := 5) (k2 := 21) (by decide), wr_k (k := 20) (k2 := 22) (by decide), wr_k (k := 19) (k2 := 22) (by decide), wr_k (k := 18) (k2 := 22) (by decide), wr_k (k := 17) (k2 := 22) (by decide), fw_k (k := 4) (k2 := 22) (by decide), wr_k (k := 5) (k2 := 22) (by decide), wr_k (k := 20) (k2 := 23) (by decide), wr_k (k := 19) (k2 := 23) (by decide), wr_k (k := 18) (k2 := 23) (by decide), wr_k (k := 17) (k2 := 23) (by decide), fw_k (k := 4) (k2 := 23) (by decide), wr_k (k := 5) (k2 := 23) (by decide), wr_k (k := 20) (k2 := 24) (by decide), wr_k (k := 19) (k2 := 24) (by decide), wr_k (k := 18) (k2 := 24) (by decide), wr_k (k := 17) (k2 := 24) (by decide), fw_k (k := 4) (k2 := 24) (by decide), wr_k (k := 5) (k2 := 24) (by decide), wr_k (k := 20) (k2 := 25) (by decide), wr_k (k := 19) (k2 := 25) (by decide), wr_k (k := 18) (k2 := 25) (by decide), wr_k (k := 17) (k2 := 25) (by decide), fw_k (k := 4) (k2 := 25) (by decide), wr_k (k := 5) (k2 := 25) (by decide), wr_k (k := 20) (k2 := 4) (by decide), wr_k (k := 19) (k2 := 4) (by decide), wr_k (k := 18) (k2 := 4) (by decide), wr_k (k := 17) (k2 := 4) (by decide), fw_at]
    refine ⟨fun s0 => ?_, fun b h6 => ?_⟩
    · obtain ⟨a1, a2, a3, a4, a5, a6⟩ := sh.1 s0
      rw [wr_k (k := 20) (k2 := 5) (by decide), wr_k (k := 19) (k2 := 5) (by decide), wr_k (k := 18) (k2 := 5) (by decide), wr_k (k := 17) (k2 := 5) (by decide), fw_k (k := 4) (k2 := 5) (by decide), wr_ne (k := 5) (hne _ (by rw [ww_cl]; omega)), fw_k (k := 4) (k2 := 73) (by decide), wr_k (k := 79) (k2 := 73) (by decide), wr_k (k := 78) (k2 := 73) (by decide), wr_k (k := 77) (k2 := 73) (by decide), wr_k (k := 60) (k2 := 73) (by decide), fw_k (k := 4) (k2 := 74) (by decide), wr_k (k := 79) (k2 := 74) (by decide), wr_k (k := 78) (k2 := 74) (by decide), wr_k (k := 77) (k2 := 74) (by decide), wr_k (k := 60) (k2 := 74) (by decide), fw_k (k := 4) (k2 := 75) (by decide), wr_k (k := 79) (k2 := 75) (by decide), wr_k (k := 78) (k2 := 75) (by decide), wr_k (k := 77) (k2 := 75) (by decide), wr_k (k := 60) (k2 := 75) (by decide), fw_k (k := 4) (k2 := 76) (by decide), wr_k (k := 79) (k2 := 76) (by decide), wr_k (k := 78) (k2 := 76) (by decide), wr_k (k := 77) (k2 := 76) (by decide), wr_k (k := 60) (k2 := 76) (by decide)]
      exact ⟨by omega, a2, a3, a4, a5, a6⟩
    · by_cases z : (b : Int) = (S 4 0).toInt
      · rw [wr_k (k := 20) (k2 := 5) (by decide), wr_k (k := 19) (k2 := 5) (by decide), wr_k (k := 18) (k2 := 5) (by decide), wr_k (k := 17) (k2 := 5) (by decide), fw_k (k := 4) (k2 := 5) (by decide), wr_at (k := 5) (show b = (fd_ S 4).toNatClampNeg by omega)] at h6
        exact absurd h6 (by decide)
      · rw [wr_k (k := 20) (k2 := 5) (by decide), wr_k (k := 19) (k2 := 5) (by decide), wr_k (k := 18) (k2 := 5) (by decide), wr_k (k := 17) (k2 := 5) (by decide), fw_k (k := 4) (k2 := 5) (by decide), wr_ne (k := 5) (hne b z)] at h6
        exact sh.2 b h6
  · dsimp only [rc_iB]
    refine ⟨?_, ?_⟩
    · show 0 ≤ (_ : Int32).toInt
      unfold fd_
      rw [wr_k (k := 20) (k2 := 4) (by decide), wr_k (k := 19) (k2 := 4) (by decide), wr_k (k := 18) (k2 := 4) (by decide), wr_k (k := 17) (k2 := 4) (by decide), fw_at]
      omega
    · unfold fd_
      rw [wr_k (k := 20) (k2 := 4) (by decide), wr_k (k := 19) (k2 := 4) (by decide), wr_k (k := 18) (k2 := 4) (by decide), wr_k (k := 17) (k2 := 4) (by decide), fw_at]
      omega
  · dsimp only [rc_iH]
    intro m m0 m3
    unfold rd_
    rw [wr_k (k := 20) (k2 := 27) (by decide), wr_k (k := 19) (k2 := 27) (by decide), wr_k (k := 18) (k2 := 27) (by decide), wr_k (k := 17) (k2 := 27) (by decide), fw_k (k := 4) (k2 := 27) (by decide), wr_k (k := 5) (k2 := 27) (by decide)]
    rcases h.iH m m0 m3 with y | y
    · exact Or.inl y
    · exact Or.inr (ho_k h (fun j hj => by rw [wr_k (k := 20) (k2 := 5) (by decide), wr_k (k := 19) (k2 := 5) (by decide), wr_k (k := 18) (k2 := 5) (by decide), wr_k (k := 17) (k2 := 5) (by decide), fw_k (k := 4) (k2 := 5) (by decide), wr_ne (k := 5) (hne j (by omega))]) (by rw [wr_k (k := 20) (k2 := 4) (by decide), wr_k (k := 19) (k2 := 4) (by decide), wr_k (k := 18) (k2 := 4) (by decide), wr_k (k := 17) (k2 := 4) (by decide), fw_at]; exact n2) n1 y)
  · dsimp only [rc_iS]
    intro s s0 s6
    have g := h.iS s s0 s6
    unfold rd_ fd_ at g ⊢
    rw [wr_k (k := 20) (k2 := 89) (by decide), wr_k (k := 19) (k2 := 89) (by decide), wr_k (k := 18) (k2 := 89) (by decide), wr_k (k := 17) (k2 := 89) (by decide), fw_k (k := 4) (k2 := 89) (by decide), wr_k (k := 5) (k2 := 89) (by decide), wr_k (k := 20) (k2 := 4) (by decide), wr_k (k := 19) (k2 := 4) (by decide), wr_k (k := 18) (k2 := 4) (by decide), wr_k (k := 17) (k2 := 4) (by decide), fw_at]
    omega
  · dsimp only [rc_ikd]
    rw [wr_k (k := 20) (k2 := 5) (by decide), wr_k (k := 19) (k2 := 5) (by decide), wr_k (k := 18) (k2 := 5) (by decide), wr_k (k := 17) (k2 := 5) (by decide), fw_k (k := 4) (k2 := 5) (by decide)]
    exact ra_wr (P := fun x => 0 ≤ x.toInt ∧ x.toInt < 8) h.ikd ⟨by decide, by decide⟩
  · dsimp only [rc_n10]
    intro j
    rw [wr_k (k := 20) (k2 := 10) (by decide), wr_k (k := 19) (k2 := 10) (by decide), wr_k (k := 18) (k2 := 10) (by decide), wr_k (k := 17) (k2 := 10) (by decide), fw_k (k := 4) (k2 := 10) (by decide), wr_k (k := 5) (k2 := 10) (by decide)]
    by_cases z : (j : Int) = (S 4 0).toInt
    · exact Or.inl (h.z10 j (by omega))
    · rw [wr_k (k := 20) (k2 := 5) (by decide), wr_k (k := 19) (k2 := 5) (by decide), wr_k (k := 18) (k2 := 5) (by decide), wr_k (k := 17) (k2 := 5) (by decide), fw_k (k := 4) (k2 := 5) (by decide), wr_ne (k := 5) (hne j z)]
      exact h.n10 j
  · dsimp only [rc_n12]
    intro j
    rw [wr_k (k := 20) (k2 := 12) (by decide), wr_k (k := 19) (k2 := 12) (by decide), wr_k (k := 18) (k2 := 12) (by decide), wr_k (k := 17) (k2 := 12) (by decide), fw_k (k := 4) (k2 := 12) (by decide), wr_k (k := 5) (k2 := 12) (by decide)]
    by_cases z : (j : Int) = (S 4 0).toInt
    · exact Or.inl (h.z12 j (by omega))
    · rw [wr_k (k := 20) (k2 := 5) (by decide), wr_k (k := 19) (k2 := 5) (by decide), wr_k (k := 18) (k2 := 5) (by decide), wr_k (k := 17) (k2 := 5) (by decide), fw_k (k := 4) (k2 := 5) (by decide), wr_ne (k := 5) (hne j z)]
      exact h.n12 j
  · dsimp only [rc_z5]
    intro b hb
    rw [wr_k (k := 20) (k2 := 4) (by decide), wr_k (k := 19) (k2 := 4) (by decide), wr_k (k := 18) (k2 := 4) (by decide), wr_k (k := 17) (k2 := 4) (by decide), fw_at] at hb
    rw [wr_k (k := 20) (k2 := 5) (by decide), wr_k (k := 19) (k2 := 5) (by decide), wr_k (k := 18) (k2 := 5) (by decide), wr_k (k := 17) (k2 := 5) (by decide), fw_k (k := 4) (k2 := 5) (by decide), wr_ne (k := 5) (hne b (by omega))]
    exact h.z5 b (by omega)
  · dsimp only [rc_z6]
    intro b hb
    rw [wr_k (k := 20) (k2 := 4) (by decide), wr_k (k := 19) (k2 := 4) (by decide), wr_k (k := 18) (k2 := 4) (by decide), wr_k (k := 17) (k2 := 4) (by decide), fw_at] at hb
    rw [wr_k (k := 20) (k2 := 6) (by decide), wr_k (k := 19) (k2 := 6) (by decide), wr_k (k := 18) (k2 := 6) (by decide), wr_k (k := 17) (k2 := 6) (by decide), fw_k (k := 4) (k2 := 6) (by decide), wr_k (k := 5) (k2 := 6) (by decide)]
    exact h.z6 b (by omega)
  · dsimp only [rc_z7]
    intro b hb
    rw [wr_k (k := 20) (k2 := 4) (by decide), wr_k (k := 19) (k2 := 4) (by decide), wr_k (k := 18) (k2 := 4) (by decide), wr_k (k := 17) (k2 := 4) (by decide), fw_at] at hb
    rw [wr_k (k := 20) (k2 := 7) (by decide), wr_k (k := 19) (k2 := 7) (by decide), wr_k (k := 18) (k2 := 7) (by decide), wr_k (k := 17) (k2 := 7) (by decide), fw_k (k := 4) (k2 := 7) (by decide), wr_k (k := 5) (k2 := 7) (by decide)]
    exact h.z7 b (by omega)
  · dsimp only [rc_z8]
    intro b hb
    rw [wr_k (k := 20) (k2 := 4) (by decide), wr_k (k := 19) (k2 := 4) (by decide), wr_k (k := 18) (k2 := 4) (by decide), wr_k (k := 17) (k2 := 4) (by decide), fw_at] at hb
    rw [wr_k (k := 20) (k2 := 8) (by decide), wr_k (k := 19) (k2 := 8) (by decide), wr_k (k := 18) (k2 := 8) (by decide), wr_k (k := 17) (k2 := 8) (by decide), fw_k (k := 4) (k2 := 8) (by decide), wr_k (k := 5) (k2 := 8) (by decide)]
    exact h.z8 b (by omega)
  · dsimp only [rc_z9]
    intro b hb
    rw [wr_k (k := 20) (k2 := 4) (by decide), wr_k (k := 19) (k2 := 4) (by decide), wr_k (k := 18) (k2 := 4) (by decide), wr_k (k := 17) (k2 := 4) (by decide), fw_at] at hb
    rw [wr_k (k := 20) (k2 := 9) (by decide), wr_k (k := 19) (k2 := 9) (by decide), wr_k (k := 18) (k2 := 9) (by decide), wr_k (k := 17) (k2 := 9) (by decide), fw_k (k := 4) (k2 := 9) (by decide), wr_k (k := 5) (k2 := 9) (by decide)]
    exact h.z9 b (by omega)
  · dsimp only [rc_z10]
    intro b hb
    rw [wr_k (k := 20) (k2 := 4) (by decide), wr_k (k := 19) (k2 := 4) (by decide), wr_k (k := 18) (k2 := 4) (by decide), wr_k (k := 17) (k2 := 4) (by decide), fw_at] at hb
    rw [wr_k (k := 20) (k2 := 10) (by decide), wr_k (k := 19) (k2 := 10) (by decide), wr_k (k := 18) (k2 := 10) (by decide), wr_k (k := 17) (k2 := 10) (by decide), fw_k (k := 4) (k2 := 10) (by decide), wr_k (k := 5) (k2 := 10) (by decide)]
    exact h.z10 b (by omega)
  · dsimp only [rc_z11]
    intro b hb
    rw [wr_k (k := 20) (k2 := 4) (by decide), wr_k (k := 19) (k2 := 4) (by decide), wr_k (k := 18) (k2 := 4) (by decide), wr_k (k := 17) (k2 := 4) (by decide), fw_at] at hb
    rw [wr_k (k := 20) (k2 := 11) (by decide), wr_k (k := 19) (k2 := 11) (by decide), wr_k (k := 18) (k2 := 11) (by decide), wr_k (k := 17) (k2 := 11) (by decide), fw_k (k := 4) (k2 := 11) (by decide), wr_k (k := 5) (k2 := 11) (by decide)]
    exact h.z11 b (by omega)
  · dsimp only [rc_z12]
    intro b hb
    rw [wr_k (k := 20) (k2 := 4) (by decide), wr_k (k := 19) (k2 := 4) (by decide), wr_k (k := 18) (k2 := 4) (by decide), wr_k (k := 17) (k2 := 4) (by decide), fw_at] at hb
    rw [wr_k (k := 20) (k2 := 12) (by decide), wr_k (k := 19) (k2 := 12) (by decide), wr_k (k := 18) (k2 := 12) (by decide), wr_k (k := 17) (k2 := 12) (by decide), fw_k (k := 4) (k2 := 12) (by decide), wr_k (k := 5) (k2 := 12) (by decide)]
    exact h.z12 b (by omega)
  · dsimp only [rc_z17]
    intro b hb
    rw [wr_k (k := 20) (k2 := 4) (by decide), wr_k (k := 19) (k2 := 4) (by decide), wr_k (k := 18) (k2 := 4) (by decide), wr_k (k := 17) (k2 := 4) (by decide), fw_at] at hb
    rw [wr_k (k := 20) (k2 := 17) (by decide), wr_k (k := 19) (k2 := 17) (by decide), wr_k (k := 18) (k2 := 17) (by decide), wr_ne (k := 17) (hne b (by omega)), fw_k (k := 4) (k2 := 17) (by decide), wr_k (k := 5) (k2 := 17) (by decide)]
    exact h.z17 b (by omega)
  · dsimp only [rc_z18]
    intro b hb
    rw [wr_k (k := 20) (k2 := 4) (by decide), wr_k (k := 19) (k2 := 4) (by decide), wr_k (k := 18) (k2 := 4) (by decide), wr_k (k := 17) (k2 := 4) (by decide), fw_at] at hb
    rw [wr_k (k := 20) (k2 := 18) (by decide), wr_k (k := 19) (k2 := 18) (by decide), wr_ne (k := 18) (hne b (by omega)), wr_k (k := 17) (k2 := 18) (by decide), fw_k (k := 4) (k2 := 18) (by decide), wr_k (k := 5) (k2 := 18) (by decide)]
    exact h.z18 b (by omega)
  · dsimp only [rc_z19]
    intro b hb
    rw [wr_k (k := 20) (k2 := 4) (by decide), wr_k (k := 19) (k2 := 4) (by decide), wr_k (k := 18) (k2 := 4) (by decide), wr_k (k := 17) (k2 := 4) (by decide), fw_at] at hb
    rw [wr_k (k := 20) (k2 := 19) (by decide), wr_ne (k := 19) (hne b (by omega)), wr_k (k := 18) (k2 := 19) (by decide), wr_k (k := 17) (k2 := 19) (by decide), fw_k (k := 4) (k2 := 19) (by decide), wr_k (k := 5) (k2 := 19) (by decide)]
    exact h.z19 b (by omega)
  · dsimp only [rc_z20]
    intro b hb
    rw [wr_k (k := 20) (k2 := 4) (by decide), wr_k (k := 19) (k2 := 4) (by decide), wr_k (k := 18) (k2 := 4) (by decide), wr_k (k := 17) (k2 := 4) (by decide), fw_at] at hb
    rw [wr_ne (k := 20) (hne b (by omega)), wr_k (k := 19) (k2 := 20) (by decide), wr_k (k := 18) (k2 := 20) (by decide), wr_k (k := 17) (k2 := 20) (by decide), fw_k (k := 4) (k2 := 20) (by decide), wr_k (k := 5) (k2 := 20) (by decide)]
    exact h.z20 b (by omega)
  · dsimp only [rc_z65]
    intro b hb
    rw [wr_k (k := 20) (k2 := 4) (by decide), wr_k (k := 19) (k2 := 4) (by decide), wr_k (k := 18) (k2 := 4) (by decide), wr_k (k := 17) (k2 := 4) (by decide), fw_at] at hb
    rw [wr_k (k := 20) (k2 := 65) (by decide), wr_k (k := 19) (k2 := 65) (by decide), wr_k (k := 18) (k2 := 65) (by decide), wr_k (k := 17) (k2 := 65) (by decide), fw_k (k := 4) (k2 := 65) (by decide), wr_k (k := 5) (k2 := 65) (by decide)]
    exact h.z65 b (by omega)
  · dsimp only [rc_z13]
    intro b hb
    rw [wr_k (k := 20) (k2 := 4) (by decide), wr_k (k := 19) (k2 := 4) (by decide), wr_k (k := 18) (k2 := 4) (by decide), wr_k (k := 17) (k2 := 4) (by decide), fw_at] at hb
    rw [wr_k (k := 20) (k2 := 13) (by decide), wr_k (k := 19) (k2 := 13) (by decide), wr_k (k := 18) (k2 := 13) (by decide), wr_k (k := 17) (k2 := 13) (by decide), fw_k (k := 4) (k2 := 13) (by decide), wr_k (k := 5) (k2 := 13) (by decide)]
    exact h.z13 b (by omega)
  · dsimp only [rc_z14]
    intro b hb
    rw [wr_k (k := 20) (k2 := 4) (by decide), wr_k (k := 19) (k2 := 4) (by decide), wr_k (k := 18) (k2 := 4) (by decide), wr_k (k := 17) (k2 := 4) (by decide), fw_at] at hb
    rw [wr_k (k := 20) (k2 := 14) (by decide), wr_k (k := 19) (k2 := 14) (by decide), wr_k (k := 18) (k2 := 14) (by decide), wr_k (k := 17) (k2 := 14) (by decide), fw_k (k := 4) (k2 := 14) (by decide), wr_k (k := 5) (k2 := 14) (by decide)]
    exact h.z14 b (by omega)
  · dsimp only [rc_z15]
    intro b hb
    rw [wr_k (k := 20) (k2 := 4) (by decide), wr_k (k := 19) (k2 := 4) (by decide), wr_k (k := 18) (k2 := 4) (by decide), wr_k (k := 17) (k2 := 4) (by decide), fw_at] at hb
    rw [wr_k (k := 20) (k2 := 15) (by decide), wr_k (k := 19) (k2 := 15) (by decide), wr_k (k := 18) (k2 := 15) (by decide), wr_k (k := 17) (k2 := 15) (by decide), fw_k (k := 4) (k2 := 15) (by decide), wr_k (k := 5) (k2 := 15) (by decide)]
    exact h.z15 b (by omega)
  · dsimp only [rc_z16]
    intro b hb
    rw [wr_k (k := 20) (k2 := 4) (by decide), wr_k (k := 19) (k2 := 4) (by decide), wr_k (k := 18) (k2 := 4) (by decide), wr_k (k := 17) (k2 := 4) (by decide), fw_at] at hb
    rw [wr_k (k := 20) (k2 := 16) (by decide), wr_k (k := 19) (k2 := 16) (by decide), wr_k (k := 18) (k2 := 16) (by decide), wr_k (k := 17) (k2 := 16) (by decide), fw_k (k := 4) (k2 := 16) (by decide), wr_k (k := 5) (k2 := 16) (by decide)]
    exact h.z16 b (by omega)
  · dsimp only [rc_x73]
    intro b hb
    rw [fw_at] at hb
    have e4 : (X 4 0).toInt = (S 4 0).toInt := by rw [show X 4 0 = S 4 0 from h.f4]
    rw [fw_k (k := 4) (k2 := 73) (by decide), wr_k (k := 79) (k2 := 73) (by decide), wr_k (k := 78) (k2 := 73) (by decide), wr_k (k := 77) (k2 := 73) (by decide), wr_k (k := 60) (k2 := 73) (by decide)]
    exact h.x73 b (by omega)
  · dsimp only [rc_x74]
    intro b hb
    rw [fw_at] at hb
    have e4 : (X 4 0).toInt = (S 4 0).toInt := by rw [show X 4 0 = S 4 0 from h.f4]
    rw [fw_k (k := 4) (k2 := 74) (by decide), wr_k (k := 79) (k2 := 74) (by decide), wr_k (k := 78) (k2 := 74) (by decide), wr_k (k := 77) (k2 := 74) (by decide), wr_k (k := 60) (k2 := 74) (by decide)]
    exact h.x74 b (by omega)
  · dsimp only [rc_x75]
    intro b hb
    rw [fw_at] at hb
    have e4 : (X 4 0).toInt = (S 4 0).toInt := by rw [show X 4 0 = S 4 0 from h.f4]
    rw [fw_k (k := 4) (k2 := 75) (by decide), wr_k (k := 79) (k2 := 75) (by decide), wr_k (k := 78) (k2 := 75) (by decide), wr_k (k := 77) (k2 := 75) (by decide), wr_k (k := 60) (k2 := 75) (by decide)]
    exact h.x75 b (by omega)
  · dsimp only [rc_x76]
    intro b hb
    rw [fw_at] at hb
    have e4 : (X 4 0).toInt = (S 4 0).toInt := by rw [show X 4 0 = S 4 0 from h.f4]
    rw [fw_k (k := 4) (k2 := 76) (by decide), wr_k (k := 79) (k2 := 76) (by decide), wr_k (k := 78) (k2 := 76) (by decide), wr_k (k := 77) (k2 := 76) (by decide), wr_k (k := 60) (k2 := 76) (by decide)]
    exact h.x76 b (by omega)
  · dsimp only [rc_x80]
    intro b hb
    rw [fw_at] at hb
    have e4 : (X 4 0).toInt = (S 4 0).toInt := by rw [show X 4 0 = S 4 0 from h.f4]
    rw [fw_k (k := 4) (k2 := 80) (by decide), wr_k (k := 79) (k2 := 80) (by decide), wr_k (k := 78) (k2 := 80) (by decide), wr_k (k := 77) (k2 := 80) (by decide), wr_k (k := 60) (k2 := 80) (by decide)]
    exact h.x80 b (by omega)
theorem rb_shelter (h : RC X S) (u : Int32) (v : Int32) (y : Int32) (c : ¬ fd_ S 4 = 120) (hs : (S 21 0).toInt < 0) (h25 : S 25 0 = 0) : rr_ [4, 5, 60, 73, 74, 75] [4, 5, 21, 22, 23, 24] X S (fw_ (fw_ (wr_ (wr_ (wr_ (wr_ X 60 (fd_ S 4) 6) 73 (fd_ S 4) u) 74 (fd_ S 4) v) 75 (fd_ S 4) y) 5 (fd_ S 4)) 4 (fd_ S 4 + 1)) (fw_ (fw_ (fw_ (fw_ (fw_ (wr_ S 5 (fd_ S 4) 6) 4 (fd_ S 4 + 1)) 21 (fd_ S 4)) 22 u) 23 v) 24 y) := by
  obtain ⟨n0, n1, n2, n3⟩ := nw_t h c
  have n2' : (S 4 0 + 1).toInt = (S 4 0).toInt + 1 := n2
  have hne : ∀ j : Nat, (j : Int) ≠ (S 4 0).toInt → j ≠ (fd_ S 4).toNatClampNeg := fun j a b => by omega
  refine rr_.mk (((((((fr_.rf X).wr (by decide)).wr (by decide)).wr (by decide)).wr (by decide)).fw (by decide)).fw (by decide)) (((((((fr_.rf S).wr (by decide)).fw (by decide)).fw (by decide)).fw (by decide)).fw (by decide)).fw (by decide)) h 5316911866773319879223328138057613324 (by decide +kernel) ⟨?_, ?_, ?_, ?_, ?_, ?_, ?_, ?_, ?_, ?_, ?_, ?_, ?_, ?_, ?_, ?_, ?_, ?_, ?_, ?_, ?_, ?_, ?_, ?_, ?_, ?_, ?_, ?_, ?_, ?_, ?_, ?_, ?_, ?_, trivial⟩
  · dsimp only [rc_p]
    rw [fw_k (k := 24) (k2 := 4) (by decide), fw_k (k := 23) (k2 := 4) (by decide), fw_k (k := 22) (k2 := 4) (by decide), fw_k (k := 21) (k2 := 4) (by decide)]
    exact mm_up_p (by rw [fw_k (k := 5) (k2 := 4) (by decide), wr_k (k := 75) (k2 := 4) (by decide), wr_k (k := 74) (k2 := 4) (by decide), wr_k (k := 73) (k2 := 4) (by decide), wr_k (k := 60) (k2 := 4) (by decide), wr_k (k := 5) (k2 := 4) (by decide)]; exact h.p4)
  · dsimp only [rc_p]
    rw [fw_k (k := 4) (k2 := 60) (by decide), fw_k (k := 5) (k2 := 60) (by decide), wr_k (k := 75) (k2 := 60) (by decide), wr_k (k := 74) (k2 := 60) (by decide), wr_k (k := 73) (k2 := 60) (by decide), fw_k (k := 24) (k2 := 5) (by decide), fw_k (k := 23) (k2 := 5) (by decide), fw_k (k := 22) (k2 := 5) (by decide), fw_k (k := 21) (k2 := 5) (by decide), fw_k (k := 4) (k2 := 5) (by decide)]
    exact mm_up_p (by exact h.p60)
  · dsimp only [rc_p]
    rw [fw_k (k := 4) (k2 := 5) (by decide), fw_k (k := 24) (k2 := 21) (by decide), fw_k (k := 23) (k2 := 21) (by decide), fw_k (k := 22) (k2 := 21) (by decide)]
    exact mm_up_p (by rw [wr_k (k := 75) (k2 := 5) (by decide), wr_k (k := 74) (k2 := 5) (by decide), wr_k (k := 73) (k2 := 5) (by decide), wr_k (k := 60) (k2 := 5) (by decide), fw_k (k := 4) (k2 := 21) (by decide), wr_k (k := 5) (k2 := 21) (by decide)]; exact h.p5)
  · dsimp only [rc_up]
    intro j
    by_cases z : (j : Int) = (S 4 0).toInt
    · have hj : j = (fd_ S 4).toNatClampNeg := by omega
      rw [fw_k (k := 24) (k2 := 20) (by decide), fw_k (k := 23) (k2 := 20) (by decide), fw_k (k := 22) (k2 := 20) (by decide), fw_k (k := 21) (k2 := 20) (by decide), fw_k (k := 4) (k2 := 20) (by decide), wr_k (k := 5) (k2 := 20) (by decide), fw_k (k := 24) (k2 := 5) (by decide), fw_k (k := 23) (k2 := 5) (by decide), fw_k (k := 22) (k2 := 5) (by decide), fw_k (k := 21) (k2 := 5) (by decide), fw_k (k := 4) (k2 := 5) (by decide), wr_at (k := 5) hj, if_neg (by decide), h.z20 j (by omega)]
    · rw [fw_k (k := 24) (k2 := 20) (by decide), fw_k (k := 23) (k2 := 20) (by decide), fw_k (k := 22) (k2 := 20) (by decide), fw_k (k := 21) (k2 := 20) (by decide), fw_k (k := 4) (k2 := 20) (by decide), wr_k (k := 5) (k2 := 20) (by decide), fw_k (k := 24) (k2 := 5) (by decide), fw_k (k := 23) (k2 := 5) (by decide), fw_k (k := 22) (k2 := 5) (by decide), fw_k (k := 21) (k2 := 5) (by decide), fw_k (k := 4) (k2 := 5) (by decide), wr_ne (k := 5) (hne j z), fw_k (k := 4) (k2 := 80) (by decide), fw_k (k := 5) (k2 := 80) (by decide), wr_k (k := 75) (k2 := 80) (by decide), wr_k (k := 74) (k2 := 80) (by decide), wr_k (k := 73) (k2 := 80) (by decide), wr_k (k := 60) (k2 := 80) (by decide)]
      exact h.up j
  · dsimp only [rc_shel]
    have sh := h.shel
    have s21 : (fw_ (fw_ (fw_ (fw_ (fw_ (wr_ S 5 (fd_ S 4) 6) 4 (fd_ S 4 + 1)) 21 (fd_ S 4)) 22 u) 23 v) 24 y) 21 0 = fd_ S 4 := by rw [fw_k (k := 24) (k2 := 21) (by decide), fw_k (k := 23) (k2 := 21) (by decide), fw_k (k := 22) (k2 := 21) (by decide), fw_at]
    have x4z : (X 4 0).toInt = (S 4 0).toInt := by rw [show X 4 0 = S 4 0 from h.f4]
    rw [s21]
    refine ⟨fun s0 => ⟨?_, ?_, ?_, ?_, ?_, ?_⟩, fun b h6 => ?_⟩
    · rw [fw_k (k := 24) (k2 := 4) (by decide), fw_k (k := 23) (k2 := 4) (by decide), fw_k (k := 22) (k2 := 4) (by decide), fw_k (k := 21) (k2 := 4) (by decide), fw_at]
      have : (fd_ S 4).toInt = (S 4 0).toInt := rfl
      omega
    · rw [fw_k (k := 24) (k2 := 5) (by decide), fw_k (k := 23) (k2 := 5) (by decide), fw_k (k := 22) (k2 := 5) (by decide), fw_k (k := 21) (k2 := 5) (by decide), fw_k (k := 4) (k2 := 5) (by decide), wr_at (k := 5) rfl]
    · rw [fw_k (k := 4) (k2 := 73) (by decide), fw_k (k := 5) (k2 := 73) (by decide), wr_k (k := 75) (k2 := 73) (by decide), wr_k (k := 74) (k2 := 73) (by decide), wr_at (k := 73) rfl, fw_k (k := 24) (k2 := 22) (by decide), fw_k (k := 23) (k2 := 22) (by decide), fw_at]
    · rw [fw_k (k := 4) (k2 := 74) (by decide), fw_k (k := 5) (k2 := 74) (by decide), wr_k (k := 75) (k2 := 74) (by decide), wr_at (k := 74) rfl, fw_k (k := 24) (k2 := 23) (by decide), fw_at]
    · rw [fw_k (k := 4) (k2 := 75) (by decide), fw_k (k := 5) (k2 := 75) (by decide), wr_at (k := 75) rfl, fw_at]
    · rw [fw_k (k := 4) (k2 := 76) (by decide), fw_k (k := 5) (k2 := 76) (by decide), wr_k (k := 75) (k2 := 76) (by decide), wr_k (k := 74) (k2 := 76) (by decide), wr_k (k := 73) (k2 := 76) (by decide), wr_k (k := 60) (k2 := 76) (by decide), fw_k (k := 24) (k2 := 25) (by decide), fw_k (k := 23) (k2 := 25) (by decide), fw_k (k := 22) (k2 := 25) (by decide), fw_k (k := 21) (k2 := 25) (by decide), fw_k (k := 4) (k2 := 25) (by decide), wr_k (k := 5) (k2 := 25) (by decide), h.x76 _ (by rw [n3]; omega), h25]
    · by_cases z : (b : Int) = (S 4 0).toInt
      · have : (fd_ S 4).toInt = (S 4 0).toInt := rfl
        exact ⟨by omega, by omega⟩
      · rw [fw_k (k := 24) (k2 := 5) (by decide), fw_k (k := 23) (k2 := 5) (by decide), fw_k (k := 22) (k2 := 5) (by decide), fw_k (k := 21) (k2 := 5) (by decide), fw_k (k := 4) (k2 := 5) (by decide), wr_ne (k := 5) (hne b z)] at h6
        have := (sh.2 b h6).1
        exact absurd this (by omega)
  · dsimp only [rc_iB]
    refine ⟨?_, ?_⟩
    · show 0 ≤ (_ : Int32).toInt
      unfold fd_
      rw [fw_k (k := 24) (k2 := 4) (by decide), fw_k (k := 23) (k2 := 4) (by decide), fw_k (k := 22) (k2 := 4) (by decide), fw_k (k := 21) (k2 := 4) (by decide), fw_at]
      omega
    · unfold fd_
      rw [fw_k (k := 24) (k2 := 4) (by decide), fw_k (k := 23) (k2 := 4) (by decide), fw_k (k := 22) (k2 := 4) (by decide), fw_k (k := 21) (k2 := 4) (by decide), fw_at]
      omega
  · dsimp only [rc_iH]
    intro m m0 m3
    unfold rd_
    rw [fw_k (k := 24) (k2 := 27) (by decide), fw_k (k := 23) (k2 := 27) (by decide), fw_k (k := 22) (k2 := 27) (by decide), fw_k (k := 21) (k2 := 27) (by decide), fw_k (k := 4) (k2 := 27) (by decide), wr_k (k := 5) (k2 := 27) (by decide)]
    rcases h.iH m m0 m3 with y | y
    · exact Or.inl y
    · exact Or.inr (ho_k h (fun j hj => by rw [fw_k (k := 24) (k2 := 5) (by decide), fw_k (k := 23) (k2 := 5) (by decide), fw_k (k := 22) (k2 := 5) (by decide), fw_k (k := 21) (k2 := 5) (by decide), fw_k (k := 4) (k2 := 5) (by decide), wr_ne (k := 5) (hne j (by omega))]) (by rw [fw_k (k := 24) (k2 := 4) (by decide), fw_k (k := 23) (k2 := 4) (by decide), fw_k (k := 22) (k2 := 4) (by decide), fw_k (k := 21) (k2 := 4) (by decide), fw_at]; exact n2) n1 y)
  · dsimp only [rc_iS]
    intro s s0 s6
    have g := h.iS s s0 s6
    unfold rd_ fd_ at g ⊢
    rw [fw_k (k := 24) (k2 := 89) (by decide), fw_k (k := 23) (k2 := 89) (by decide), fw_k (k := 22) (k2 := 89) (by decide), fw_k (k := 21) (k2 := 89) (by decide), fw_k (k := 4) (k2 := 89) (by decide), wr_k (k := 5) (k2 := 89) (by decide), fw_k (k := 24) (k2 := 4) (by decide), fw_k (k := 23) (k2 := 4) (by decide), fw_k (k := 22) (k2 := 4) (by decide), fw_k (k := 21) (k2 := 4) (by decide), fw_at]
    omega
  · dsimp only [rc_ikd]
    rw [fw_k (k := 24) (k2 := 5) (by decide), fw_k (k := 23) (k2 := 5) (by decide), fw_k (k := 22) (k2 := 5) (by decide), fw_k (k := 21) (k2 := 5) (by decide), fw_k (k := 4) (k2 := 5) (by decide)]
    exact ra_wr (P := fun x => 0 ≤ x.toInt ∧ x.toInt < 8) h.ikd ⟨by decide, by decide⟩
  · dsimp only [rc_n10]
    intro j
    rw [fw_k (k := 24) (k2 := 10) (by decide), fw_k (k := 23) (k2 := 10) (by decide), fw_k (k := 22) (k2 := 10) (by decide), fw_k (k := 21) (k2 := 10) (by decide), fw_k (k := 4) (k2 := 10) (by decide), wr_k (k := 5) (k2 := 10) (by decide)]
    by_cases z : (j : Int) = (S 4 0).toInt
    · exact Or.inl (h.z10 j (by omega))
    · rw [fw_k (k := 24) (k2 := 5) (by decide), fw_k (k := 23) (k2 := 5) (by decide), fw_k (k := 22) (k2 := 5) (by decide), fw_k (k := 21) (k2 := 5) (by decide), fw_k (k := 4) (k2 := 5) (by decide), wr_ne (k := 5) (hne j z)]
      exact h.n10 j
  · dsimp only [rc_n12]
    intro j
    rw [fw_k (k := 24) (k2 := 12) (by decide), fw_k (k := 23) (k2 := 12) (by decide), fw_k (k := 22) (k2 := 12) (by decide), fw_k (k := 21) (k2 := 12) (by decide), fw_k (k := 4) (k2 := 12) (by decide), wr_k (k := 5) (k2 := 12) (by decide)]
    by_cases z : (j : Int) = (S 4 0).toInt
    · exact Or.inl (h.z12 j (by omega))
    · rw [fw_k (k := 24) (k2 := 5) (by decide), fw_k (k := 23) (k2 := 5) (by decide), fw_k (k := 22) (k2 := 5) (by decide), fw_k (k := 21) (k2 := 5) (by decide), fw_k (k := 4) (k2 := 5) (by decide), wr_ne (k := 5) (hne j z)]
      exact h.n12 j
  · dsimp only [rc_z5]
    intro b hb
    rw [fw_k (k := 24) (k2 := 4) (by decide), fw_k (k := 23) (k2 := 4) (by decide), fw_k (k := 22) (k2 := 4) (by decide), fw_k (k := 21) (k2 := 4) (by decide), fw_at] at hb
    rw [fw_k (k := 24) (k2 := 5) (by decide), fw_k (k := 23) (k2 := 5) (by decide), fw_k (k := 22) (k2 := 5) (by decide), fw_k (k := 21) (k2 := 5) (by decide), fw_k (k := 4) (k2 := 5) (by decide), wr_ne (k := 5) (hne b (by omega))]
    exact h.z5 b (by omega)
  · dsimp only [rc_z6]
    intro b hb
    rw [fw_k (k := 24) (k2 := 4) (by decide), fw_k (k := 23) (k2 := 4) (by decide), fw_k (k := 22) (k2 := 4) (by decide), fw_k (k := 21) (k2 := 4) (by decide), fw_at] at hb
    rw [fw_k (k := 24) (k2 := 6) (by decide), fw_k (k := 23) (k2 := 6) (by decide), fw_k (k := 22) (k2 := 6) (by decide), fw_k (k := 21) (k2 := 6) (by decide), fw_k (k := 4) (k2 := 6) (by decide), wr_k (k := 5) (k2 := 6) (by decide)]
    exact h.z6 b (by omega)
  · dsimp only [rc_z7]
    intro b hb
    rw [fw_k (k := 24) (k2 := 4) (by decide), fw_k (k := 23) (k2 := 4) (by decide), fw_k (k := 22) (k2 := 4) (by decide), fw_k (k := 21) (k2 := 4) (by decide), fw_at] at hb
    rw [fw_k (k := 24) (k2 := 7) (by decide), fw_k (k := 23) (k2 := 7) (by decide), fw_k (k := 22) (k2 := 7) (by decide), fw_k (k := 21) (k2 := 7) (by decide), fw_k (k := 4) (k2 := 7) (by decide), wr_k (k := 5) (k2 := 7) (by decide)]
    exact h.z7 b (by omega)
  · dsimp only [rc_z8]
    intro b hb
    rw [fw_k (k := 24) (k2 := 4) (by decide), fw_k (k := 23) (k2 := 4) (by decide), fw_k (k := 22) (k2 := 4) (by decide), fw_k (k := 21) (k2 := 4) (by decide), fw_at] at hb
    rw [fw_k (k := 24) (k2 := 8) (by decide), fw_k (k := 23) (k2 := 8) (by decide), fw_k (k := 22) (k2 := 8) (by decide), fw_k (k := 21) (k2 := 8) (by decide), fw_k (k := 4) (k2 := 8) (by decide), wr_k (k := 5) (k2 := 8) (by decide)]
    exact h.z8 b (by omega)
  · dsimp only [rc_z9]
    intro b hb
    rw [fw_k (k := 24) (k2 := 4) (by decide), fw_k (k := 23) (k2 := 4) (by decide), fw_k (k := 22) (k2 := 4) (by decide), fw_k (k := 21) (k2 := 4) (by decide), fw_at] at hb
    rw [fw_k (k := 24) (k2 := 9) (by decide), fw_k (k := 23) (k2 := 9) (by decide), fw_k (k := 22) (k2 := 9) (by decide), fw_k (k := 21) (k2 := 9) (by decide), fw_k (k := 4) (k2 := 9) (by decide), wr_k (k := 5) (k2 := 9) (by decide)]
    exact h.z9 b (by omega)
  · dsimp only [rc_z10]
    intro b hb
    rw [fw_k (k := 24) (k2 := 4) (by decide), fw_k (k := 23) (k2 := 4) (by decide), fw_k (k := 22) (k2 := 4) (by decide), fw_k (k := 21) (k2 := 4) (by decide), fw_at] at hb
    rw [fw_k (k := 24) (k2 := 10) (by decide), fw_k (k := 23) (k2 := 10) (by decide), fw_k (k := 22) (k2 := 10) (by decide), fw_k (k := 21) (k2 := 10) (by decide), fw_k (k := 4) (k2 := 10) (by decide), wr_k (k := 5) (k2 := 10) (by decide)]
    exact h.z10 b (by omega)
  · dsimp only [rc_z11]
    intro b hb
    rw [fw_k (k := 24) (k2 := 4) (by decide), fw_k (k := 23) (k2 := 4) (by decide), fw_k (k := 22) (k2 := 4) (by decide), fw_k (k := 21) (k2 := 4) (by decide), fw_at] at hb
    rw [fw_k (k := 24) (k2 := 11) (by decide), fw_k (k := 23) (k2 := 11) (by decide), fw_k (k := 22) (k2 := 11) (by decide), fw_k (k := 21) (k2 := 11) (by decide), fw_k (k := 4) (k2 := 11) (by decide), wr_k (k := 5) (k2 := 11) (by decide)]
    exact h.z11 b (by omega)
  · dsimp only [rc_z12]
    intro b hb
    rw [fw_k (k := 24) (k2 := 4) (by decide), fw_k (k := 23) (k2 := 4) (by decide), fw_k (k := 22) (k2 := 4) (by decide), fw_k (k := 21) (k2 := 4) (by decide), fw_at] at hb
    rw [fw_k (k := 24) (k2 := 12) (by decide), fw_k (k := 23) (k2 := 12) (by decide), fw_k (k := 22) (k2 := 12) (by decide), fw_k (k := 21) (k2 := 12) (by decide), fw_k (k := 4) (k2 := 12) (by decide), wr_k (k := 5) (k2 := 12) (by decide)]
    exact h.z12 b (by omega)
  · dsimp only [rc_z17]
    intro b hb
    rw [fw_k (k := 24) (k2 := 4) (by decide), fw_k (k := 23) (k2 := 4) (by decide), fw_k (k := 22) (k2 := 4) (by decide), fw_k (k := 21) (k2 := 4) (by decide), fw_at] at hb
    rw [fw_k (k := 24) (k2 := 17) (by decide), fw_k (k := 23) (k2 := 17) (by decide), fw_k (k := 22) (k2 := 17) (by decide), fw_k (k := 21) (k2 := 17) (by decide), fw_k (k := 4) (k2 := 17) (by decide), wr_k (k := 5) (k2 := 17) (by decide)]
    exact h.z17 b (by omega)
  · dsimp only [rc_z18]
    intro b hb
    rw [fw_k (k := 24) (k2 := 4) (by decide), fw_k (k := 23) (k2 := 4) (by decide), fw_k (k := 22) (k2 := 4) (by decide), fw_k (k := 21) (k2 := 4) (by decide), fw_at] at hb
    rw [fw_k (k := 24) (k2 := 18) (by decide), fw_k (k := 23) (k2 := 18) (by decide), fw_k (k := 22) (k2 := 18) (by decide), fw_k (k := 21) (k2 := 18) (by decide), fw_k (k := 4) (k2 := 18) (by decide), wr_k (k := 5) (k2 := 18) (by decide)]
    exact h.z18 b (by omega)
  · dsimp only [rc_z19]
    intro b hb
    rw [fw_k (k := 24) (k2 := 4) (by decide), fw_k (k := 23) (k2 := 4) (by decide), fw_k (k := 22) (k2 := 4) (by decide), fw_k (k := 21) (k2 := 4) (by decide), fw_at] at hb
    rw [fw_k (k := 24) (k2 := 19) (by decide), fw_k (k := 23) (k2 := 19) (by decide), fw_k (k := 22) (k2 := 19) (by decide), fw_k (k := 21) (k2 := 19) (by decide), fw_k (k := 4) (k2 := 19) (by decide), wr_k (k := 5) (k2 := 19) (by decide)]
    exact h.z19 b (by omega)
  · dsimp only [rc_z20]
    intro b hb
    rw [fw_k (k := 24) (k2 := 4) (by decide), fw_k (k := 23) (k2 := 4) (by decide), fw_k (k := 22) (k2 := 4) (by decide), fw_k (k := 21) (k2 := 4) (by decide), fw_at] at hb
    rw [fw_k (k := 24) (k2 := 20) (by decide), fw_k (k := 23) (k2 := 20) (by decide), fw_k (k := 22) (k2 := 20) (by decide), fw_k (k := 21) (k2 := 20) (by decide), fw_k (k := 4) (k2 := 20) (by decide), wr_k (k := 5) (k2 := 20) (by decide)]
    exact h.z20 b (by omega)
  · dsimp only [rc_z65]
    intro b hb
    rw [fw_k (k := 24) (k2 := 4) (by decide), fw_k (k := 23) (k2 := 4) (by decide), fw_k (k := 22) (k2 := 4) (by decide), fw_k (k := 21) (k2 := 4) (by decide), fw_at] at hb
    rw [fw_k (k := 24) (k2 := 65) (by decide), fw_k (k := 23) (k2 := 65) (by decide), fw_k (k := 22) (k2 := 65) (by decide), fw_k (k := 21) (k2 := 65) (by decide), fw_k (k := 4) (k2 := 65) (by decide), wr_k (k := 5) (k2 := 65) (by decide)]
    exact h.z65 b (by omega)
  · dsimp only [rc_z13]
    intro b hb
    rw [fw_k (k := 24) (k2 := 4) (by decide), fw_k (k := 23) (k2 := 4) (by decide), fw_k (k := 22) (k2 := 4) (by decide), fw_k (k := 21) (k2 := 4) (by decide), fw_at] at hb
    rw [fw_k (k := 24) (k2 := 13) (by decide), fw_k (k := 23) (k2 := 13) (by decide), fw_k (k := 22) (k2 := 13) (by decide), fw_k (k := 21) (k2 := 13) (by decide), fw_k (k := 4) (k2 := 13) (by decide), wr_k (k := 5) (k2 := 13) (by decide)]
    exact h.z13 b (by omega)
  · dsimp only [rc_z14]
    intro b hb
    rw [fw_k (k := 24) (k2 := 4) (by decide), fw_k (k := 23) (k2 := 4) (by decide), fw_k (k := 22) (k2 := 4) (by decide), fw_k (k := 21) (k2 := 4) (by decide), fw_at] at hb
    rw [fw_k (k := 24) (k2 := 14) (by decide), fw_k (k := 23) (k2 := 14) (by decide), fw_k (k := 22) (k2 := 14) (by decide), fw_k (k := 21) (k2 := 14) (by decide), fw_k (k := 4) (k2 := 14) (by decide), wr_k (k := 5) (k2 := 14) (by decide)]
    exact h.z14 b (by omega)
  · dsimp only [rc_z15]
    intro b hb
    rw [fw_k (k := 24) (k2 := 4) (by decide), fw_k (k := 23) (k2 := 4) (by decide), fw_k (k := 22) (k2 := 4) (by decide), fw_k (k := 21) (k2 := 4) (by decide), fw_at] at hb
    rw [fw_k (k := 24) (k2 := 15) (by decide), fw_k (k := 23) (k2 := 15) (by decide), fw_k (k := 22) (k2 := 15) (by decide), fw_k (k := 21) (k2 := 15) (by decide), fw_k (k := 4) (k2 := 15) (by decide), wr_k (k := 5) (k2 := 15) (by decide)]
    exact h.z15 b (by omega)
  · dsimp only [rc_z16]
    intro b hb
    rw [fw_k (k := 24) (k2 := 4) (by decide), fw_k (k := 23) (k2 := 4) (by decide), fw_k (k := 22) (k2 := 4) (by decide), fw_k (k := 21) (k2 := 4) (by decide), fw_at] at hb
    rw [fw_k (k := 24) (k2 := 16) (by decide), fw_k (k := 23) (k2 := 16) (by decide), fw_k (k := 22) (k2 := 16) (by decide), fw_k (k := 21) (k2 := 16) (by decide), fw_k (k := 4) (k2 := 16) (by decide), wr_k (k := 5) (k2 := 16) (by decide)]
    exact h.z16 b (by omega)
  · dsimp only [rc_x73]
    intro b hb
    rw [fw_at] at hb
    have e4 : (X 4 0).toInt = (S 4 0).toInt := by rw [show X 4 0 = S 4 0 from h.f4]
    rw [fw_k (k := 4) (k2 := 73) (by decide), fw_k (k := 5) (k2 := 73) (by decide), wr_k (k := 75) (k2 := 73) (by decide), wr_k (k := 74) (k2 := 73) (by decide), wr_ne (k := 73) (hne b (by omega)), wr_k (k := 60) (k2 := 73) (by decide)]
    exact h.x73 b (by omega)
  · dsimp only [rc_x74]
    intro b hb
    rw [fw_at] at hb
    have e4 : (X 4 0).toInt = (S 4 0).toInt := by rw [show X 4 0 = S 4 0 from h.f4]
    rw [fw_k (k := 4) (k2 := 74) (by decide), fw_k (k := 5) (k2 := 74) (by decide), wr_k (k := 75) (k2 := 74) (by decide), wr_ne (k := 74) (hne b (by omega)), wr_k (k := 73) (k2 := 74) (by decide), wr_k (k := 60) (k2 := 74) (by decide)]
    exact h.x74 b (by omega)
  · dsimp only [rc_x75]
    intro b hb
    rw [fw_at] at hb
    have e4 : (X 4 0).toInt = (S 4 0).toInt := by rw [show X 4 0 = S 4 0 from h.f4]
    rw [fw_k (k := 4) (k2 := 75) (by decide), fw_k (k := 5) (k2 := 75) (by decide), wr_ne (k := 75) (hne b (by omega)), wr_k (k := 74) (k2 := 75) (by decide), wr_k (k := 73) (k2 := 75) (by decide), wr_k (k := 60) (k2 := 75) (by decide)]
    exact h.x75 b (by omega)
  · dsimp only [rc_x76]
    intro b hb
    rw [fw_at] at hb
    have e4 : (X 4 0).toInt = (S 4 0).toInt := by rw [show X 4 0 = S 4 0 from h.f4]
    rw [fw_k (k := 4) (k2 := 76) (by decide), fw_k (k := 5) (k2 := 76) (by decide), wr_k (k := 75) (k2 := 76) (by decide), wr_k (k := 74) (k2 := 76) (by decide), wr_k (k := 73) (k2 := 76) (by decide), wr_k (k := 60) (k2 := 76) (by decide)]
    exact h.x76 b (by omega)
  · dsimp only [rc_x80]
    intro b hb
    rw [fw_at] at hb
    have e4 : (X 4 0).toInt = (S 4 0).toInt := by rw [show X 4 0 = S 4 0 from h.f4]
    rw [fw_k (k := 4) (k2 := 80) (by decide), fw_k (k := 5) (k2 := 80) (by decide), wr_k (k := 75) (k2 := 80) (by decide), wr_k (k := 74) (k2 := 80) (by decide), wr_k (k := 73) (k2 := 80) (by decide), wr_k (k := 60) (k2 := 80) (by decide)]
    exact h.x80 b (by omega)
  · dsimp only [rc_s25]
    intro z
    rw [fw_k (k := 24) (k2 := 21) (by decide), fw_k (k := 23) (k2 := 21) (by decide), fw_k (k := 22) (k2 := 21) (by decide), fw_at] at z
    have : (fd_ S 4).toInt = (S 4 0).toInt := rfl
    exact absurd z (by omega)
theorem rs_mkB (h : RC X S) (k : Int32) : (xf_mkB X k).1 = (ff_body S k).1 ∧ rr_ [4, 60] [4, 5] X S (xf_mkB X k).2 (ff_body S k).2 := by
  unfold xf_mkB ff_body xf_bo
  rw [h.f4, add_eq h]
  by_cases c1 : ff_in k 0 1 = 0
  · rw [if_pos c1, if_pos c1]; exact ⟨rfl, rr_.id h⟩
  rw [if_neg c1, if_neg c1]
  by_cases c2 : fd_ S 4 = 120
  · rw [if_pos c2, if_pos c2]; exact ⟨rfl, rr_.id h⟩
  rw [if_neg c2, if_neg c2]
  have q := ff_in_t c1
  have e1 : (1 : Int32).toInt = 1 := by decide
  rw [ww_00] at q
  have ek : (if k = 0 then (0 : Int32) else 1) = k := by
    by_cases z : k = 0
    · rw [if_pos z, z]
    · have := ww_ne z
      rw [ww_00] at this
      rw [if_neg z]
      exact ww_eq (by omega)
  rw [ek]
  exact ⟨rfl, rb_body h k c2 q.1 (by omega)⟩
theorem rs_mkH (h : RC X S) (k w : Int32) : (xf_mkH X k w).1 = (ff_hole S k w).1 ∧ rr_ [4, 60, 61, 62, 67] [4, 5, 6, 7, 8] X S (xf_mkH X k w).2 (ff_hole S k w).2 := by
  unfold xf_mkH ff_hole xf_bo
  rw [h.f4, add_eq h]
  by_cases c1 : ff_in k 2 5 = 0
  · rw [if_pos c1, if_pos c1]; exact ⟨rfl, rr_.id h⟩
  rw [if_neg c1, if_neg c1]
  by_cases c3 : w < 0
  · rw [if_pos c3, if_pos c3]; exact ⟨rfl, rr_.id h⟩
  rw [if_neg c3, if_neg c3]
  by_cases c4 : 32 ≤ w / 100
  · rw [if_pos c4, if_pos c4]; exact ⟨rfl, rr_.id h⟩
  rw [if_neg c4, if_neg c4]
  by_cases c5 : jr_ w 100 = 0
  · rw [if_pos c5, if_pos c5]; exact ⟨rfl, rr_.id h⟩
  rw [if_neg c5, if_neg c5]
  by_cases c2 : fd_ S 4 = 120
  · rw [if_pos c2, if_pos c2]; exact ⟨rfl, rr_.id h⟩
  rw [if_neg c2, if_neg c2]
  have q := ff_in_t c1
  have e2 : (2 : Int32).toInt = 2 := by decide
  have e3 : (3 : Int32).toInt = 3 := by decide
  have e4 : (4 : Int32).toInt = 4 := by decide
  have e5 : (5 : Int32).toInt = 5 := by decide
  have e32 : (32 : Int32).toInt = 32 := by decide
  have e100 : (100 : Int32).toInt = 100 := by decide
  have ek : (if k = 2 then (2 : Int32) else if k = 3 then 3 else if k = 4 then 4 else 5) = k := by
    by_cases z2 : k = 2
    · rw [if_pos z2, z2]
    rw [if_neg z2]
    by_cases z3 : k = 3
    · rw [if_pos z3, z3]
    rw [if_neg z3]
    by_cases z4 : k = 4
    · rw [if_pos z4, z4]
    rw [if_neg z4]
    have a2 := ww_ne z2; have a3 := ww_ne z3; have a4 := ww_ne z4
    exact ww_eq (by omega)
  rw [ek]
  have n3 := ww_nl0 c3
  have n4 := ww_nle c4
  have d := ww_div w 100 n3 (by rw [e100]; decide)
  rw [e100] at d
  have d0 : 0 ≤ w.toInt / 100 := Int.ediv_nonneg n3 (by decide)
  exact ⟨rfl, rb_holeB h k (w / 100) (jr_ w 100) c2 (by omega) (by omega) (by omega) (by omega)⟩
theorem rs_mkM (h : RC X S) (s w : Int32) : (xf_mkM X s w).1 = (ff_man S s w).1 ∧ rr_ [4, 60, 77, 78, 79] [4, 5, 17, 18, 19, 20] X S (xf_mkM X s w).2 (ff_man S s w).2 := by
  unfold xf_mkM ff_man xf_bo
  rw [h.f4, add_eq h]
  by_cases c1 : ff_in s 0 999 = 0
  · rw [if_pos c1, if_pos c1]; exact ⟨rfl, rr_.id h⟩
  rw [if_neg c1, if_neg c1]
  by_cases c3 : ff_in w 0 99 = 0
  · rw [if_pos c3, if_pos c3]; exact ⟨rfl, rr_.id h⟩
  rw [if_neg c3, if_neg c3]
  by_cases c2 : fd_ S 4 = 120
  · rw [if_pos c2, if_pos c2]; exact ⟨rfl, rr_.id h⟩
  rw [if_neg c2, if_neg c2]
  exact ⟨rfl, rb_manB h s (w / 10) (jr_ w 10) c2⟩
theorem rs_mkS (h : RC X S) (u y : Int32) : (xf_mkS X u y).1 = (ff_shelter S u y).1 ∧ rr_ [4, 5, 60, 73, 74, 75] [4, 5, 21, 22, 23, 24] X S (xf_mkS X u y).2 (ff_shelter S u y).2 := by
  unfold xf_mkS ff_shelter xf_bo
  rw [h.f4, h.f5, add_eq h]
  by_cases c1 : ff_isSpan u = 0
  · rw [if_pos c1, if_pos c1]; exact ⟨rfl, rr_.id h⟩
  rw [if_neg c1, if_neg c1]
  by_cases c3 : ff_in y 1 60 = 0
  · rw [if_pos c3, if_pos c3]; exact ⟨rfl, rr_.id h⟩
  rw [if_neg c3, if_neg c3]
  by_cases c4 : fd_ S 21 < 0
  rotate_left
  · rw [if_pos c4, if_neg c4]; exact ⟨rfl, rr_.id h⟩
  rw [if_neg (fun z => z c4), if_pos c4]
  by_cases c2 : fd_ S 4 = 120
  · rw [if_pos c2, if_pos c2]; exact ⟨rfl, rr_.id h⟩
  rw [if_neg c2, if_neg c2]
  have s0 : (S 21 0).toInt < 0 := ww_l0 c4
  refine ⟨?_, rb_shelter h (u / 100) (jr_ u 100) y c2 s0 (h.s25 s0)⟩
  dsimp only
  rw [fd_fn (by decide), fd_fn (by decide), fd_fn (by decide), fd_fw]
end RV5
