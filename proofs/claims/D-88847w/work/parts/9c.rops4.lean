/-! PLAIN LAWS: counts, texts in force, machines set, the capsule's men up -/
set_option maxRecDepth 100000
section RV3
variable {X S : mm_S}
theorem rb_k (h : RC X S) {k : Int32} (k0 : 0 ≤ k.toInt) (c : ¬ fd_ S 4 ≤ k) : ff_isBody S k = 1 ∧ (k + 1).toInt = k.toInt + 1 ∧ k.toInt < 120 ∧ k.toInt < (S 4 0).toInt := by
  have cl := ww_nle c
  have hB1 : (fd_ S 4).toInt ≤ 120 := h.iB.2
  exact ⟨rb_is h k0 cl, ww_a1 (by omega) k0, by omega, cl⟩
theorem rb_nhole (h : RC X S) {k : Int32} (hb : ff_isBody S k = 1) (d : ff_isHole S k = 0) : rd_ S 12 k = 0 ∧ rd_ S 10 k = 0 := by
  have hi := rb_in h (b := k) (by rw [hb]; decide)
  have no : ¬ (2 ≤ (S 5 k.toNatClampNeg).toInt ∧ (S 5 k.toNatClampNeg).toInt ≤ 5) := fun z => by
    have := rb_holed h hi.1 hi.2.1 z.1 z.2
    rw [this] at d
    exact absurd d (by decide)
  refine ⟨?_, ?_⟩
  · rcases h.n12 k.toNatClampNeg with z | z
    · exact z
    · exact absurd z no
  · rcases h.n10 k.toNatClampNeg with z | z
    · exact z
    · exact absurd z no
theorem rv_bm (h : RC X S) (fu : Nat) : ∀ n k : Int32, 0 ≤ k.toInt → xf_bm_go fu X n k = ff_menBelow_go fu S n k := by
  induction fu with
  | zero => intro n k _; rfl
  | succ fu ih =>
    intro n k k0
    unfold xf_bm_go ff_menBelow_go
    rw [h.f4]
    by_cases c : fd_ S 4 ≤ k
    · rw [if_pos c, if_pos c]
    obtain ⟨hb, k1, -, -⟩ := rb_k h k0 c
    rw [if_neg c, if_neg c, h.below, hb, if_neg (show ¬ (1 : Int32) = 0 by decide)]
    by_cases d : rd_ S 20 k = 0
    · rw [if_pos d, if_pos d, if_pos (by decide)]
      exact ih _ _ (by omega)
    · rw [if_neg d, if_neg d, if_neg (ww_nlt' (by rw [ww_00]; exact k0))]
      exact ih _ _ (by omega)
theorem rv_belowMany (h : RC X S) : xf_belowMany X = ff_menBelow S := rv_bm h 121 0 0 (by decide)
theorem rv_tm (h : RC X S) (fu : Nat) : ∀ n k : Int32, 0 ≤ k.toInt → xf_tm_go fu X n k = ff_thr_go fu S n k := by
  induction fu with
  | zero => intro n k _; rfl
  | succ fu ih =>
    intro n k k0
    unfold xf_tm_go ff_thr_go
    rw [h.f4]
    by_cases c : fd_ S 4 ≤ k
    · rw [if_pos c, if_pos c]
    obtain ⟨hb, k1, -, -⟩ := rb_k h k0 c
    rw [if_neg c, if_neg c, h.holeOf]
    by_cases d : ff_isHole S k = 0
    · rw [if_pos d, if_pos (by decide), if_pos ((h.thz k).mpr (rb_nhole h hb d).1)]
      exact ih _ _ (by omega)
    · rw [if_neg d, if_neg (ww_nlt' (by rw [ww_00]; exact k0)), h.thro]
      by_cases e : rd_ S 12 k = 0
      · rw [if_pos e, if_pos rfl, if_pos ((h.thz k).mpr e)]
        exact ih _ _ (by omega)
      · rw [if_neg e, if_neg (show ¬ (1 : Int32) = 0 by decide), if_neg (fun z => e ((h.thz k).mp z))]
        exact ih _ _ (by omega)
theorem rv_throughMany (h : RC X S) : xf_throughMany X = ff_through S := rv_tm h 121 0 0 (by decide)
theorem ff_c2_thr (S : mm_S) (fu : Nat) : ∀ n k : Int32, ff_cnt2 fu S n k = ff_thr_go fu S n k := by
  induction fu with
  | zero => intro n k; rfl
  | succ fu ih =>
    intro n k
    unfold ff_cnt2 ff_thr_go
    rw [ih]
    by_cases c : fd_ S 4 ≤ k
    · rw [if_pos c, if_pos c]
    rw [if_neg c, if_neg c]
    by_cases d : rd_ S 12 k ≤ 0
    · rw [if_pos d, if_pos d]
    · rw [if_neg d, if_neg d]
theorem rv_ct (h : RC X S) (fu : Nat) : ∀ a b k : Int32, 0 ≤ k.toInt → xf_ct_go fu X a b k = (ff_cnt1 fu S a k, ff_cnt8 fu S b k) := by
  induction fu with
  | zero => intro a b k _; rfl
  | succ fu ih =>
    intro a b k k0
    unfold xf_ct_go ff_cnt1 ff_cnt8 xf_hz xf_hb
    rw [h.f4]
    by_cases c : fd_ S 4 ≤ k
    · rw [if_pos c, if_pos c, if_pos c]
    obtain ⟨hb, k1, -, -⟩ := rb_k h k0 c
    rw [if_neg c, if_neg c, if_neg c, h.holeOf]
    by_cases d : ff_isHole S k = 0
    · rw [if_pos d, if_pos (show (-1 : Int32) < 0 by decide), if_pos (show (-1 : Int32) < 0 by decide), if_pos d, (rb_nhole h hb d).2]
      exact ih _ _ _ (by omega)
    · have kn : ¬ k < 0 := ww_nlt' (by rw [ww_00]; exact k0)
      rw [if_neg d, if_neg kn, if_neg kn, if_neg d, h.r66]
      exact ih _ _ _ (by omega)
theorem rv_count (h : RC X S) (w : Int32) : xf_count X w = ff_count S w := by
  unfold xf_count ff_count xf_ct ff_c1 ff_c8 ff_c2
  rw [rv_ct h 121 0 0 0 (by decide), rv_throughMany h, rv_belowMany h, ff_c2_thr, h.f4, h.f0, h.f18, h.f25, h.f22, h.f27, h.f35, h.f7]
  rfl
/-! texts in force -/
theorem ft_le (S : mm_S) (fu : Nat) : ∀ f b : Int32, 0 ≤ f.toInt → (∀ j : Nat, 0 ≤ (S 12 j).toInt ∧ (S 12 j).toInt ≤ 1700) → (ff_firstThrough_go fu S f b).toInt ≤ f.toInt := by
  induction fu with
  | zero => intro f b _ _; exact Int.le_refl _
  | succ fu ih =>
    intro f b f0 hs
    unfold ff_firstThrough_go
    split
    · exact Int.le_refl _
    · split
      · exact ih _ _ f0 hs
      · rename_i c
        have cl := ww_nle c
        have b1 : 0 ≤ (rd_ S 12 b).toInt ∧ (rd_ S 12 b).toInt ≤ 1700 := hs _
        have e := ww_sub1 (t := rd_ S 12 b) (by omega)
        rw [ww_00] at cl
        split
        · exact ih _ _ f0 hs
        · rename_i d
          have dl := ww_nle d
          have := ih (rd_ S 12 b - 1) (b + 1) (by omega) hs
          omega
theorem rv_wt (h : RC X S) {k : Int32} (fu : Nat) : ∀ f b : Int32, 0 ≤ b.toInt → 0 ≤ f.toInt → k < f → (xf_wt_go fu X k b = 0 ∧ k < ff_firstThrough_go fu S f b) ∨ (xf_wt_go fu X k b = 1 ∧ ¬ k < ff_firstThrough_go fu S f b) := by
  have hs : ∀ j : Nat, 0 ≤ (S 12 j).toInt ∧ (S 12 j).toInt ≤ 1700 := fun j => (h.thr j).2
  induction fu with
  | zero => intro f b _ _ hk; exact Or.inl ⟨rfl, hk⟩
  | succ fu ih =>
    intro f b b0 f0 hk
    unfold xf_wt_go ff_firstThrough_go
    rw [h.f4]
    by_cases c : fd_ S 4 ≤ b
    · rw [if_pos c, if_pos c]; exact Or.inl ⟨rfl, hk⟩
    obtain ⟨hb, b1, -, -⟩ := rb_k h b0 c
    rw [if_neg c, if_neg c, h.holeOf]
    by_cases d : ff_isHole S b = 0
    · rw [if_pos d, if_pos (by decide), if_pos ((h.thz b).mpr (rb_nhole h hb d).1)]
      exact ih _ _ (by omega) f0 hk
    rw [if_neg d, if_neg (ww_nlt' (by rw [ww_00]; exact b0)), h.thro]
    by_cases e : rd_ S 12 b = 0
    · rw [if_pos e, if_pos rfl, if_pos ((h.thz b).mpr e)]
      exact ih _ _ (by omega) f0 hk
    have s := hs b.toNatClampNeg
    have s : 0 ≤ (rd_ S 12 b).toInt ∧ (rd_ S 12 b).toInt ≤ 1700 := s
    have e2 := ww_sub1 (t := rd_ S 12 b) (by omega)
    have en := ww_ne e
    rw [ww_00] at en
    have hkl := ww_lt hk
    rw [if_neg e, if_neg (show ¬ (1 : Int32) = 0 by decide), if_neg (fun z => e ((h.thz b).mp z)), show rd_ X 69 b = rd_ S 12 b - 1 from (h.thr _).1]
    by_cases g : k < rd_ S 12 b - 1
    · rw [if_pos g]
      by_cases q : f ≤ rd_ S 12 b - 1
      · rw [if_pos q]; exact ih _ _ (by omega) f0 hk
      · rw [if_neg q]; exact ih _ _ (by omega) (by omega) g
    · have gl := ww_nlt g
      rw [if_neg g, if_neg (ww_nle' (by omega))]
      have := ft_le S fu (rd_ S 12 b - 1) (b + 1) (by omega) hs
      exact Or.inr ⟨rfl, ww_nlt' (by omega)⟩
theorem rv_fo (h : RC X S) {w y k z g : Int32} (hz : (z = 0 ∧ g = 0) ∨ (¬ z = 0 ∧ ¬ g = 0)) (fu : Nat) : ∀ i : Int32, -1 ≤ i.toInt → i.toInt < (fu : Int) → (xf_fo_go fu X w y k z i = -1 ∧ ff_fo_go fu S w y k g i = -2) ∨ (xf_fo_go fu X w y k z i = ff_fo_go fu S w y k g i ∧ 0 ≤ (ff_fo_go fu S w y k g i).toInt ∧ (ff_fo_go fu S w y k g i).toInt ≤ i.toInt) := by
  have em : (-1 : Int32).toInt = -1 := by decide
  induction fu with
  | zero =>
    intro i i0 i1
    have : i = -1 := ww_eq (by rw [em]; omega)
    rw [this]
    exact Or.inl ⟨rfl, rfl⟩
  | succ fu ih =>
    intro i i0 i1
    unfold xf_fo_go ff_fo_go
    by_cases c : i < 0
    · have cl := ww_l0 c
      have : i = -1 := ww_eq (by rw [em]; omega)
      rw [if_pos c, if_pos c, this]
      exact Or.inl ⟨rfl, rfl⟩
    have cl := ww_nl0 c
    have ed := ww_dec (t := i) (by omega)
    have nx := ih (i + -1) (by omega) (by omega)
    have nx : (xf_fo_go fu X w y k z (i + -1) = -1 ∧ ff_fo_go fu S w y k g (i + -1) = -2) ∨ (xf_fo_go fu X w y k z (i + -1) = ff_fo_go fu S w y k g (i + -1) ∧ 0 ≤ (ff_fo_go fu S w y k g (i + -1)).toInt ∧ (ff_fo_go fu S w y k g (i + -1)).toInt ≤ i.toInt) := by
      rcases nx with q | ⟨q1, q2, q3⟩
      · exact Or.inl q
      · exact Or.inr ⟨q1, q2, by omega⟩
    rw [if_neg c, if_neg c, h.r91, h.r93, h.r92]
    by_cases c1 : jr_ (rd_ S 39 i) 10 = jr_ w 10
    rotate_left
    · rw [if_neg c1, if_neg c1]; exact nx
    rw [if_pos c1, if_pos c1]
    have tail : (if k < rd_ S 40 i then xf_fo_go fu X w y k z (i + -1) else if rd_ S 41 i ≤ y then i else xf_fo_go fu X w y k z (i + -1)) = -1 ∧ (if k < rd_ S 40 i then ff_fo_go fu S w y k g (i + -1) else if y < rd_ S 41 i then ff_fo_go fu S w y k g (i + -1) else i) = -2 ∨
        (if k < rd_ S 40 i then xf_fo_go fu X w y k z (i + -1) else if rd_ S 41 i ≤ y then i else xf_fo_go fu X w y k z (i + -1)) = (if k < rd_ S 40 i then ff_fo_go fu S w y k g (i + -1) else if y < rd_ S 41 i then ff_fo_go fu S w y k g (i + -1) else i) ∧ 0 ≤ (if k < rd_ S 40 i then ff_fo_go fu S w y k g (i + -1) else if y < rd_ S 41 i then ff_fo_go fu S w y k g (i + -1) else i).toInt ∧ (if k < rd_ S 40 i then ff_fo_go fu S w y k g (i + -1) else if y < rd_ S 41 i then ff_fo_go fu S w y k g (i + -1) else i).toInt ≤ i.toInt := by
      by_cases d : k < rd_ S 40 i
      · rw [if_pos d, if_pos d]; exact nx
      rw [if_neg d, if_neg d]
      by_cases e : y < rd_ S 41 i
      · rw [if_pos e, if_neg (ww_nle' (ww_lt e))]; exact nx
      · rw [if_neg e, if_pos (ww_le' (ww_nlt e))]; exact Or.inr ⟨rfl, cl, Int.le_refl _⟩
    by_cases c2 : rd_ S 39 i / 10 = w / 10
    · rw [if_pos c2, if_pos c2]; exact tail
    rw [if_neg c2, if_neg c2]
    rcases hz with ⟨z0, g0⟩ | ⟨z0, g0⟩
    · rw [if_pos z0, if_pos g0]; exact nx
    · rw [if_neg z0, if_neg g0]; exact tail
theorem rv_force (h : RC X S) (w y k : Int32) (hk : k.toInt ≤ 1699) : (xf_force X w y k = -1 ∧ ff_forceOf S w y k = -2) ∨ (xf_force X w y k = ff_forceOf S w y k ∧ 0 ≤ (ff_forceOf S w y k).toInt ∧ (ff_forceOf S w y k).toInt < (fd_ S 38).toInt) := by
  unfold xf_force ff_forceOf
  have t : 0 ≤ (fd_ S 38).toInt ∧ (fd_ S 38).toInt ≤ 16 := h.it
  have e := ww_sub1 (t := fd_ S 38) (by omega)
  have e17 : (1700 : Int32).toInt = 1700 := by decide
  have q := rv_wt h (k := k) 121 1700 0 (by decide) (by decide) (ww_lt' (by omega))
  have hz : (xf_wasThroughBy X k = 0 ∧ (if k < ff_firstThrough S then (0 : Int32) else 1) = 0) ∨ (¬ xf_wasThroughBy X k = 0 ∧ ¬ (if k < ff_firstThrough S then (0 : Int32) else 1) = 0) := by
    unfold xf_wasThroughBy ff_firstThrough
    rcases q with ⟨q1, q2⟩ | ⟨q1, q2⟩
    · rw [q1, if_pos q2]; exact Or.inl ⟨rfl, rfl⟩
    · rw [q1, if_neg q2]; exact Or.inr ⟨by decide, by decide⟩
  have r := rv_fo h (w := w) (y := y) (k := k) hz 17 (fd_ S 38 - 1) (by omega) (by omega)
  rw [h.f25]
  rcases r with r | ⟨r1, r2, r3⟩
  · exact Or.inl r
  · exact Or.inr ⟨r1, r2, by omega⟩
theorem rv_isWhat (w : Int32) : xf_isWhat w = ff_isWhat w := by
  unfold xf_isWhat ff_isWhat ff_in
  have e10 : (10 : Int32).toInt = 10 := by decide
  have e12 : (12 : Int32).toInt = 12 := by decide
  have e1 : (1 : Int32).toInt = 1 := by decide
  have e2 : (2 : Int32).toInt = 2 := by decide
  by_cases a : w < 0
  · rw [if_pos a, if_pos a, if_pos rfl]
  rw [if_neg a, if_neg a]
  have al := ww_nl0 a
  have r := ww_rem w 10 al (by decide)
  have d := ww_div w 10 al (by decide)
  rw [e10] at r d
  by_cases b : 12 < w
  · have bl := ww_lt b
    rw [if_pos b, if_pos rfl]
    by_cases c : 1 < w / 10
    · rw [if_pos c]
    · have cl := ww_nlt c
      rw [if_neg c, if_pos (ww_lt' (by omega))]
  · have bl := ww_nlt b
    rw [if_neg b, if_neg (show ¬ (1 : Int32) = 0 by decide), if_neg (show ¬ 1 < w / 10 from ww_nlt' (by omega))]
theorem rv_inForce (h : RC X S) (w y k : Int32) : xf_inForce X w y k = ff_inForce S w y k := by
  unfold xf_inForce ff_inForce ff_isHour
  rw [rv_isWhat]
  by_cases c1 : ff_isWhat w = 0
  · rw [if_pos c1, if_pos c1]
  rw [if_neg c1, if_neg c1]
  by_cases c2 : ff_in y 0 1699 = 0
  · rw [if_pos c2, if_pos c2]
  rw [if_neg c2, if_neg c2]
  by_cases c3 : ff_in k 0 1699 = 0
  · rw [if_pos c3, if_pos c3]
  rw [if_neg c3, if_neg c3]
  have hk := ff_in_t c3
  have e2 : (1699 : Int32).toInt = 1699 := by decide
  rcases rv_force h w y k (by omega) with ⟨a, b⟩ | ⟨a, b, -⟩
  · rw [if_pos a, b]
  · rw [a, if_neg (fun z => by rw [z] at b; exact absurd b (by decide))]
/-! machines set -/
theorem rs_set_go (h : RC X S) {m b : Int32} (m0 : 0 ≤ m.toInt) (m3 : m.toInt < 3) (hb : b = -1 ∨ ¬ ff_isHole S b = 0) (fu : Nat) : ∀ k : Int32, 0 ≤ k.toInt → (3 : Int) < k.toInt + (fu : Int) → (∀ j : Int32, 0 ≤ j.toInt → j.toInt < k.toInt → j ≠ m → 0 ≤ b.toInt → rd_ S 27 j ≠ b) →
    (xf_set_go fu X m b k).1 = (ff_set_go fu S m b k).1 ∧ rr_ [9] [27] X S (xf_set_go fu X m b k).2 (ff_set_go fu S m b k).2 := by
  have e3 : (3 : Int32).toInt = 3 := by decide
  have em : (-1 : Int32).toInt = -1 := by decide
  induction fu with
  | zero =>
    intro k k0 k3 _
    exact ⟨rfl, rr_.id h⟩
  | succ fu ih =>
    intro k k0 k3 hd
    unfold xf_set_go ff_set_go
    by_cases c : 3 ≤ k
    · have cl := ww_le c
      rw [if_pos c, if_pos c, h.r9]
      refine ⟨?_, rr_.mk ((fr_.rf X).wr (by decide)) ((fr_.rf S).wr (by decide)) h 56668397794435743088640 (by decide +kernel) ⟨?_, ?_, ?_, trivial⟩⟩
      · show xf_numberOf (rd_ S 27 m) = rd_ S 27 m
        unfold xf_numberOf
        rcases h.iH m m0 m3 with z | z
        · rw [z]; decide
        · exact if_neg (rb_neg h (rb_hole z).1)
      · dsimp only [rc_p]; exact mm_up_p h.p9
      · dsimp only [rc_iH]
        intro q q0 q3
        rw [rd_wa]
        by_cases z : q.toNatClampNeg = m.toNatClampNeg
        · rw [if_pos z]
          rcases hb with y | y
          · exact Or.inl y
          · refine Or.inr ?_
            rw [show ff_isHole (wr_ S 27 m b) b = ff_isHole S b by unfold ff_isHole ff_isBody; rw [fd_wn (by decide), rd_wn (by decide)]]
            exact y
        · rw [if_neg z]
          rcases h.iH q q0 q3 with y | y
          · exact Or.inl y
          · refine Or.inr ?_
            rw [show ff_isHole (wr_ S 27 m b) (rd_ S 27 q) = ff_isHole S (rd_ S 27 q) by unfold ff_isHole ff_isBody; rw [fd_wn (by decide), rd_wn (by decide)]]
            exact y
      · dsimp only [rc_iD]
        intro p q p0 p3 q0 q3 pq
        rw [rd_wa, rd_wa]
        by_cases zp : p.toNatClampNeg = m.toNatClampNeg
        · have ep := ww_cl0 p0 m0 zp
          have zq : ¬ q.toNatClampNeg = m.toNatClampNeg := fun y => pq (by rw [ep]; exact (ww_cl0 q0 m0 y).symm)
          rw [if_pos zp, if_neg zq]
          intro b0 y
          exact hd q q0 (by omega) (fun y => pq (by rw [ep]; exact y.symm)) b0 y.symm
        · rw [if_neg zp]
          by_cases zq : q.toNatClampNeg = m.toNatClampNeg
          · rw [if_pos zq]
            intro g0 y
            exact hd p p0 (by omega) (fun y => zp (by rw [y])) (by rw [← y]; exact g0) y
          · rw [if_neg zq]
            exact h.iD p q p0 p3 q0 q3 pq
    have cl := ww_nle c
    have k1 : (k + 1).toInt = k.toInt + 1 := ww_a1 (by omega) k0
    rw [if_neg c, if_neg c, h.r9]
    have nx : (∀ (_ : k ≠ m) (_ : 0 ≤ b.toInt), rd_ S 27 k ≠ b) → _ := fun y => ih (k + 1) (by omega) (by omega) (fun j j0 j1 jm b0 => by
      by_cases z : j = k
      · rw [z] at jm ⊢; exact y jm b0
      · have := ww_ne z; exact hd j j0 (by omega) jm b0)
    by_cases d : k = m
    · rw [if_pos d, if_pos d]
      have g := nx (fun y => absurd d y)
      split <;> exact g
    rw [if_neg d, if_neg d]
    by_cases e : b < 0
    · have el := ww_l0 e
      rw [if_pos e, if_pos e]
      exact nx (fun _ y => by omega)
    rw [if_neg e, if_neg e]
    by_cases f : rd_ S 27 k = b
    · rw [if_pos f, if_pos f]; exact ⟨rfl, rr_.id h⟩
    · rw [if_neg f, if_neg f]; exact nx (fun _ _ => f)
theorem rs_set (h : RC X S) (m b : Int32) : (xf_set X m b).1 = (ff_set S m b).1 ∧ rr_ [9] [27] X S (xf_set X m b).2 (ff_set S m b).2 := by
  unfold xf_set ff_set
  rw [h.holeOf]
  by_cases c1 : ff_isMachine m = 0
  · rw [if_pos c1, if_pos c1]; exact ⟨rfl, rr_.id h⟩
  rw [if_neg c1, if_neg c1]
  have hm := ff_in_t c1
  have e2 : (2 : Int32).toInt = 2 := by decide
  have e0 : (0 : Int32).toInt = 0 := by decide
  have none : ∀ j : Int32, 0 ≤ j.toInt → j.toInt < (0 : Int32).toInt → j ≠ m → 0 ≤ b.toInt → rd_ S 27 j ≠ b := fun j a c => by omega
  by_cases c2 : b = -1
  · rw [if_pos c2, if_pos c2, c2]
    exact rs_set_go h (by omega) (by omega) (Or.inl rfl) 4 0 (by decide) (by decide) (fun j a c => by omega)
  rw [if_neg c2, if_neg c2]
  by_cases c3 : ff_isHole S b = 0
  · rw [if_pos c3, if_pos c3, if_pos (by decide)]; exact ⟨rfl, rr_.id h⟩
  rw [if_neg c3, if_neg c3, if_neg (rb_neg h (rb_hole c3).1)]
  exact rs_set_go h (by omega) (by omega) (Or.inr c3) 4 0 (by decide) (by decide) none
/-! men up -/
theorem rs_up1 (h : RC X S) {b : Int32} (hb : ¬ ff_isBody S b = 0) (c : ¬ rd_ S 20 b = 0) : rr_ [80] [20] X S (wr_ X 80 b 1) (wr_ S 20 b 0) := by
  have hi := rb_in h hb
  have k7 : S 5 b.toNatClampNeg = 7 := by
    have u := h.up b.toNatClampNeg
    by_cases z : S 5 b.toNatClampNeg = 7
    · exact z
    · rw [if_neg z] at u; exact absurd u c
  refine rr_.mk ((fr_.rf X).wr (by decide)) ((fr_.rf S).wr (by decide)) h 1330526069999549580963861188969496576 (by decide +kernel) ⟨?_, ?_, ?_, trivial⟩
  · dsimp only [rc_up]
    intro j
    show mm_up S 20 b.toNatClampNeg 0 20 j = if S 5 j = 7 then (if mm_up X 80 b.toNatClampNeg 1 80 j = 0 then 1 else 0) else 0
    rw [mm_up_a, mm_up_a]
    by_cases z : j = b.toNatClampNeg
    · rw [if_pos z, if_pos z, z, if_pos k7, if_neg (by decide)]
    · rw [if_neg z, if_neg z]; exact h.up j
  · dsimp only [rc_z20]
    exact rz_wr h.z20 hi.2.1 hi.1
  · dsimp only [rc_x80]
    have e4 : (X 4 0).toInt = (S 4 0).toInt := by rw [show X 4 0 = S 4 0 from h.f4]
    rw [wr_k (k := 80) (k2 := 4) (by decide)]
    exact rz_wr h.x80 (by omega) hi.1
theorem rs_ra (n : Int32) (fu : Nat) : ∀ (X S : mm_S) (u i : Int32), RC X S → 0 ≤ i.toInt → 0 ≤ (S 82 0).toInt → (xf_rs_go fu X n u i).1 = (rs_go fu S n u i).1 ∧ rr_ [80] [20] X S (xf_rs_go fu X n u i).2 (rs_go fu S n u i).2 := by
  induction fu with
  | zero => intro X S u i h _ _; exact ⟨rfl, rr_.id h⟩
  | succ fu ih =>
    intro X S u i h i0 s0
    unfold xf_rs_go rs_go
    obtain ⟨e55, e56, u0, u120, -⟩ : X 55 0 = S 82 0 ∧ X 56 0 = S 83 0 ∧ 0 ≤ (S 82 0).toInt ∧ (S 82 0).toInt ≤ 120 ∧ 0 ≤ (S 83 0).toInt := by
      rcases h.um with ⟨a, -, -⟩ | a
      · rw [a] at s0; exact absurd s0 (by decide)
      · exact a
    rw [show fd_ X 55 = fd_ S 82 from e55, show fd_ X 56 = fd_ S 83 from e56, h.r53, h.r54]
    by_cases c : fd_ S 82 ≤ i
    · rw [if_pos c, if_pos c]; exact ⟨rfl, rr_.id h⟩
    have cl := ww_nle c
    have cl : i.toInt < (S 82 0).toInt := cl
    have i1 : (i + 1).toInt = i.toInt + 1 := ww_a1 (by omega) i0
    have nx := ih X S u (i + 1) h (by omega) s0
    rw [if_neg c, if_neg c, h.below]
    by_cases z : ff_isBody S (rd_ S 84 i) = 0
    · have hu := h.iU.2.2 i i0 cl
      have e20 : rd_ S 20 (rd_ S 84 i) = 0 := by
        refine h.z20 _ ?_
        have q := ff_in_f z
        have hB0 : 0 ≤ (fd_ S 4).toInt := h.iB.1
        have hB1 : (fd_ S 4).toInt ≤ 120 := h.iB.2
        rw [ww_00, ww_sub1 (by omega)] at q
        rw [ww_cl]
        have : (fd_ S 4).toInt = (S 4 0).toInt := rfl
        omega
      rw [if_pos z, if_pos (by decide), e20, if_pos rfl]
      split <;> exact nx
    rw [if_neg z]
    by_cases d : rd_ S 20 (rd_ S 84 i) = 0
    · rw [if_pos d, if_pos (by decide), if_pos d]
      split <;> exact nx
    rw [if_neg d, if_neg (rb_neg h z), if_neg d]
    by_cases e : fd_ S 83 + n < rd_ S 86 i
    · rw [if_pos e, if_neg (ww_nle' (ww_lt e))]; exact nx
    · rw [if_neg e, if_pos (ww_le' (ww_nlt e))]
      have r1 := rs_up1 h z d
      have g := ih _ _ (u + 1) (i + 1) r1.2.2 (by omega) (by show 0 ≤ (wr_ S 20 _ 0 82 0).toInt; rw [wr_k (by decide)]; exact s0)
      exact ⟨g.1, r1.tr g.2⟩
theorem rs_raise (h : RC X S) (n : Int32) : (xf_raise X n).1 = (ff_raise S n).1 ∧ rr_ [80] [20] X S (xf_raise X n).2 (ff_raise S n).2 := by
  unfold xf_raise ff_raise
  by_cases c1 : ff_in n 0 199 = 0
  · rw [if_pos c1, if_pos c1]; exact ⟨rfl, rr_.id h⟩
  rw [if_neg c1, if_neg c1]
  have em : (-1 : Int32).toInt = -1 := by decide
  rcases h.um with ⟨a, b, c⟩ | ⟨a, b, u0, u1, u2⟩
  · rw [if_pos (show fd_ X 56 = -1 from c), if_neg (show ¬ 0 ≤ fd_ S 82 by rw [show fd_ S 82 = -1 from a]; decide)]
    exact ⟨rfl, rr_.id h⟩
  · rw [if_neg (show ¬ fd_ X 56 = -1 from fun z => by rw [show fd_ X 56 = S 83 0 from b] at z; rw [z] at u2; exact absurd u2 (by decide)), if_pos (show 0 ≤ fd_ S 82 from ww_le' (by rw [ww_00]; exact u0))]
    exact rs_ra n 121 X S 0 0 h (by decide) u0
end RV3
