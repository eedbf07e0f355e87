/-! PLAIN LAWS: the simple operations answer alike and keep the relation -/
set_option maxRecDepth 100000
def rr_ (cx cs : List Nat) (X S X' S' : mm_S) : Prop := fr_ cx X X' ∧ fr_ cs S S' ∧ RC X' S'
section RO1
variable {X S X' S' : mm_S} {cx cs : List Nat}
theorem rr_.id (h : RC X S) : rr_ cx cs X S X S := ⟨fr_.rf _, fr_.rf _, h⟩
theorem rr_.mk (hx : fr_ cx X X') (hs : fr_ cs S S') (h : RC X S) (n : Nat) (hl : rc_chk cx cs rc_l n = true) (hn : rc_all (rc_pick rc_l n) X' S') : rr_ cx cs X S X' S' := ⟨hx, hs, h.step hx hs n hl hn⟩
theorem rr_.tr {Y T : mm_S} (h1 : rr_ cx cs X S X' S') (h2 : rr_ cx cs X' S' Y T) : rr_ cx cs X S Y T := ⟨h1.1.tr h2.1, h1.2.1.tr h2.2.1, h2.2.2⟩
theorem rr_.le {dx ds : List Nat} (h : rr_ cx cs X S X' S') (h1 : (cx.all fun k => dx.contains k) = true) (h2 : (cs.all fun k => ds.contains k) = true) : rr_ dx ds X S X' S' := ⟨h.1.le' h1, h.2.1.le' h2, h.2.2⟩
theorem mm_up_p {f g j : Nat} {v : Int32} (e : X f = S g) : mm_up X f j v f = mm_up S g j v g := by
  funext i
  rw [mm_up_a, mm_up_a, e]
theorem mm_up_q {f g j i : Nat} {v w : Int32} (e : X f = S g) (hj : j = i) (hv : v = w) : mm_up X f j v f = mm_up S g i w g := by rw [hj, hv]; exact mm_up_p e
theorem wr_k {k k2 : Nat} {i v : Int32} (h : k2 ≠ k) : wr_ X k i v k2 = X k2 := mm_up_k h
theorem fw_k {k k2 : Nat} {v : Int32} (h : k2 ≠ k) : fw_ X k v k2 = X k2 := mm_up_k h
theorem rz_wr {k : Nat} {i v : Int32} {n : Int} (hz : ∀ b : Nat, n ≤ (b : Int) → S k b = 0) (hi : i.toInt < n) (h0 : 0 ≤ i.toInt) : ∀ b : Nat, n ≤ (b : Int) → wr_ S k i v k b = 0 := by
  intro b hb
  show mm_up S k i.toNatClampNeg v k b = 0
  rw [mm_up_a, if_neg (by rw [ww_cl]; omega)]
  exact hz b hb
theorem ra_wr {k j : Nat} {v : Int32} {P : Int32 → Prop} (hP : ∀ j : Nat, P (S k j)) (hv : P v) : ∀ i : Nat, P (mm_up S k j v k i) := by
  intro i
  rw [mm_up_a]
  split
  · exact hv
  · exact hP i
theorem rn_ad (v : Int32) : v = 3 + (v - 3) := by rw [Int32.add_comm, Int32.sub_add_cancel]
theorem xk_un (k : Int32) : xk_Hole k = ff_isUnder k 2 := by
  by_cases h2 : k = 2
  · rw [h2]; decide
  by_cases h3 : k = 3
  · rw [h3]; decide
  by_cases h4 : k = 4
  · rw [h4]; decide
  by_cases h5 : k = 5
  · rw [h5]; decide
  have e2 : (2 : Int32).toInt = 2 := by decide
  have e3 : (3 : Int32).toInt = 3 := by decide
  have e4 : (4 : Int32).toInt = 4 := by decide
  have e5 : (5 : Int32).toInt = 5 := by decide
  have n2 := ww_ne h2; have n3 := ww_ne h3; have n4 := ww_ne h4; have n5 := ww_ne h5
  have hf : ff_isUnder k 2 = 0 := by
    unfold ff_isUnder
    rw [if_neg (by decide), if_neg h2, if_neg (by decide), if_pos rfl, if_neg h3, if_neg h4, if_neg h5]
  rw [hf]
  unfold xk_Hole
  by_cases q : k < 2
  · rw [if_pos q]
  · have := ww_nlt q
    rw [if_neg q, if_pos (ww_lt' (by omega))]
theorem RC.isBody (h : RC X S) (b : Int32) : xf_isBody X b = ff_isBody S b := by unfold xf_isBody ff_isBody; rw [h.f4]
theorem RC.holeOf (h : RC X S) (b : Int32) : xf_holeOf X b = if ff_isHole S b = 0 then -1 else b := by
  unfold xf_holeOf ff_isHole
  rw [h.isBody, h.r60, xk_un]
  by_cases c : ff_isBody S b = 0
  · rw [if_pos c, if_pos c, if_pos rfl]
  · rw [if_neg c, if_neg c]
    by_cases d : ff_isUnder (rd_ S 5 b) 2 = 0
    · rw [if_pos d, if_pos d, if_pos rfl]
    · rw [if_neg d, if_neg d, if_neg (by decide)]
theorem RC.manOf (h : RC X S) (b : Int32) : xf_manOf X b = if ff_isMan S b = 0 then -1 else b := by
  unfold xf_manOf ff_isMan xk_Man
  rw [h.isBody, h.r60]
  by_cases c : ff_isBody S b = 0
  · rw [if_pos c, if_pos c, if_pos rfl]
  · rw [if_neg c, if_neg c]
/-- numbers of bodies -/
theorem rb_in (h : RC X S) {b : Int32} (c : ¬ ff_isBody S b = 0) : 0 ≤ b.toInt ∧ b.toInt < (S 4 0).toInt ∧ (S 4 0).toInt ≤ 120 := by
  have hB := h.iB
  have h0 : 0 ≤ (fd_ S 4).toInt := hB.1
  have h1 : (fd_ S 4).toInt ≤ 120 := hB.2
  have q := ff_in_t c
  rw [ww_00, ww_sub1 (by omega)] at q
  have e : (fd_ S 4).toInt = (S 4 0).toInt := rfl
  omega
theorem rb_is (h : RC X S) {b : Int32} (h0 : 0 ≤ b.toInt) (h1 : b.toInt < (S 4 0).toInt) : ff_isBody S b = 1 := by
  have hB := h.iB
  have g0 : 0 ≤ (fd_ S 4).toInt := hB.1
  have e : (fd_ S 4).toInt = (S 4 0).toInt := rfl
  exact ff_in_1 (by rw [ww_00]; exact h0) (by rw [ww_sub1 (by omega)]; omega)
theorem rb_hole {b : Int32} (c : ¬ ff_isHole S b = 0) : ¬ ff_isBody S b = 0 ∧ 2 ≤ (rd_ S 5 b).toInt ∧ (rd_ S 5 b).toInt ≤ 5 := by
  unfold ff_isHole at c
  by_cases d : ff_isBody S b = 0
  · rw [if_pos d] at c; exact absurd rfl c
  · rw [if_neg d, ← xk_un] at c
    refine ⟨d, ?_⟩
    have e2 : (2 : Int32).toInt = 2 := by decide
    have e5 : (5 : Int32).toInt = 5 := by decide
    unfold xk_Hole at c
    by_cases q : rd_ S 5 b < 2
    · rw [if_pos q, if_pos rfl] at c; exact absurd rfl c
    · rw [if_neg q] at c
      by_cases r : 5 < rd_ S 5 b
      · rw [if_pos r, if_pos rfl] at c; exact absurd rfl c
      · have := ww_nlt q; have := ww_nlt r; omega
theorem rb_holed (h : RC X S) {b : Int32} (h0 : 0 ≤ b.toInt) (h1 : b.toInt < (S 4 0).toInt) (k2 : 2 ≤ (rd_ S 5 b).toInt) (k5 : (rd_ S 5 b).toInt ≤ 5) : ff_isHole S b = 1 := by
  have e2 : (2 : Int32).toInt = 2 := by decide
  have e5 : (5 : Int32).toInt = 5 := by decide
  unfold ff_isHole
  rw [rb_is h h0 h1, if_neg (by decide), ← xk_un]
  unfold xk_Hole
  rw [if_neg (ww_nlt' (by omega)), if_neg (ww_nlt' (by omega)), if_neg (by decide)]
theorem rb_man {b : Int32} (c : ¬ ff_isMan S b = 0) : ¬ ff_isBody S b = 0 ∧ rd_ S 5 b = 7 := by
  unfold ff_isMan at c
  by_cases d : ff_isBody S b = 0
  · rw [if_pos d] at c; exact absurd rfl c
  · rw [if_neg d] at c
    by_cases e : rd_ S 5 b = 7
    · exact ⟨d, e⟩
    · rw [if_neg e] at c; exact absurd rfl c
theorem rb_neg (h : RC X S) {b : Int32} (c : ¬ ff_isBody S b = 0) : ¬ b < 0 := ww_nlt' (by rw [ww_00]; exact (rb_in h c).1)
theorem RC.below (h : RC X S) (b : Int32) : xf_belowOf X b = if ff_isBody S b = 0 then -1 else if rd_ S 20 b = 0 then -1 else b := by
  unfold xf_belowOf
  rw [h.manOf]
  have u := h.up b.toNatClampNeg
  by_cases c : ff_isBody S b = 0
  · have e : ff_isMan S b = 0 := by unfold ff_isMan; rw [if_pos c]
    rw [if_pos e, if_pos c, if_pos (by decide)]
  · rw [if_neg c]
    by_cases d : rd_ S 5 b = 7
    · have e : ff_isMan S b = 1 := by unfold ff_isMan; rw [if_neg c, if_pos d]
      have d2 : S 5 b.toNatClampNeg = 7 := d
      rw [if_pos d2] at u
      rw [e, if_neg (show ¬ (1 : Int32) = 0 by decide), if_neg (rb_neg h c)]
      by_cases z : X 80 b.toNatClampNeg = 0
      · rw [if_pos z] at u
        rw [show rd_ X 80 b = X 80 b.toNatClampNeg from rfl, if_pos z, show rd_ S 20 b = 1 from u, if_neg (by decide)]
      · rw [if_neg z] at u
        rw [show rd_ X 80 b = X 80 b.toNatClampNeg from rfl, if_neg z, show rd_ S 20 b = 0 from u, if_pos rfl]
    · have e : ff_isMan S b = 0 := by unfold ff_isMan; rw [if_neg c, if_neg d]
      have d2 : ¬ S 5 b.toNatClampNeg = 7 := d
      rw [if_neg d2] at u
      rw [e, if_pos rfl, if_pos (by decide), show rd_ S 20 b = 0 from u, if_pos rfl]
theorem RC.thro (h : RC X S) (b : Int32) : xf_isThrough X b = if rd_ S 12 b = 0 then 0 else 1 := by
  unfold xf_isThrough
  have u := h.thr b.toNatClampNeg
  have e : rd_ X 69 b = rd_ S 12 b - 1 := u.1
  have l0 : 0 ≤ (rd_ S 12 b).toInt := u.2.1
  rw [e]
  have e1 : (-1 : Int32).toInt = -1 := by decide
  by_cases z : rd_ S 12 b = 0
  · rw [z, if_pos rfl, if_pos (by decide)]
  · have hz := ww_ne z
    rw [ww_00] at hz
    rw [if_neg z, if_neg (ww_ne' (by rw [ww_sub1 (by omega), e1]; omega))]
theorem RC.thr0 (h : RC X S) (b : Int32) : 0 ≤ (rd_ S 12 b).toInt := (h.thr b.toNatClampNeg).2.1
theorem RC.thz (h : RC X S) (b : Int32) : rd_ S 12 b ≤ 0 ↔ rd_ S 12 b = 0 := by
  have := h.thr0 b
  exact ⟨fun q => ww_eq (by have := ww_le q; rw [ww_00] at this ⊢; omega), fun q => by rw [q]; exact ww_le' (Int.le_refl _)⟩
end RO1
section RO2
variable {X S : mm_S}
theorem rs_hard (h : RC X S) (c : Int32) (v : Int32) : (xf_hard X c v).1 = (ff_hard S c v).1 ∧ rr_ [1] [2] X S (xf_hard X c v).2 (ff_hard S c v).2 := by
  unfold xf_hard ff_hard
  by_cases c1 : ff_isCell c = 0
  · rw [if_pos c1, if_pos c1]
    exact ⟨rfl, rr_.id h⟩
  rw [if_neg c1, if_neg c1]
  by_cases c2 : ff_in v 1 9 = 0
  · rw [if_pos c2, if_pos c2]
    exact ⟨rfl, rr_.id h⟩
  rw [if_neg c2, if_neg c2]
  refine ⟨h.hard _, rr_.mk ((fr_.rf X).wr (by decide)) ((fr_.rf S).wr (by decide)) h 288230376151711744 (by decide +kernel) ⟨?_, trivial⟩⟩
  · dsimp only [rc_hard]
    intro j
    show mm_up X 1 _ v 1 j = 3 + mm_up S 2 _ (v - 3) 2 j
    rw [mm_up_a, mm_up_a]
    split
    · exact rn_ad v
    · exact h.hard j
theorem rs_open (h : RC X S) (c : Int32) (v : Int32) : (xf_open X c v).1 = (ff_open S c v).1 ∧ rr_ [2] [3] X S (xf_open X c v).2 (ff_open S c v).2 := by
  unfold xf_open ff_open
  rw [h.r2]
  by_cases c1 : ff_isCell c = 0
  · rw [if_pos c1, if_pos c1]
    exact ⟨rfl, rr_.id h⟩
  rw [if_neg c1, if_neg c1]
  by_cases c2 : ff_in v 0 1 = 0
  · rw [if_pos c2, if_pos c2]
    exact ⟨rfl, rr_.id h⟩
  rw [if_neg c2, if_neg c2]
  refine ⟨rfl, rr_.mk ((fr_.rf X).wr (by decide)) ((fr_.rf S).wr (by decide)) h 2 (by decide +kernel) ⟨?_, trivial⟩⟩
  · dsimp only [rc_p]
    exact mm_up_p h.p2
theorem rs_speed (h : RC X S) (m : Int32) (v : Int32) : (xf_speed X m v).1 = (ff_speed S m v).1 ∧ rr_ [8] [26] X S (xf_speed X m v).2 (ff_speed S m v).2 := by
  unfold xf_speed ff_speed
  rw [h.r8]
  by_cases c1 : ff_isMachine m = 0
  · rw [if_pos c1, if_pos c1]
    exact ⟨rfl, rr_.id h⟩
  rw [if_neg c1, if_neg c1]
  by_cases c2 : ff_in v 10 60 = 0
  · rw [if_pos c2, if_pos c2]
    exact ⟨rfl, rr_.id h⟩
  rw [if_neg c2, if_neg c2]
  have hv := ff_in_t c2
  have e1 : (10 : Int32).toInt = 10 := by decide
  have e2 : (60 : Int32).toInt = 60 := by decide
  refine ⟨rfl, rr_.mk ((fr_.rf X).wr (by decide)) ((fr_.rf S).wr (by decide)) h 4835703278458516699086848 (by decide +kernel) ⟨?_, ?_, trivial⟩⟩
  · dsimp only [rc_p]
    exact mm_up_p h.p8
  · dsimp only [rc_isp]
    exact ra_wr (P := fun x => 0 ≤ x.toInt ∧ x.toInt ≤ 60) h.isp ⟨by omega, by omega⟩
theorem rs_breaks (h : RC X S) (m : Int32) (t : Int32) : (xf_breaks X m t).1 = (ff_breaks S m t).1 ∧ rr_ [10] [28] X S (xf_breaks X m t).2 (ff_breaks S m t).2 := by
  unfold xf_breaks ff_breaks
  rw [h.f0]
  by_cases c1 : ff_isMachine m = 0
  · rw [if_pos c1, if_pos c1]
    exact ⟨rfl, rr_.id h⟩
  rw [if_neg c1, if_neg c1]
  by_cases c2 : ff_in t (fd_ S 1) 1699 = 0
  · rw [if_pos c2, if_pos c2]
    exact ⟨rfl, rr_.id h⟩
  rw [if_neg c2, if_neg c2]
  have hv := ff_in_t c2
  have hh : 0 ≤ (fd_ S 1).toInt := h.ih.1
  have e2 : (1699 : Int32).toInt = 1699 := by decide
  refine ⟨rfl, rr_.mk ((fr_.rf X).wr (by decide)) ((fr_.rf S).wr (by decide)) h 9671406556917033398697984 (by decide +kernel) ⟨?_, ?_, trivial⟩⟩
  · dsimp only [rc_p]
    exact mm_up_p h.p10
  · dsimp only [rc_ibr]
    exact ra_wr (P := fun x => -1 ≤ x.toInt ∧ x.toInt ≤ 1699) h.ibr ⟨by omega, by omega⟩
theorem rs_spread (h : RC X S) (v : Int32) : (xf_spread X v).1 = (ff_spread S v).1 ∧ rr_ [12] [29] X S (xf_spread X v).2 (ff_spread S v).2 := by
  unfold xf_spread ff_spread
  rw [h.f12]
  by_cases c1 : ff_in v 0 8 = 0
  · rw [if_pos c1, if_pos c1]
    exact ⟨rfl, rr_.id h⟩
  rw [if_neg c1, if_neg c1]
  have hv := ff_in_t c1
  have e2 : (8 : Int32).toInt = 8 := by decide
  rw [ww_00] at hv
  refine ⟨rfl, rr_.mk ((fr_.rf X).fw (by decide)) ((fr_.rf S).fw (by decide)) h 154742504910672534364487680 (by decide +kernel) ⟨?_, ?_, trivial⟩⟩
  · dsimp only [rc_p]
    exact mm_up_p h.p12
  · dsimp only [rc_isd]
    show 0 ≤ (mm_up S 29 0 v 29 0).toInt ∧ (mm_up S 29 0 v 29 0).toInt ≤ 8
    rw [mm_up_s]
    omega
theorem rs_spoons (h : RC X S) (v : Int32) : (xf_spoons X v).1 = (ff_spoons S v).1 ∧ rr_ [26] [54] X S (xf_spoons X v).2 (ff_spoons S v).2 := by
  unfold xf_spoons ff_spoons
  rw [h.f26]
  by_cases c1 : ff_in v 0 9999 = 0
  · rw [if_pos c1, if_pos c1]
    exact ⟨rfl, rr_.id h⟩
  rw [if_neg c1, if_neg c1]
  refine ⟨rfl, rr_.mk ((fr_.rf X).fw (by decide)) ((fr_.rf S).fw (by decide)) h 4294967296 (by decide +kernel) ⟨?_, trivial⟩⟩
  · dsimp only [rc_p]
    exact mm_up_p h.p26
theorem rs_ill (h : RC X S) (b : Int32) (v : Int32) : (xf_ill X b v).1 = (ff_ill S b v).1 ∧ rr_ [79] [19] X S (xf_ill X b v).2 (ff_ill S b v).2 := by
  unfold xf_ill ff_ill
  rw [h.manOf]
  by_cases c1 : ff_isMan S b = 0
  · rw [if_pos c1, if_pos c1, if_pos (by decide)]
    exact ⟨rfl, rr_.id h⟩
  obtain ⟨hb, h7⟩ := rb_man c1
  rw [if_neg c1, if_neg c1, if_neg (rb_neg h hb), h.r79]
  by_cases c2 : ff_in v 0 9 = 0
  · rw [if_pos c2, if_pos c2]
    exact ⟨rfl, rr_.id h⟩
  rw [if_neg c2, if_neg c2]
  have hi := rb_in h hb
  refine ⟨rfl, rr_.mk ((fr_.rf X).wr (by decide)) ((fr_.rf S).wr (by decide)) h 649037107316853453566312041218048 (by decide +kernel) ⟨?_, ?_, trivial⟩⟩
  · dsimp only [rc_p]
    exact mm_up_p h.p79
  · dsimp only [rc_z19]
    exact rz_wr h.z19 hi.2.1 hi.1
theorem rs_rock (h : RC X S) (r : Int32) (i : Int32) (v : Int32) : (xf_rock X r i v).1 = (ff_rock S r i v).1 ∧ rr_ [49] [78] X S (xf_rock X r i v).2 (ff_rock S r i v).2 := by
  unfold xf_rock ff_rock
  rw [h.r49, Int32.mul_comm r 6]
  by_cases c1 : ff_in r 0 3 = 0
  · rw [if_pos c1, if_pos c1]
    exact ⟨rfl, rr_.id h⟩
  rw [if_neg c1, if_neg c1]
  by_cases c2 : ff_in i 0 5 = 0
  · rw [if_pos c2, if_pos c2]
    exact ⟨rfl, rr_.id h⟩
  rw [if_neg c2, if_neg c2]
  by_cases c3 : ff_in v 1 9 = 0
  · rw [if_pos c3, if_pos c3]
    exact ⟨rfl, rr_.id h⟩
  rw [if_neg c3, if_neg c3]
  have hv := ff_in_t c3
  have e1 : (1 : Int32).toInt = 1 := by decide
  have e2 : (9 : Int32).toInt = 9 := by decide
  refine ⟨rfl, rr_.mk ((fr_.rf X).wr (by decide)) ((fr_.rf S).wr (by decide)) h 2417851639792208302833664 (by decide +kernel) ⟨?_, ?_, trivial⟩⟩
  · dsimp only [rc_p]
    exact mm_up_p h.p49
  · dsimp only [rc_irk]
    exact ra_wr (P := fun x => 0 ≤ x.toInt ∧ x.toInt ≤ 9) h.irk ⟨by omega, by omega⟩
theorem rs_keep (h : RC X S) (s : Int32) (b : Int32) : (xf_keep X s b).1 = (ff_keep S s b).1 ∧ rr_ [58] [89] X S (xf_keep X s b).2 (ff_keep S s b).2 := by
  unfold xf_keep ff_keep
  rw [h.isBody]
  by_cases c1 : ff_isShelf s = 0
  · rw [if_pos c1, if_pos c1]
    exact ⟨rfl, rr_.id h⟩
  rw [if_neg c1, if_neg c1]
  have hB0 : 0 ≤ (fd_ S 4).toInt := h.iB.1
  have e1 : (-1 : Int32).toInt = -1 := by decide
  have key : ∀ hb : -1 ≤ b.toInt ∧ b.toInt < (fd_ S 4).toInt, rr_ [58] [89] X S (wr_ X 58 s b) (wr_ S 89 s b) := by
    intro hb
    refine rr_.mk ((fr_.rf X).wr (by decide)) ((fr_.rf S).wr (by decide)) h 2475880078606789346817212416 (by decide +kernel) ⟨?_, ?_, trivial⟩
    · exact mm_up_p h.p58
    · intro q h0 h6
      rw [rd_wa, fd_wn (by decide)]
      split
      · omega
      · exact h.iS q h0 h6
  by_cases c2 : b = -1
  · rw [if_pos c2, if_pos c2]
    exact ⟨rfl, key (by rw [c2, e1]; omega)⟩
  rw [if_neg c2, if_neg c2]
  by_cases c3 : ff_isBody S b = 0
  · rw [if_pos c3, if_pos c3]
    exact ⟨rfl, rr_.id h⟩
  rw [if_neg c3, if_neg c3]
  have hi := rb_in h c3
  have e4 : (fd_ S 4).toInt = (S 4 0).toInt := rfl
  exact ⟨rfl, key (by omega)⟩
theorem ff_isSpan_t {s : Int32} (h : ¬ ff_isSpan s = 0) : 0 ≤ (s / 100).toInt ∧ (s / 100).toInt ≤ (jr_ s 100).toInt ∧ (jr_ s 100).toInt ≤ 31 := by
  unfold ff_isSpan at h
  have e100 : (100 : Int32).toInt = 100 := by decide
  have e32 : (32 : Int32).toInt = 32 := by decide
  by_cases c1 : s < 0
  · rw [if_pos c1] at h; exact absurd rfl h
  rw [if_neg c1] at h
  by_cases c2 : jr_ s 100 < s / 100
  · rw [if_pos c2] at h; exact absurd rfl h
  rw [if_neg c2] at h
  by_cases c3 : 32 ≤ jr_ s 100
  · rw [if_pos c3] at h; exact absurd rfl h
  have n1 := ww_nl0 c1
  have n2 := ww_nlt c2
  have n3 := ww_nle c3
  have d := ww_div s 100 n1 (by rw [e100]; decide)
  rw [e100] at d
  have : 0 ≤ s.toInt / 100 := Int.ediv_nonneg n1 (by decide)
  omega
theorem rs_map (h : RC X S) (s : Int32) (y : Int32) : (xf_map X s y).1 = (ff_map S s y).1 ∧ rr_ [13, 14, 15, 18] [30, 31, 32, 33] X S (xf_map X s y).2 (ff_map S s y).2 := by
  unfold xf_map ff_map
  rw [h.f18]
  by_cases c1 : ff_isSpan s = 0
  · rw [if_pos c1, if_pos c1]
    exact ⟨rfl, rr_.id h⟩
  rw [if_neg c1, if_neg c1]
  by_cases c2 : ff_in y 1 60 = 0
  · rw [if_pos c2, if_pos c2]
    exact ⟨rfl, rr_.id h⟩
  rw [if_neg c2, if_neg c2]
  by_cases c3 : fd_ S 30 = 8
  · rw [if_pos c3, if_pos c3]
    exact ⟨rfl, rr_.id h⟩
  rw [if_neg c3, if_neg c3]
  have hM : 0 ≤ (fd_ S 30).toInt ∧ (fd_ S 30).toInt ≤ 8 ∧ _ := h.iM
  have e8 : (8 : Int32).toInt = 8 := by decide
  have e1 : (1 : Int32).toInt = 1 := by decide
  have e60 : (60 : Int32).toInt = 60 := by decide
  have n8 := ww_ne c3
  have hy := ff_in_t c2
  have ei : (fd_ S 30 + 1).toInt = (fd_ S 30).toInt + 1 := ww_a1 (by omega) hM.1
  have hsp := ff_isSpan_t c1
  have ev : fd_ S 30 = fd_ S 30 + 1 - 1 := ww_eq (by rw [ww_sub1 (by omega), ei]; omega)
  refine ⟨ev, rr_.mk (((((fr_.rf X).wr (by decide)).wr (by decide)).wr (by decide)).fw (by decide)) (((((fr_.rf S).wr (by decide)).wr (by decide)).wr (by decide)).fw (by decide)) h 79228167236630820463252078592 (by decide +kernel) ⟨?_, ?_, ?_, ?_, ?_, ?_, trivial⟩⟩
  · dsimp only [rc_p]
    exact mm_up_p h.p18
  · dsimp only [rc_p]
    rw [fw_k (k := 18) (k2 := 13) (by decide), wr_k (k := 15) (k2 := 13) (by decide), wr_k (k := 14) (k2 := 13) (by decide), fw_k (k := 30) (k2 := 31) (by decide), wr_k (k := 33) (k2 := 31) (by decide), wr_k (k := 32) (k2 := 31) (by decide)]
    exact mm_up_p h.p13
  · dsimp only [rc_p]
    rw [fw_k (k := 18) (k2 := 14) (by decide), wr_k (k := 15) (k2 := 14) (by decide), fw_k (k := 30) (k2 := 32) (by decide), wr_k (k := 33) (k2 := 32) (by decide)]
    exact mm_up_p h.p14
  · dsimp only [rc_p]
    rw [fw_k (k := 18) (k2 := 15) (by decide), fw_k (k := 30) (k2 := 33) (by decide)]
    exact mm_up_p h.p15
  · dsimp only [rc_iM]
    refine ⟨by rw [fd_fw, ei]; omega, by rw [fd_fw, ei]; omega, fun m m0 m8 => ?_⟩
    rw [rd_fn (by decide), rd_wn (by decide), rd_wn (by decide), rd_wn (by decide)]
    exact hM.2.2 m m0 m8
  · dsimp only [rc_imp]
    intro m m0 m1
    rw [fd_fw, ei] at m1
    rw [rd_fn (by decide), rd_wn (by decide), rd_wn (by decide), rd_wa, rd_fn (by decide), rd_wn (by decide), rd_wa, rd_wn (by decide), rd_fn (by decide), rd_wa, rd_wn (by decide), rd_wn (by decide)]
    by_cases z : m.toNatClampNeg = (fd_ S 30).toNatClampNeg
    · rw [if_pos z, if_pos z, if_pos z]
      omega
    · rw [if_neg z, if_neg z, if_neg z]
      exact h.imp m m0 (by rw [ww_cl, ww_cl] at z; omega)
theorem rs_move (h : RC X S) (c : Int32) (y : Int32) : (xf_move X c y).1 = (ff_move S c y).1 ∧ rr_ [28, 29, 30] [56, 57, 58] X S (xf_move X c y).2 (ff_move S c y).2 := by
  unfold xf_move ff_move xf_mo_3 xf_mo_2 xf_mo_1
  rw [h.f0, h.f30]
  by_cases c1 : ff_isCell c = 0
  · rw [if_pos c1, if_pos c1]
    exact ⟨rfl, rr_.id h⟩
  rw [if_neg c1, if_neg c1]
  by_cases c2 : ff_in y (fd_ S 1 + 1) 1699 = 0
  · rw [if_pos c2, if_pos c2]
    exact ⟨rfl, rr_.id h⟩
  rw [if_neg c2, if_neg c2]
  by_cases c3 : fd_ S 56 = 60
  · rw [if_pos c3, if_pos c3]
    exact ⟨rfl, rr_.id h⟩
  rw [if_neg c3, if_neg c3]
  have hV : 0 ≤ (fd_ S 56).toInt ∧ (fd_ S 56).toInt ≤ 60 ∧ _ := h.iV
  have e8 : (60 : Int32).toInt = 60 := by decide
  have n8 := ww_ne c3
  have ei : (fd_ S 56 + 1).toInt = (fd_ S 56).toInt + 1 := ww_a1 (by omega) hV.1
  have ex : fd_ (wr_ X 28 (fd_ S 56) c) 30 = fd_ S 56 := by rw [fd_wn (by decide), h.f30]
  have ex2 : fd_ (wr_ (wr_ X 28 (fd_ S 56) c) 29 (fd_ S 56) y) 30 = fd_ S 56 := by rw [fd_wn (by decide), ex]
  rw [ex, ex2]
  refine ⟨rfl, rr_.mk ((((fr_.rf X).wr (by decide)).wr (by decide)).fw (by decide)) ((((fr_.rf S).wr (by decide)).wr (by decide)).fw (by decide)) h 9444732965859549511680 (by decide +kernel) ⟨?_, ?_, ?_, ?_, trivial⟩⟩
  · dsimp only [rc_p]
    exact mm_up_p h.p30
  · dsimp only [rc_p]
    rw [fw_k (k := 30) (k2 := 28) (by decide), wr_k (k := 29) (k2 := 28) (by decide), fw_k (k := 56) (k2 := 57) (by decide), wr_k (k := 58) (k2 := 57) (by decide)]
    exact mm_up_p h.p28
  · dsimp only [rc_p]
    rw [fw_k (k := 30) (k2 := 29) (by decide), fw_k (k := 56) (k2 := 58) (by decide)]
    exact mm_up_p h.p29
  · dsimp only [rc_iV]
    refine ⟨by rw [fd_fw, ei]; omega, by rw [fd_fw, ei]; omega, fun m m0 m1 => ?_⟩
    rw [fd_fw, ei] at m1
    rw [rd_fn (by decide), rd_wn (by decide), rd_wa]
    by_cases z : m.toNatClampNeg = (fd_ S 56).toNatClampNeg
    · rw [if_pos z]; exact c1
    · rw [if_neg z]; exact hV.2.2 m m0 (by rw [ww_cl, ww_cl] at z; omega)
theorem rs_need (h : RC X S) (w : Int32) (b : Int32) : (xf_need X w b).1 = (ff_need S w b).1 ∧ rr_ [37, 38, 39, 40] [67, 68, 69, 70] X S (xf_need X w b).2 (ff_need S w b).2 := by
  unfold xf_need ff_need xf_nd_4 xf_nd_S xf_nd_3 xf_nd_2 xf_nd_1 nd_S nd_4 nd_3 nd_2 nd_1
  rw [h.f40]
  by_cases c1 : w < 0
  · rw [if_pos c1, if_pos c1]
    exact ⟨rfl, rr_.id h⟩
  rw [if_neg c1, if_neg c1]
  by_cases c2 : ff_in (w / 100) 1 9 = 0
  · rw [if_pos c2, if_pos c2]
    exact ⟨rfl, rr_.id h⟩
  rw [if_neg c2, if_neg c2]
  by_cases c3 : jr_ w 100 = 0
  · rw [if_pos c3, if_pos c3]
    exact ⟨rfl, rr_.id h⟩
  rw [if_neg c3, if_neg c3]
  by_cases c4 : ff_in b 0 99 = 0
  · rw [if_pos c4, if_pos c4]
    exact ⟨rfl, rr_.id h⟩
  rw [if_neg c4, if_neg c4]
  by_cases c5 : fd_ S 67 = 10
  · rw [if_pos c5, if_pos c5]
    exact ⟨rfl, rr_.id h⟩
  rw [if_neg c5, if_neg c5]
  have hN : 0 ≤ (fd_ S 67).toInt ∧ (fd_ S 67).toInt ≤ 10 ∧ _ := h.iN
  have e8 : (10 : Int32).toInt = 10 := by decide
  have e100 : (100 : Int32).toInt = 100 := by decide
  have e1 : (1 : Int32).toInt = 1 := by decide
  have e9 : (9 : Int32).toInt = 9 := by decide
  have e99 : (99 : Int32).toInt = 99 := by decide
  have n8 := ww_ne c5
  have hw := ff_in_t c2
  have hb := ff_in_t c4
  rw [ww_00] at hb
  have hr := ww_rem w 100 (ww_nl0 c1) (by rw [e100]; decide)
  rw [e100] at hr
  have ei : (fd_ S 67 + 1).toInt = (fd_ S 67).toInt + 1 := ww_a1 (by omega) hN.1
  have x1 : fd_ (wr_ X 37 (fd_ S 67) (w / 100)) 40 = fd_ S 67 := by rw [fd_wn (by decide), h.f40]
  rw [x1]
  have x2 : fd_ (wr_ (wr_ X 37 (fd_ S 67) (w / 100)) 38 (fd_ S 67) (jr_ w 100)) 40 = fd_ S 67 := by rw [fd_wn (by decide), x1]
  rw [x2]
  have x3 : fd_ (wr_ (wr_ (wr_ X 37 (fd_ S 67) (w / 100)) 38 (fd_ S 67) (jr_ w 100)) 39 (fd_ S 67) b) 40 = fd_ S 67 := by rw [fd_wn (by decide), x2]
  rw [x3]
  have s1 : fd_ (wr_ S 68 (fd_ S 67) (w / 100)) 67 = fd_ S 67 := fd_wn (by decide)
  rw [s1]
  have s2 : fd_ (wr_ (wr_ S 68 (fd_ S 67) (w / 100)) 69 (fd_ S 67) (jr_ w 100)) 67 = fd_ S 67 := by rw [fd_wn (by decide), s1]
  rw [s2]
  have s3 : fd_ (wr_ (wr_ (wr_ S 68 (fd_ S 67) (w / 100)) 69 (fd_ S 67) (jr_ w 100)) 70 (fd_ S 67) b) 67 = fd_ S 67 := by rw [fd_wn (by decide), s2]
  rw [s3]
  refine ⟨by dsimp only; rw [fd_fw], rr_.mk (((((fr_.rf X).wr (by decide)).wr (by decide)).wr (by decide)).fw (by decide)) (((((fr_.rf S).wr (by decide)).wr (by decide)).wr (by decide)).fw (by decide)) h 151115727517799344504832 (by decide +kernel) ⟨?_, ?_, ?_, ?_, ?_, trivial⟩⟩
  · dsimp only [rc_p]
    exact mm_up_p h.p40
  · dsimp only [rc_p]
    rw [fw_k (k := 40) (k2 := 37) (by decide), wr_k (k := 39) (k2 := 37) (by decide), wr_k (k := 38) (k2 := 37) (by decide), fw_k (k := 67) (k2 := 68) (by decide), wr_k (k := 70) (k2 := 68) (by decide), wr_k (k := 69) (k2 := 68) (by decide)]
    exact mm_up_p h.p37
  · dsimp only [rc_p]
    rw [fw_k (k := 40) (k2 := 38) (by decide), wr_k (k := 39) (k2 := 38) (by decide), fw_k (k := 67) (k2 := 69) (by decide), wr_k (k := 70) (k2 := 69) (by decide)]
    exact mm_up_p h.p38
  · dsimp only [rc_p]
    rw [fw_k (k := 40) (k2 := 39) (by decide), fw_k (k := 67) (k2 := 70) (by decide)]
    exact mm_up_p h.p39
  · dsimp only [rc_iN]
    refine ⟨by rw [fd_fw, ei]; omega, by rw [fd_fw, ei]; omega, fun m m0 m1 => ?_⟩
    rw [fd_fw, ei] at m1
    rw [rd_fn (by decide), rd_wn (by decide), rd_wn (by decide), rd_wa, rd_fn (by decide), rd_wn (by decide), rd_wa, rd_wn (by decide), rd_fn (by decide), rd_wa, rd_wn (by decide), rd_wn (by decide)]
    by_cases z : m.toNatClampNeg = (fd_ S 67).toNatClampNeg
    · rw [if_pos z, if_pos z, if_pos z]
      omega
    · rw [if_neg z, if_neg z, if_neg z]
      exact hN.2.2 m m0 (by rw [ww_cl, ww_cl] at z; omega)
theorem rs_aim (h : RC X S) (c : Int32) (v : Int32) : (xf_aim X c v).1 = (ff_aim S c v).1 ∧ rr_ [46, 47, 48] [76, 77] X S (xf_aim X c v).2 (ff_aim S c v).2 := by
  unfold xf_aim ff_aim xf_am_3 xf_am_2 xf_am_1 am_S
  rw [h.f48]
  by_cases c1 : ff_in c 0 31 = 0
  · rw [if_pos c1, if_pos c1]
    exact ⟨rfl, rr_.id h⟩
  rw [if_neg c1, if_neg c1]
  by_cases c2 : ff_in v 0 9 = 0
  · rw [if_pos c2, if_pos c2]
    exact ⟨rfl, rr_.id h⟩
  rw [if_neg c2, if_neg c2]
  by_cases c3 : fd_ S 76 = 6
  · rw [if_pos c3, if_pos c3]
    exact ⟨rfl, rr_.id h⟩
  rw [if_neg c3, if_neg c3]
  have hA : 0 ≤ (fd_ S 76).toInt ∧ (fd_ S 76).toInt ≤ 6 := h.iA
  have e8 : (6 : Int32).toInt = 6 := by decide
  have e9 : (9 : Int32).toInt = 9 := by decide
  have n8 := ww_ne c3
  have hv := ff_in_t c2
  rw [ww_00] at hv
  have ei : (fd_ S 76 + 1).toInt = (fd_ S 76).toInt + 1 := ww_a1 (by omega) hA.1
  have x1 : fd_ (wr_ X 46 (fd_ S 76) c) 48 = fd_ S 76 := by rw [fd_wn (by decide), h.f48]
  rw [x1]
  have x2 : fd_ (wr_ (wr_ X 46 (fd_ S 76) c) 47 (fd_ S 76) v) 48 = fd_ S 76 := by rw [fd_wn (by decide), x1]
  rw [x2]
  have s1 : fd_ (wr_ S 77 (fd_ S 76) v) 76 = fd_ S 76 := fd_wn (by decide)
  rw [s1]
  refine ⟨by dsimp only; rw [fd_fw], rr_.mk ((((fr_.rf X).wr (by decide)).wr (by decide)).fw (by decide)) (((fr_.rf S).wr (by decide)).fw (by decide)) h 1813388729844156227125248 (by decide +kernel) ⟨?_, ?_, ?_, ?_, trivial⟩⟩
  · dsimp only [rc_p]
    exact mm_up_p h.p48
  · dsimp only [rc_p]
    rw [fw_k (k := 48) (k2 := 47) (by decide), fw_k (k := 76) (k2 := 77) (by decide)]
    exact mm_up_p h.p47
  · dsimp only [rc_iA]
    exact ⟨by rw [fd_fw, ei]; omega, by rw [fd_fw, ei]; omega⟩
  · dsimp only [rc_imi]
    exact ra_wr (P := fun x => 0 ≤ x.toInt ∧ x.toInt ≤ 9) h.imi ⟨by omega, by omega⟩
theorem rs_yard (h : RC X S) (b : Int32) (v : Int32) : (xf_yard X b v).1 = (ff_yard S b v).1 ∧ rr_ [63, 64] [9, 13] X S (xf_yard X b v).2 (ff_yard S b v).2 := by
  unfold xf_yard ff_yard xf_yard_2 xf_yard_1
  rw [h.holeOf]
  by_cases c1 : ff_isHole S b = 0
  · rw [if_pos c1, if_pos c1, if_pos (by decide)]
    exact ⟨rfl, rr_.id h⟩
  obtain ⟨hb, k2, k5⟩ := rb_hole c1
  rw [if_neg c1, if_neg c1, if_neg (rb_neg h hb), h.thro, h.r64]
  by_cases c2 : ff_in v (-2) 2 = 0
  · rw [if_pos c2, if_pos c2]
    exact ⟨rfl, rr_.id h⟩
  rw [if_neg c2, if_neg c2]
  by_cases c3 : rd_ S 12 b = 0
  rotate_left
  · rw [if_neg c3, if_neg (by decide), if_neg (fun z => c3 ((h.thz b).mp z))]
    exact ⟨rfl, rr_.id h⟩
  rw [if_pos c3, if_pos rfl, if_pos ((h.thz b).mpr c3)]
  by_cases c4 : rd_ S 9 b = 60
  · rw [if_pos c4, if_pos c4]
    exact ⟨rfl, rr_.id h⟩
  rw [if_neg c4, if_neg c4]
  have hi := rb_in h hb
  have hT := h.iT b hi.1 (by omega)
  have e60 : (60 : Int32).toInt = 60 := by decide
  have n60 := ww_ne c4
  have e9 : (rd_ S 9 b + 1).toInt = (rd_ S 9 b).toInt + 1 := ww_a1 (by omega) (by omega)
  have s1 : rd_ (wr_ S 9 b (rd_ S 9 b + 1)) 9 b = rd_ S 9 b + 1 := rd_ws _ _ _ _
  rw [s1]
  have e61 : (61 : Int32).toInt = 61 := by decide
  have ix : (61 * b + (rd_ S 9 b + 1)).toNatClampNeg = 61 * b.toNatClampNeg + (rd_ S 9 b + 1).toNatClampNeg := by
    have m1 : (61 * b).toInt = 61 * b.toInt := by rw [ww_mul _ _ (by rw [e61]; omega) (by rw [e61]; omega), e61]
    rw [ww_cl, ww_cl, ww_cl, ww_add _ _ (by omega) (by omega), m1]
    omega
  refine ⟨by rw [rd_an (by decide), rd_ws, rd_wn (by decide), rd_ws], rr_.mk (((fr_.rf X).wr (by decide)).wa (by decide)) (((fr_.rf S).wr (by decide)).wr (by decide)) h 5202438063339014646983904777471104 (by decide +kernel) ⟨?_, ?_, ?_, ?_, ?_, trivial⟩⟩
  · dsimp only [rc_p]
    rw [wa_k (k := 63) (k2 := 64) (by decide), wr_k (k := 13) (k2 := 9) (by decide)]
    exact mm_up_p h.p64
  · dsimp only [rc_p]
    show mm_up X 63 (61 * b.toNatClampNeg + (rd_ S 9 b + 1).toNatClampNeg) v 63 = mm_up S 13 (61 * b + (rd_ S 9 b + 1)).toNatClampNeg v 13
    rw [ix]
    exact mm_up_p h.p63
  · dsimp only [rc_iT]
    intro q q0 q1
    rw [rd_wn (by decide), rd_wn (by decide), rd_wn (by decide), rd_wa]
    have hq := h.iT q q0 q1
    by_cases z : q.toNatClampNeg = b.toNatClampNeg
    · have e : q = b := ww_cl0 q0 hi.1 z
      rw [if_pos z, e, e9]
      omega
    · rw [if_neg z]; exact hq
  · dsimp only [rc_z9]
    exact rz_wr h.z9 hi.2.1 hi.1
  · dsimp only [rc_z13]
    intro q hq
    show mm_up S 13 _ v 13 q = 0
    rw [mm_up_a, if_neg (by rw [ix, ww_cl, ww_cl]; have hq : 61 * (S 4 0).toInt ≤ (q : Int) := hq; omega)]
    exact h.z13 q hq
theorem rs_dn (h : RC X S) (b w y : Int32) (c1 : ¬ ff_isBody S b = 0) (ok : xv_Yw w ∧ 0 ≤ w.toInt) : (if (if rd_ S 12 b = 0 then (0 : Int32) else 1) = 0 then ((-2 : Int32), X) else if fd_ S 62 = 40 then (-3, X) else (rd_ (xf_dn_S X b w y) 72 b, xf_dn_S X b w y)).1 = (dn_go S b w y).1 ∧ rr_ [33, 34, 35, 72] [62, 63, 64, 65] X S (if (if rd_ S 12 b = 0 then (0 : Int32) else 1) = 0 then ((-2 : Int32), X) else if fd_ S 62 = 40 then (-3, X) else (rd_ (xf_dn_S X b w y) 72 b, xf_dn_S X b w y)).2 (dn_go S b w y).2 := by
  have hi := rb_in h c1
  unfold dn_go
  by_cases c4 : rd_ S 12 b = 0
  · rw [if_pos c4, if_pos c4, if_pos rfl]; exact ⟨rfl, rr_.id h⟩
  rw [if_neg c4, if_neg c4, if_neg (by decide)]
  by_cases c5 : fd_ S 62 = 40
  · rw [if_pos c5, if_pos c5]
    exact ⟨rfl, rr_.id h⟩
  rw [if_neg c5, if_neg c5]
  have hw : 0 ≤ (fd_ S 62).toInt ∧ (fd_ S 62).toInt ≤ 40 ∧ _ := h.iW.1
  have e40 : (40 : Int32).toInt = 40 := by decide
  have n40 := ww_ne c5
  have ei : (fd_ S 62 + 1).toInt = (fd_ S 62).toInt + 1 := ww_a1 (by omega) hw.1
  have efr : xi_max (rd_ X 72 b) (fd_ X 0) = dn_fr S b := by
    rw [h.r72, h.f0]
    unfold xi_max dn_fr
    by_cases q : rd_ S 65 b < fd_ S 1
    · rw [if_pos q, if_pos (ww_le' (Int.le_of_lt (ww_lt q)))]
    · rw [if_neg q]
      by_cases r : rd_ S 65 b ≤ fd_ S 1
      · rw [if_pos r]; exact ww_eq (Int.le_antisymm (ww_le r) (ww_nlt q))
      · rw [if_neg r]
  have ex : xf_dn_S X b w y = wr_ (fw_ (wr_ (wr_ X 72 b (dn_fr S b + y)) 33 (fd_ S 62) w) 35 (fd_ S 62 + 1)) 34 (fd_ S 62) (dn_fr S b + y) := by
    unfold xf_dn_S xf_dn_4 xf_dn_3 xf_dn_2 xf_dn_1
    rw [efr]
    have a1 : fd_ (wr_ X 72 b (dn_fr S b + y)) 35 = fd_ S 62 := by rw [fd_wn (by decide), h.f35]
    rw [a1]
    have a2 : fd_ (wr_ (wr_ X 72 b (dn_fr S b + y)) 33 (fd_ S 62) w) 35 = fd_ S 62 := by rw [fd_wn (by decide), a1]
    rw [a2, rd_fn (by decide), rd_wn (by decide), rd_ws]
  have es : dn_S S b w (dn_fr S b + y) = fw_ (wr_ (wr_ (wr_ S 65 b (dn_fr S b + y)) 63 (fd_ S 62) w) 64 (fd_ S 62) (dn_fr S b + y)) 62 (fd_ S 62 + 1) := by
    unfold dn_S dn_4 dn_3 dn_2 dn_1
    have a1 : fd_ (wr_ S 65 b (dn_fr S b + y)) 62 = fd_ S 62 := fd_wn (by decide)
    rw [a1]
    have a2 : fd_ (wr_ (wr_ S 65 b (dn_fr S b + y)) 63 (fd_ S 62) w) 62 = fd_ S 62 := by rw [fd_wn (by decide), a1]
    rw [a2]
    have a3 : fd_ (wr_ (wr_ (wr_ S 65 b (dn_fr S b + y)) 63 (fd_ S 62) w) 64 (fd_ S 62) (dn_fr S b + y)) 62 = fd_ S 62 := by rw [fd_wn (by decide), a2]
    rw [a3]
  rw [ex, es]
  refine ⟨by rw [rd_wn (by decide), rd_fn (by decide), rd_wn (by decide), rd_ws], rr_.mk (((((fr_.rf X).wr (by decide)).wr (by decide)).fw (by decide)).wr (by decide)) (((((fr_.rf S).wr (by decide)).wr (by decide)).wr (by decide)).fw (by decide)) h 2596148429342971677993224072331264 (by decide +kernel) ⟨?_, ?_, ?_, ?_, ?_, ?_, trivial⟩⟩
  · dsimp only [rc_p]
    rw [wr_k (k := 34) (k2 := 35) (by decide)]
    exact mm_up_p h.p35
  · dsimp only [rc_p]
    rw [wr_k (k := 34) (k2 := 33) (by decide), fw_k (k := 35) (k2 := 33) (by decide), fw_k (k := 62) (k2 := 63) (by decide), wr_k (k := 64) (k2 := 63) (by decide)]
    exact mm_up_p h.p33
  · dsimp only [rc_p]
    rw [fw_k (k := 62) (k2 := 64) (by decide)]
    exact mm_up_p h.p34
  · dsimp only [rc_p]
    rw [wr_k (k := 34) (k2 := 72) (by decide), fw_k (k := 35) (k2 := 72) (by decide), wr_k (k := 33) (k2 := 72) (by decide), fw_k (k := 62) (k2 := 65) (by decide), wr_k (k := 64) (k2 := 65) (by decide), wr_k (k := 63) (k2 := 65) (by decide)]
    exact mm_up_p h.p72
  · dsimp only [rc_iW]
    have hiw := h.iW
    refine ⟨⟨by rw [fd_fw, ei]; omega, by rw [fd_fw, ei]; omega, fun m m0 m1 => ?_⟩, fun m m0 m1 => ?_⟩
    · rw [fd_fw, ei] at m1
      rw [rd_fn (by decide), rd_wn (by decide), rd_wa]
      by_cases z : m.toNatClampNeg = (fd_ S 62).toNatClampNeg
      · rw [if_pos z]; exact ok.2
      · rw [if_neg z, rd_wn (by decide)]; exact hw.2.2 m m0 (by rw [ww_cl, ww_cl] at z; omega)
    · rw [fd_fw, ei] at m1
      rw [rd_fn (by decide), rd_wn (by decide), rd_wa]
      by_cases z : m.toNatClampNeg = (fd_ S 62).toNatClampNeg
      · rw [if_pos z]; exact ok.1
      · rw [if_neg z, rd_wn (by decide)]; exact hiw.2 m m0 (by rw [ww_cl, ww_cl] at z; omega)
  · dsimp only [rc_z65]
    rw [fw_k (k := 62) (k2 := 65) (by decide), wr_k (k := 64) (k2 := 65) (by decide), wr_k (k := 63) (k2 := 65) (by decide), fw_k (k := 62) (k2 := 4) (by decide), wr_k (k := 64) (k2 := 4) (by decide), wr_k (k := 63) (k2 := 4) (by decide), wr_k (k := 65) (k2 := 4) (by decide)]
    exact rz_wr h.z65 hi.2.1 hi.1
theorem rn_thing (w : Int32) : xf_isThing w = if dn_sp w = 0 then (if ff_in w 11 19 = 0 then 0 else 1) else 1 := by
  unfold xf_isThing dn_sp
  have e0 : (0 : Int32).toInt = 0 := by decide
  have e10 : (10 : Int32).toInt = 10 := by decide
  have e999 : (999 : Int32).toInt = 999 := by decide
  have e9990 : (9990 : Int32).toInt = 9990 := by decide
  by_cases a : w < 10
  · rw [if_pos a]
    have ha := ww_lt a
    by_cases b : w ≤ 0
    · rw [if_pos b, if_pos rfl]
    · rw [if_neg b]
      have hb := ww_nle b
      have r := ww_rem w 10 (by omega) (by decide)
      rw [e10] at r
      rw [show (if jr_ w 10 = 0 then if (999 : Int32) < w / 10 then (0 : Int32) else 1 else 0) = 0 from if_neg (ww_ne' (by rw [r, e0]; omega)), if_pos rfl]
  · rw [if_neg a]
    have ha := ww_nlt a
    have r := ww_rem w 10 (by omega) (by decide)
    have d := ww_div w 10 (by omega) (by decide)
    rw [e10] at r d
    rw [if_neg (show ¬ w ≤ 0 from ww_nle' (by omega))]
    by_cases b : 9990 < w
    · rw [if_pos b]
      have hb := ww_lt b
      by_cases c : jr_ w 10 = 0
      · have hc : (jr_ w 10).toInt = 0 := by rw [c]; exact e0
        rw [if_pos c, if_pos (ww_lt' (by omega)), if_pos rfl]
      · rw [if_neg c, if_pos rfl]
    · rw [if_neg b]
      have hb := ww_nlt b
      by_cases c : jr_ w 10 = 0
      · have hc : (jr_ w 10).toInt = 0 := by rw [c]; exact e0
        rw [if_pos c, if_pos c, if_neg (ww_nlt' (by omega)), if_neg (by decide)]
      · rw [if_neg c, if_neg c, if_pos rfl]
theorem rs_down (h : RC X S) (b : Int32) (w : Int32) (y : Int32) : (xf_down X b w y).1 = (ff_down S b w y).1 ∧ rr_ [33, 34, 35, 72] [62, 63, 64, 65] X S (xf_down X b w y).2 (ff_down S b w y).2 := by
  unfold xf_down ff_down
  rw [h.holeOf]
  have key : ∀ (hb : ¬ ff_isBody S b = 0) (k3 : rd_ S 5 b = 3), ff_isHole S b = 1 := fun hb k3 => by
    have hi := rb_in h hb
    exact rb_holed h hi.1 hi.2.1 (by rw [k3]; decide) (by rw [k3]; decide)
  by_cases c1 : ff_isBody S b = 0
  · have e : ff_isHole S b = 0 := by unfold ff_isHole; rw [if_pos c1]
    rw [if_pos c1, if_pos e, if_pos (by decide)]
    exact ⟨rfl, rr_.id h⟩
  rw [if_neg c1]
  by_cases c2 : rd_ S 5 b = 3
  rotate_left
  · rw [if_neg c2]
    by_cases d : ff_isHole S b = 0
    · rw [if_pos d, if_pos (by decide)]; exact ⟨rfl, rr_.id h⟩
    · rw [if_neg d, if_neg (rb_neg h c1), h.r60, show xk_Tube (rd_ S 5 b) = 0 from if_neg c2, if_pos rfl]
      exact ⟨rfl, rr_.id h⟩
  rw [key c1 c2, if_pos c2, if_neg (show ¬ (1 : Int32) = 0 by decide), if_neg (rb_neg h c1), h.r60, show xk_Tube (rd_ S 5 b) = 1 from if_pos c2, if_neg (show ¬ (1 : Int32) = 0 by decide), h.thro, h.f35]
  have hth : xf_isThing w = if dn_sp w = 0 then (if ff_in w 11 19 = 0 then 0 else 1) else 1 := rn_thing w
  rw [hth]
  by_cases c3 : ff_in y 1 9 = 0
  · rw [if_pos c3, if_pos c3]
    rw [ite_self]
    exact ⟨rfl, rr_.id h⟩
  rw [if_neg c3, if_neg c3]
  have hi := rb_in h c1
  have e0 : (0 : Int32).toInt = 0 := by decide
  have e11 : (11 : Int32).toInt = 11 := by decide
  have e19 : (19 : Int32).toInt = 19 := by decide
  by_cases c6 : dn_sp w = 0
  · rw [if_pos c6, if_pos c6]
    by_cases c7 : ff_in w 11 19 = 0
    · rw [if_pos c7, if_pos c7, if_pos rfl]; exact ⟨rfl, rr_.id h⟩
    · have q := ff_in_t c7
      rw [if_neg c7, if_neg c7, if_neg (by decide)]
      exact rs_dn h b w y c1 ⟨fun _ => by omega, by omega⟩
  · rw [if_neg c6, if_neg c6, if_neg (by decide)]
    refine rs_dn h b w y c1 ⟨fun q => ?_, ?_⟩
    · unfold dn_sp at c6
      rw [if_neg q] at c6
      split at c6 <;> exact absurd rfl c6
    · unfold dn_sp at c6
      by_cases q : w ≤ 0
      · rw [if_pos q] at c6; exact absurd rfl c6
      · have := ww_nle q
        omega
end RO2
