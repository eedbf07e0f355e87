/-! PLAIN LAWS: watches, days that food lasts, the tape, cells of maps -/
set_option maxRecDepth 100000
theorem fr_go1 {ks : List Nat} {S T : mm_S} {k : Nat} (r : fr_ ks S T) (h : k ∉ ks) : T k = S k := r k h
theorem xf_below_of {X Y : mm_S} (h4 : Y 4 = X 4) (h60 : Y 60 = X 60) (h80 : Y 80 = X 80) (b : Int32) : xf_belowOf Y b = xf_belowOf X b := by
  unfold xf_belowOf xf_manOf xf_isBody
  rw [fd_of h4, rd_of h60, rd_of h80]
/-! watches -/
theorem wfx (p n : Int32) (hp0 : 0 ≤ p.toInt) (hp1 : p.toInt ≤ 3) (fu : Nat) : ∀ (X : mm_S) (i : Int32), 0 ≤ i.toInt → 3 * p.toInt < i.toInt + (fu : Int) → (xf_wf_go fu X p n i).1 = n ∧ fr_ [44] X (xf_wf_go fu X p n i).2 ∧ (∀ j : Nat, (j : Int) < i.toInt → (xf_wf_go fu X p n i).2 44 j = X 44 j) ∧ ∀ j : Nat, i.toInt ≤ (j : Int) → (j : Int) < 3 * p.toInt → (xf_wf_go fu X p n i).2 44 j = -2 := by
  induction fu with
  | zero => intro X i i0 h; exact ⟨rfl, fr_.rf X, fun _ _ => rfl, fun j a b => by omega⟩
  | succ fu ih =>
    intro X i i0 h
    unfold xf_wf_go
    have lo := ww_lo p
    by_cases c : 3 * p ≤ i
    · rw [if_pos c]
      refine ⟨rfl, fr_.rf X, fun _ _ => rfl, fun j a b => ?_⟩
      have cl := ww_le c
      have e3 : (3 : Int32).toInt = 3 := by decide
      rw [ww_mul _ _ (by rw [e3]; omega) (by rw [e3]; omega), e3] at cl
      omega
    · rw [if_neg c]
      have cl := ww_nle c
      have e3 : (3 : Int32).toInt = 3 := by decide
      have m3 : (3 * p).toInt ≤ 9 := by rw [ww_mul _ _ (by rw [e3]; omega) (by rw [e3]; omega), e3]; omega
      have i1 : (i + 1).toInt = i.toInt + 1 := ww_a1 (by omega) i0
      obtain ⟨g1, g2, g3, g4⟩ := ih (wr_ X 44 i (-2)) (i + 1) (by omega) (by omega)
      refine ⟨g1, (fr_wr (by decide)).tr g2, fun j hj => ?_, fun j a b => ?_⟩
      · rw [g3 j (by omega)]
        show mm_up X 44 i.toNatClampNeg (-2) 44 j = X 44 j
        rw [mm_up_a, if_neg (by rw [ww_cl]; omega)]
      · by_cases z : (j : Int) = i.toInt
        · rw [g3 j (by omega)]
          show mm_up X 44 i.toNatClampNeg (-2) 44 j = -2
          rw [mm_up_a, if_pos (by rw [ww_cl]; omega)]
        · exact g4 j (by omega) b
theorem wfs (p l : Int32) (fu : Nat) : ∀ (S : mm_S) (i : Int32), 0 ≤ i.toInt → i.toInt ≤ 9 → (9 : Int) < i.toInt + (fu : Int) → (wf_go fu S p l i).1 = l ∧ fr_ [74, 75] S (wf_go fu S p l i).2 ∧ (wf_go fu S p l i).2 74 0 = p ∧ (∀ j : Nat, (j : Int) < i.toInt → (wf_go fu S p l i).2 75 j = S 75 j) ∧ ∀ j : Nat, i.toInt ≤ (j : Int) → (j : Int) < 9 → (wf_go fu S p l i).2 75 j = -2 := by
  have e9 : (9 : Int32).toInt = 9 := by decide
  induction fu with
  | zero => intro S i i0 i9 h; omega
  | succ fu ih =>
    intro S i i0 i9 h
    unfold wf_go
    by_cases c : 9 ≤ i
    · have cl := ww_le c
      rw [if_pos c]
      exact ⟨rfl, fr_fw (by decide), (by show mm_up S 74 0 p 74 0 = p; exact mm_up_s _ _ _ _), fun _ _ => rfl, fun j a b => by omega⟩
    · rw [if_neg c]
      have cl := ww_nle c
      have i1 : (i + 1).toInt = i.toInt + 1 := ww_a1 (by omega) i0
      obtain ⟨g1, g2, g5, g3, g4⟩ := ih (wr_ S 75 i (-2)) (i + 1) (by omega) (by omega) (by omega)
      refine ⟨g1, (fr_wr (by decide)).tr g2, g5, fun j hj => ?_, fun j a b => ?_⟩
      · rw [g3 j (by omega)]
        show mm_up S 75 i.toNatClampNeg (-2) 75 j = S 75 j
        rw [mm_up_a, if_neg (by rw [ww_cl]; omega)]
      · by_cases z : (j : Int) = i.toInt
        · rw [g3 j (by omega)]
          show mm_up S 75 i.toNatClampNeg (-2) 75 j = -2
          rw [mm_up_a, if_pos (by rw [ww_cl]; omega)]
        · exact g4 j (by omega) b
theorem rs_wa {X0 S0 : mm_S} (h : RC X0 S0) {p q : Int32} (p1 : 1 ≤ p.toInt) (p3 : p.toInt ≤ 3) (fu : Nat) : ∀ (X S : mm_S) (z n k : Int32), fr_ [44, 45] X0 X → fr_ [75] S0 S → X 45 0 = p → 0 ≤ n.toInt → n.toInt ≤ 3 * p.toInt → (∀ i : Nat, (i : Int) < n.toInt → X 44 i = S 75 i) → 0 ≤ k.toInt → k.toInt ≤ (S0 4 0).toInt → (S0 4 0).toInt < k.toInt + (fu : Int) →
    (xf_wa_go fu X p q z n k).1 = (wa_go fu S p q n z k).1 ∧ fr_ [44, 45] X0 (xf_wa_go fu X p q z n k).2 ∧ fr_ [74, 75] S0 (wa_go fu S p q n z k).2 ∧ (xf_wa_go fu X p q z n k).2 45 0 = p ∧ (wa_go fu S p q n z k).2 74 0 = p ∧ ∀ i : Nat, (i : Int) < 3 * p.toInt → (xf_wa_go fu X p q z n k).2 44 i = (wa_go fu S p q n z k).2 75 i := by
  have e9 : (9 : Int32).toInt = 9 := by decide
  have e3 : (3 : Int32).toInt = 3 := by decide
  have m3 : (3 * p).toInt = 3 * p.toInt := by rw [ww_mul _ _ (by rw [e3]; omega) (by rw [e3]; omega), e3]
  induction fu with
  | zero => intro X S z n k _ _ _ _ _ _ _ a b; omega
  | succ fu ih =>
    intro X S z n k fx fs h45 n0 n3 hn k0 k1 hf
    unfold xf_wa_go wa_go
    have fin : (xf_wf_S X p n).1 = (wf_S S p n).1 ∧ fr_ [44, 45] X0 (xf_wf_S X p n).2 ∧ fr_ [74, 75] S0 (wf_S S p n).2 ∧ (xf_wf_S X p n).2 45 0 = p ∧ (wf_S S p n).2 74 0 = p ∧ ∀ i : Nat, (i : Int) < 3 * p.toInt → (xf_wf_S X p n).2 44 i = (wf_S S p n).2 75 i := by
      obtain ⟨a1, a2, a3, a4⟩ := wfx p n (by omega) p3 10 X n n0 (by omega)
      obtain ⟨b1, b2, b5, b3, b4⟩ := wfs p n 10 S n n0 (by omega) (by omega)
      refine ⟨by rw [show (xf_wf_S X p n).1 = n from a1]; exact b1.symm, fx.tr (a2.le' (by decide)), (fs.le' (by decide)).tr b2, ?_, b5, fun i hi => ?_⟩
      · rw [show (xf_wf_S X p n).2 45 = X 45 from a2 45 (by decide)]; exact h45
      · by_cases y : (i : Int) < n.toInt
        · exact (a3 i y).trans ((hn i y).trans (b3 i y).symm)
        · exact (a4 i (by omega) hi).trans (b4 i (by omega) (by omega)).symm
    rw [show fd_ X 4 = fd_ S0 4 from (fd_of (fx 4 (by decide))).trans h.f4, show fd_ S 4 = fd_ S0 4 from fd_of (fs 4 (by decide))]
    by_cases c : fd_ S0 4 ≤ k
    · rw [if_pos c, if_pos c]; exact fin
    rw [if_neg c, if_neg c]
    obtain ⟨hb, k2, -, kn⟩ := rb_k h k0 c
    by_cases c2 : 9 ≤ z
    · rw [if_pos c2, if_pos c2]; exact fin
    rw [if_neg c2, if_neg c2, xf_below_of (fx 4 (by decide)) (fx 60 (by decide)) (fx 80 (by decide)), h.below, hb, if_neg (show ¬ (1 : Int32) = 0 by decide), rd_of (fs 20 (by decide)), rd_of (fs 19 (by decide))]
    by_cases c3 : rd_ S0 20 k = 0
    · rw [if_pos c3, if_pos (by decide), if_pos c3]
      exact ih X S z n (k + 1) fx fs h45 n0 n3 hn (by omega) (by omega) (by omega)
    rw [if_neg c3, if_neg (show ¬ k < 0 from ww_nlt' (by rw [ww_00]; exact k0)), if_neg c3, rd_of (fx 79 (by decide)), h.r79]
    by_cases c4 : q < rd_ S0 19 k
    · rw [if_pos c4, if_pos c4]
      exact ih X S (z + 1) n (k + 1) fx fs h45 n0 n3 hn (by omega) (by omega) (by omega)
    rw [if_neg c4, if_neg c4]
    by_cases c5 : n = 3 * p
    · rw [if_pos c5, if_pos c5]
      exact ih X S (z + 1) n (k + 1) fx fs h45 n0 n3 hn (by omega) (by omega) (by omega)
    rw [if_neg c5, if_neg c5]
    have nn := ww_ne c5
    have n1 : (n + 1).toInt = n.toInt + 1 := ww_a1 (by omega) n0
    refine ih _ _ (z + 1) (n + 1) (k + 1) (fx.tr (fr_wr (by decide))) (fs.tr (fr_wr (by decide))) (by rw [wr_k (by decide)]; exact h45) (by omega) (by omega) (fun i hi => ?_) (by omega) (by omega) (by omega)
    show mm_up X 44 n.toNatClampNeg k 44 i = mm_up S 75 n.toNatClampNeg k 75 i
    rw [mm_up_a, mm_up_a]
    by_cases y : i = n.toNatClampNeg
    · rw [if_pos y, if_pos y]
    · rw [if_neg y, if_neg y]; exact hn i (by rw [ww_cl] at y; omega)
section RV4
variable {X S : mm_S}
theorem rs_watch (h : RC X S) (p q : Int32) : (xf_watch X p q).1 = (ff_watch S p q).1 ∧ rr_ [44, 45] [74, 75] X S (xf_watch X p q).2 (ff_watch S p q).2 := by
  unfold xf_watch ff_watch
  by_cases c1 : ff_in p 1 3 = 0
  · rw [if_pos c1, if_pos c1]; exact ⟨rfl, rr_.id h⟩
  rw [if_neg c1, if_neg c1]
  by_cases c2 : ff_in q 0 9 = 0
  · rw [if_pos c2, if_pos c2]; exact ⟨rfl, rr_.id h⟩
  rw [if_neg c2, if_neg c2]
  have hp := ff_in_t c1
  have e1 : (1 : Int32).toInt = 1 := by decide
  have e3 : (3 : Int32).toInt = 3 := by decide
  have hB0 : 0 ≤ (S 4 0).toInt := h.iB.1
  have hB1 : (S 4 0).toInt ≤ 120 := h.iB.2
  obtain ⟨g1, g2, g3, g4, g5, g6⟩ := rs_wa h (p := p) (q := q) (by omega) (by omega) 121 (fw_ X 45 p) S 0 0 0 (fr_fw (by decide)) (fr_.rf S) (mm_up_s _ _ _ _) (by decide) (by rw [ww_00]; omega) (fun i hi => by rw [ww_00] at hi; omega) (by decide) (by rw [ww_00]; exact hB0) (by rw [ww_00]; omega)
  refine ⟨g1, rr_.mk g2 g3 h 184467440737095516160 (by decide +kernel) ⟨?_, ?_, trivial⟩⟩
  · dsimp only [rc_wp]
    rw [g4, g5]
    exact Or.inr ⟨rfl, by omega, by omega⟩
  · dsimp only [rc_wat]
    intro i hi
    rw [g4] at hi
    exact g6 i (by omega)
/-! days that food lasts -/
theorem rr_.sc {X' S' : mm_S} (hx : fr_ [32] X X') (hs : fr_ [61] S S') (h : RC X S) : rr_ [32] [61] X S X' S' := rr_.mk hx hs h 0 (by decide +kernel) trivial
theorem rn_mi2 (l y : Int32) : xi_min l y = ld_e y l := by
  unfold xi_min ld_e
  by_cases c : y < l
  · rw [if_pos c, if_neg (ww_nle' (ww_lt c))]
  · rw [if_neg c, if_pos (ww_le' (ww_nlt c))]
def tr_eq (X S : mm_S) : Prop := ∀ k : Nat, (k : Int) < (S 4 0).toInt → ¬ S 20 k = 0 → X 32 k = S 61 k
theorem rs_tr (fu : Nat) : ∀ (X S : mm_S) (k : Int32), RC X S → 0 ≤ k.toInt → (S 4 0).toInt < k.toInt + (fu : Int) → (∀ j : Nat, (j : Int) < k.toInt → ¬ S 20 j = 0 → X 32 j = S 61 j) → tr_eq (xf_st_go fu X k) (tr_go fu S k) ∧ rr_ [32] [61] X S (xf_st_go fu X k) (tr_go fu S k) := by
  induction fu with
  | zero => intro X S k h k0 hk hj; exact ⟨fun j hj2 => hj j (by have : (j : Int) < (S 4 0).toInt := hj2; omega), rr_.id h⟩
  | succ fu ih =>
    intro X S k h k0 hk hj
    unfold xf_st_go tr_go
    rw [h.f4]
    by_cases c : fd_ S 4 ≤ k
    · have cl := ww_le c
      have cl : (S 4 0).toInt ≤ k.toInt := cl
      rw [if_pos c, if_pos c]
      exact ⟨fun j hj2 => hj j (by omega), rr_.id h⟩
    rw [if_neg c, if_neg c]
    obtain ⟨hb, k1, -, kn⟩ := rb_k h k0 c
    have s1 : rr_ [32] [61] X S (xf_st_1 X k) (wr_ S 61 k (rd_ S 17 k)) := rr_.sc (fr_wr (by decide)) (fr_wr (by decide)) h
    have g := ih _ _ (k + 1) s1.2.2 (by omega) (by rw [show wr_ S 61 k (rd_ S 17 k) 4 = S 4 from s1.2.1 4 (by decide)]; omega) (fun j hj2 n20 => ?_)
    · exact ⟨g.1, s1.tr g.2⟩
    · have n20 : ¬ S 20 j = 0 := n20
      show mm_up X 32 k.toNatClampNeg _ 32 j = mm_up S 61 k.toNatClampNeg _ 61 j
      rw [mm_up_a, mm_up_a]
      by_cases y : j = k.toNatClampNeg
      · rw [if_pos y, if_pos y, h.below, hb, if_neg (show ¬ (1 : Int32) = 0 by decide)]
        rw [y] at n20
        rw [if_neg (show ¬ rd_ S 20 k = 0 from n20), if_neg (show ¬ k < 0 from ww_nlt' (by rw [ww_00]; exact k0)), h.r77]
      · rw [if_neg y, if_neg y]
        exact hj j (by rw [ww_cl] at y; omega) n20
theorem rs_lam {a y : Int32} (fu : Nat) : ∀ (X S : mm_S) (l al k : Int32), RC X S → tr_eq X S → 0 ≤ k.toInt → (al = 0 ∨ al = 1) → (xf_la_m fu X a y l al k).1 = (ld_m fu S a y l al k).1 ∧ (xf_la_m fu X a y l al k).2.1 = (ld_m fu S a y l al k).2.1 ∧ tr_eq (xf_la_m fu X a y l al k).2.2 (ld_m fu S a y l al k).2.2 ∧ rr_ [32] [61] X S (xf_la_m fu X a y l al k).2.2 (ld_m fu S a y l al k).2.2 := by
  induction fu with
  | zero => intro X S l al k h t _ _; exact ⟨rfl, rfl, t, rr_.id h⟩
  | succ fu ih =>
    intro X S l al k h t k0 ha
    unfold xf_la_m ld_m
    rw [h.f4]
    by_cases c : fd_ S 4 ≤ k
    · rw [if_pos c, if_pos c]; exact ⟨rfl, rfl, t, rr_.id h⟩
    rw [if_neg c, if_neg c, h.below]
    obtain ⟨hb, k1, -, kn⟩ := rb_k h k0 c
    rw [hb, if_neg (show ¬ (1 : Int32) = 0 by decide)]
    by_cases d : rd_ S 20 k = 0
    · rw [if_pos d, if_pos (by decide), if_pos d]
      exact ih X S l al (k + 1) h t (by omega) ha
    rw [if_neg d, if_neg (show ¬ k < 0 from ww_nlt' (by rw [ww_00]; exact k0)), if_neg d, rn_mi2]
    have e32 : rd_ X 32 k = rd_ S 61 k := t k.toNatClampNeg (by rw [ww_cl]; omega) d
    have s1 : rr_ [32] [61] X S (xf_la_1 X k y l) (ld_S S k y l) := rr_.sc (fr_wr (by decide)) (fr_wr (by decide)) h
    have t1 : tr_eq (xf_la_1 X k y l) (ld_S S k y l) := by
      intro j hj n20
      show mm_up X 32 k.toNatClampNeg _ 32 j = mm_up S 61 k.toNatClampNeg _ 61 j
      rw [mm_up_a, mm_up_a, e32, rn_mi2]
      by_cases z : j = k.toNatClampNeg
      · rw [if_pos z, if_pos z]
      · rw [if_neg z, if_neg z]; exact t j hj n20
    have e33 : rd_ (xf_la_1 X k y l) 32 k = rd_ (ld_S S k y l) 61 k := t1 k.toNatClampNeg (by show _ < (S 4 0).toInt; rw [ww_cl]; omega) d
    have ea : (al &&& (if rd_ (xf_la_1 X k y l) 32 k ≤ a then 0 else 1)) = ld_a (ld_S S k y l) k a al := by
      unfold ld_a
      rw [e33]
      rcases ha with rfl | rfl
      · rw [if_pos rfl]; split <;> rfl
      · rw [if_neg (show ¬ (1 : Int32) = 0 by decide)]; split <;> rfl
    rw [ea]
    have g := ih _ _ (l - ld_e y l) (ld_a (ld_S S k y l) k a al) (k + 1) s1.2.2 t1 (by omega) (by unfold ld_a; split; exact Or.inl rfl; split; exact Or.inl rfl; exact Or.inr rfl)
    exact ⟨g.1, g.2.1, g.2.2.1, s1.tr g.2.2.2⟩
theorem rs_lad {a y : Int32} (fu : Nat) : ∀ (X S : mm_S) (l d : Int32), RC X S → tr_eq X S → 0 ≤ d.toInt → (60 : Int) < d.toInt + (fu : Int) → d.toInt ≤ 60 → (xf_la_d fu X a y l d).1 = (ld_d fu S a y l (d + 1)).1 ∧ rr_ [32] [61] X S (xf_la_d fu X a y l d).2 (ld_d fu S a y l (d + 1)).2 := by
  have e60 : (60 : Int32).toInt = 60 := by decide
  induction fu with
  | zero => intro X S l d _ _ _ h1 h2; omega
  | succ fu ih =>
    intro X S l d h t d0 h1 h2
    unfold xf_la_d ld_d
    have d1 : (d + 1).toInt = d.toInt + 1 := ww_a1 (by omega) d0
    have d2 : (d + 1 + 1).toInt = d.toInt + 2 := by rw [ww_a1 (by omega) (by omega), d1]; omega
    by_cases c : 60 ≤ d
    · have cl := ww_le c
      rw [if_pos c, if_pos (ww_lt' (by omega))]; exact ⟨rfl, rr_.id h⟩
    have cl := ww_nle c
    rw [if_neg c, if_neg (ww_nlt' (by omega))]
    have g := rs_lam (a := a) (y := y) 121 X S l 1 0 h t (by decide) (Or.inr rfl)
    unfold xf_la_s ld_ms
    rw [g.2.1]
    by_cases z : (ld_m 121 S a y l 1 0).2.1 = 0
    · rw [if_pos z, if_pos z]
      exact ⟨(show d = d + 1 - 1 from ww_eq (by rw [ww_sub1 (by omega)]; omega)), g.2.2.2⟩
    · rw [if_neg z, if_neg z, g.1]
      have r := ih _ _ (ld_m 121 S a y l 1 0).1 (d + 1) g.2.2.2.2.2 g.2.2.1 (by omega) (by omega) (by omega)
      exact ⟨r.1, g.2.2.2.tr r.2⟩
theorem rs_lasts (h : RC X S) (a y : Int32) : (xf_lasts X a y).1 = (ff_lastsBy S a y).1 ∧ rr_ [32] [61] X S (xf_lasts X a y).2 (ff_lastsBy S a y).2 := by
  unfold xf_lasts ff_lastsBy
  have hB1 : (S 4 0).toInt ≤ 120 := h.iB.2
  have g := rs_tr 121 X S 0 h (by decide) (by rw [ww_00]; omega) (fun j hj => by rw [ww_00] at hj; omega)
  have e : fd_ X 26 = fd_ (tr_S S) 54 := by rw [h.f26]; exact (fd_of (g.2.2.1 54 (by decide))).symm
  rw [e]
  have r := rs_lad (a := a) (y := y) 61 _ _ (fd_ (tr_S S) 54) 0 g.2.2.2 g.1 (by decide) (by decide) (by decide)
  exact ⟨r.1, g.2.tr r.2⟩
theorem rs_last (h : RC X S) (s n : Int32) : (xf_last X s n).1 = (ff_last S s n).1 ∧ rr_ [32] [61] X S (xf_last X s n).2 (ff_last S s n).2 := by
  unfold xf_last ff_last
  rw [rv_belowMany h]
  by_cases c1 : ff_in s 0 999 = 0
  · rw [if_pos c1, if_pos c1]; exact ⟨rfl, rr_.id h⟩
  rw [if_neg c1, if_neg c1]
  by_cases c2 : ff_in n 0 9 = 0
  · rw [if_pos c2, if_pos c2]; exact ⟨rfl, rr_.id h⟩
  rw [if_neg c2, if_neg c2]
  by_cases c3 : ff_menBelow S = 0
  · rw [if_pos c3, if_pos c3]; exact ⟨rfl, rr_.id h⟩
  rw [if_neg c3, if_neg c3]
  exact rs_lasts h s n
theorem rs_be {s : Int32} (fu : Nat) : ∀ (X S : mm_S) (b n : Int32), RC X S → 0 ≤ n.toInt → n.toInt ≤ 10 → (10 : Int) < n.toInt + (fu : Int) → (xf_be_go fu X s b n).1 = (be_go fu S s b n).1 ∧ rr_ [32] [61] X S (xf_be_go fu X s b n).2 (be_go fu S s b n).2 := by
  have e10 : (10 : Int32).toInt = 10 := by decide
  induction fu with
  | zero =>
    intro X S b n h n0 n10 hn
    omega
  | succ fu ih =>
    intro X S b n h n0 n10 hn
    unfold xf_be_go be_go
    by_cases c : 10 ≤ n
    · rw [if_pos c, if_pos c]; exact ⟨rfl, rr_.id h⟩
    have cl := ww_nle c
    have n1 : (n + 1).toInt = n.toInt + 1 := ww_a1 (by omega) n0
    have g1 := rs_lasts h s n
    have g2 := rs_lasts g1.2.2.2 s b
    rw [if_neg c, if_neg c, g1.1, g2.1]
    split
    · have r := ih _ _ b (n + 1) g2.2.2.2 (by omega) (by omega) (by omega)
      exact ⟨r.1, (g1.2.tr g2.2).tr r.2⟩
    · have r := ih _ _ n (n + 1) g2.2.2.2 (by omega) (by omega) (by omega)
      exact ⟨r.1, (g1.2.tr g2.2).tr r.2⟩
theorem rs_best (h : RC X S) (s : Int32) : (xf_best X s).1 = (ff_best S s).1 ∧ rr_ [32] [61] X S (xf_best X s).2 (ff_best S s).2 := by
  unfold xf_best ff_best
  rw [rv_belowMany h]
  by_cases c1 : ff_in s 0 999 = 0
  · rw [if_pos c1, if_pos c1]; exact ⟨rfl, rr_.id h⟩
  rw [if_neg c1, if_neg c1]
  by_cases c3 : ff_menBelow S = 0
  · rw [if_pos c3, if_pos c3]; exact ⟨rfl, rr_.id h⟩
  rw [if_neg c3, if_neg c3]
  exact rs_be 10 X S 0 1 h (by decide) (by decide) (by decide)
end RV4
