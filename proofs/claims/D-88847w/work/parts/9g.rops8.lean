/-! PLAIN LAWS: aims -/
set_option maxRecDepth 100000
def ai_P (S : mm_S) (i m y : Int32) : Int32 := (rd_ S 77 i + 1) * y * rd_ S 26 m
theorem ai_Pt {X S : mm_S} (h : RC X S) (i m : Int32) {y : Int32} (y0 : 0 ≤ y.toInt) (y1 : y.toInt ≤ 60) : 0 ≤ (ai_P S i m y).toInt ∧ (ai_P S i m y).toInt ≤ 36000 := by
  unfold ai_P
  have mi : 0 ≤ (rd_ S 77 i).toInt ∧ (rd_ S 77 i).toInt ≤ 9 := h.imi _
  have sp : 0 ≤ (rd_ S 26 m).toInt ∧ (rd_ S 26 m).toInt ≤ 60 := h.isp _
  have e1 : (rd_ S 77 i + 1).toInt = (rd_ S 77 i).toInt + 1 := ww_a1 (by omega) mi.1
  have a0 : 0 ≤ (rd_ S 77 i + 1).toInt * y.toInt := Int.mul_nonneg (by omega) y0
  have a1 : (rd_ S 77 i + 1).toInt * y.toInt ≤ 10 * 60 := Int.mul_le_mul (by omega) y1 y0 (by omega)
  have e2 : ((rd_ S 77 i + 1) * y).toInt = (rd_ S 77 i + 1).toInt * y.toInt := ww_mul _ _ (by omega) (by omega)
  have b0 : 0 ≤ ((rd_ S 77 i + 1) * y).toInt * (rd_ S 26 m).toInt := Int.mul_nonneg (by omega) sp.1
  have b1 : ((rd_ S 77 i + 1) * y).toInt * (rd_ S 26 m).toInt ≤ 600 * 60 := Int.mul_le_mul (by omega) sp.2 sp.1 (by omega)
  have e3 : ((rd_ S 77 i + 1) * y * rd_ S 26 m).toInt = ((rd_ S 77 i + 1) * y).toInt * (rd_ S 26 m).toInt := ww_mul _ _ (by omega) (by omega)
  omega
theorem ai_mul {P w : Int32} (P0 : 0 ≤ P.toInt) (P1 : P.toInt ≤ 36000) (w0 : 0 ≤ w.toInt) (w1 : w.toInt ≤ 9) : (P * w).toInt = P.toInt * w.toInt ∧ 0 ≤ P.toInt * w.toInt ∧ P.toInt * w.toInt ≤ 324000 := by
  have a0 : 0 ≤ P.toInt * w.toInt := Int.mul_nonneg P0 w0
  have a1 : P.toInt * w.toInt ≤ 36000 * 9 := Int.mul_le_mul P1 w1 w0 (by omega)
  exact ⟨ww_mul _ _ (by omega) (by omega), a0, by omega⟩
theorem tk_eq {X0 S0 X S : mm_S} (h : RC X0 S0) (h47 : X 47 = X0 47) (h49 : X 49 = X0 49) (h8 : X 8 = X0 8) (g77 : S 77 = S0 77) (g78 : S 78 = S0 78) (g26 : S 26 = S0 26) {i m r y : Int32} (i0 : 0 ≤ i.toInt) (i5 : i.toInt ≤ 5) (y0 : 0 ≤ y.toInt) (y1 : y.toInt ≤ 60) (fu : Nat) : ∀ w k : Int32, 0 ≤ w.toInt → w.toInt ≤ 9 → 0 ≤ k.toInt → r.toInt ≤ 4 → r.toInt < k.toInt + (fu : Int) →
    xf_tk_go fu X i m r y w k = ma_go fu S i m r y (ai_P S0 i m y * w) k ∧ 0 ≤ (ma_go fu S i m r y (ai_P S0 i m y * w) k).toInt ∧ (ma_go fu S i m r y (ai_P S0 i m y * w) k).toInt ≤ 324000 ∨ r.toInt < k.toInt ∧ fu = 0 := by
  obtain ⟨P0, P1⟩ := ai_Pt h i m y0 y1
  induction fu with
  | zero => intro w k _ _ _ _ hf; exact Or.inr ⟨by omega, rfl⟩
  | succ fu ih =>
    intro w k w0 w9 k0 r4 hf
    left
    obtain ⟨m1, m2, m3⟩ := ai_mul P0 P1 w0 w9
    unfold xf_tk_go ma_go
    by_cases c : r ≤ k
    · rw [if_pos c, if_pos c]
      refine ⟨?_, by omega, by omega⟩
      have e : (rd_ X 47 i + 1) * y * rd_ X 8 m = ai_P S0 i m y := by
        unfold ai_P
        rw [rd_of h47, rd_of h8, h.r47, h.r8]
      rw [e]
    have cl := ww_nle c
    have k1 : (k + 1).toInt = k.toInt + 1 := ww_a1 (by omega) k0
    rw [if_neg c, if_neg c]
    have e6 : (6 : Int32).toInt = 6 := by decide
    have rk : 0 ≤ (rd_ S0 78 (6 * k + i)).toInt ∧ (rd_ S0 78 (6 * k + i)).toInt ≤ 9 := h.irk _
    have ev : ma_v S i m y k = ai_P S0 i m y * rd_ S0 78 (6 * k + i) := by
      unfold ma_v ai_P
      rw [rd_of g77, rd_of g26, rd_of g78]
    have ex : rd_ X 49 (k * 6 + i) = rd_ S0 78 (6 * k + i) := by rw [rd_of h49, h.r49, Int32.mul_comm k 6]
    rw [ex, ev]
    generalize rd_ S0 78 (6 * k + i) = rv at rk ⊢
    obtain ⟨n1, n2, n3⟩ := ai_mul P0 P1 rk.1 rk.2
    have em : (if ai_P S0 i m y * rv ≤ ai_P S0 i m y * w then ai_P S0 i m y * w else ai_P S0 i m y * rv) = ai_P S0 i m y * xi_max w rv := by
      unfold xi_max
      by_cases z : w < rv
      · have zl := ww_lt z
        rw [if_pos z]
        by_cases u : ai_P S0 i m y * rv ≤ ai_P S0 i m y * w
        · have ul := ww_le u
          have ml : (ai_P S0 i m y).toInt * w.toInt ≤ (ai_P S0 i m y).toInt * rv.toInt := Int.mul_le_mul_of_nonneg_left (by omega) P0
          rw [if_pos u]
          exact ww_eq (by omega)
        · rw [if_neg u]
      · have zl := ww_nlt z
        have ml : (ai_P S0 i m y).toInt * rv.toInt ≤ (ai_P S0 i m y).toInt * w.toInt := Int.mul_le_mul_of_nonneg_left zl P0
        rw [if_neg z, if_pos (ww_le' (by omega))]
    rw [em]
    have b : 0 ≤ (xi_max w rv).toInt ∧ (xi_max w rv).toInt ≤ 9 := by rw [xi_max_t]; omega
    rcases ih (xi_max w rv) (k + 1) b.1 b.2 (by omega) r4 (by omega) with g | g
    · exact g
    · omega
section RAI
variable {X0 S0 X S : mm_S}
theorem ta_eq (h : RC X0 S0) (fx : fr_ [50, 51] X0 X) (fs : fr_ [80, 81] S0 S) {i m r y : Int32} (i0 : 0 ≤ i.toInt) (i5 : i.toInt ≤ 5) (y0 : 0 ≤ y.toInt) (y1 : y.toInt ≤ 60) (r4 : r.toInt ≤ 4) : xf_takes X i m r y = ff_minutesAt S i m r y ∧ 0 ≤ (ff_minutesAt S i m r y).toInt ∧ (ff_minutesAt S i m r y).toInt ≤ 324000 := by
  have z : ai_P S0 i m y * 0 = 0 := Int32.mul_zero
  have g := tk_eq h (fx 47 (by decide)) (fx 49 (by decide)) (fx 8 (by decide)) (fs 77 (by decide)) (fs 78 (by decide)) (fs 26 (by decide)) (m := m) i0 i5 y0 y1 5 0 0 (by decide) (by decide) (by decide) r4 (by rw [ww_00]; omega)
  rw [z] at g
  rcases g with g | g
  · exact g
  · exact absurd g.2 (by decide)
/-- what has been found so far -/
def ai_g (k : Int32) (X S : mm_S) : Prop := X 50 0 = S 80 0 ∧ X 51 0 = S 81 0 ∧ (k = 2 → X 50 1 = S 80 1 ∧ X 51 1 = S 81 1)
def ai_J (X0 S0 : mm_S) (k l : Int32) (X S : mm_S) : Prop := fr_ [50, 51] X0 X ∧ fr_ [80, 81] S0 S ∧ (ai_g k X S ∨ l = 2147483647)
theorem ai_set {k p q m u o : Int32} (hk : k = 2 → u = o) : ai_g k (xf_ai_S X p q m u) (ai_S S p q m o) := by
  have e1 : (1 : Int32).toNatClampNeg = 1 := by decide
  have e0 : (0 : Int32).toNatClampNeg = 0 := by decide
  unfold xf_ai_S ai_S
  refine ⟨?_, ?_, fun k2 => ⟨?_, ?_⟩⟩
  · rw [wr_k (k := 51) (k2 := 50) (by decide), wr_ne (k := 50) (show 0 ≠ (1 : Int32).toNatClampNeg by decide), wr_k (k := 51) (k2 := 50) (by decide), wr_at (k := 50) (show 0 = (0 : Int32).toNatClampNeg by decide), wr_k (k := 81) (k2 := 80) (by decide), wr_ne (k := 80) (show 0 ≠ (1 : Int32).toNatClampNeg by decide), wr_k (k := 81) (k2 := 80) (by decide), wr_at (k := 80) (show 0 = (0 : Int32).toNatClampNeg by decide)]
  · rw [wr_ne (k := 51) (show 0 ≠ (1 : Int32).toNatClampNeg by decide), wr_k (k := 50) (k2 := 51) (by decide), wr_at (k := 51) (show 0 = (0 : Int32).toNatClampNeg by decide), wr_ne (k := 81) (show 0 ≠ (1 : Int32).toNatClampNeg by decide), wr_k (k := 80) (k2 := 81) (by decide), wr_at (k := 81) (show 0 = (0 : Int32).toNatClampNeg by decide)]
  · rw [wr_k (k := 51) (k2 := 50) (by decide), wr_at (k := 50) (show 1 = (1 : Int32).toNatClampNeg by decide), wr_k (k := 81) (k2 := 80) (by decide), wr_at (k := 80) (show 1 = (1 : Int32).toNatClampNeg by decide)]
  · rw [wr_at (k := 51) (show 1 = (1 : Int32).toNatClampNeg by decide), wr_at (k := 81) (show 1 = (1 : Int32).toNatClampNeg by decide)]
    exact hk k2
/-- one that could be taken -/
theorem ai_c (h : RC X0 S0) {k l r y p q m u o : Int32} (J : ai_J X0 S0 k l X S) (p0 : 0 ≤ p.toInt) (p5 : p.toInt ≤ 5) (q0 : 0 ≤ q.toInt) (q5 : q.toInt ≤ 5) (y0 : 0 ≤ y.toInt) (y1 : y.toInt ≤ 60) (r4 : r.toInt ≤ 4) (hk : k = 2 → u = o) :
    xf_ai_v X r y k p q m u = ai_v S r y k p q m o ∧ (ai_v S r y k p q m o < l → ai_J X0 S0 k (ai_v S r y k p q m o) (xf_ai_S X p q m u) (ai_S S p q m o) ∧ ai_g k (xf_ai_S X p q m u) (ai_S S p q m o)) ∧ (¬ ai_v S r y k p q m o < l → ai_g k X S) := by
  obtain ⟨fx, fs, hg⟩ := J
  obtain ⟨a1, a2, a3⟩ := ta_eq h fx fs (m := m) p0 p5 y0 y1 r4
  obtain ⟨b1, b2, b3⟩ := ta_eq h fx fs (m := o) q0 q5 y0 y1 r4
  have ev : xf_ai_v X r y k p q m u = ai_v S r y k p q m o := by
    unfold xf_ai_v ai_v ai_w
    by_cases k2 : k = 2
    · rw [if_pos k2, if_pos k2, hk k2, a1, b1, rn_ma]
    · rw [if_neg k2, if_neg k2, a1, if_pos (ww_le' (by rw [ww_00]; exact a2))]
  have hv : (ai_v S r y k p q m o).toInt ≤ 324000 := by
    unfold ai_v ai_w
    by_cases k2 : k = 2
    · rw [if_pos k2]; split <;> omega
    · rw [if_neg k2]; split
      · omega
      · rw [ww_00]; omega
  have eM : (2147483647 : Int32).toInt = 2147483647 := by decide
  refine ⟨ev, fun hl => ⟨⟨fx.tr ?_, fs.tr ?_, Or.inl (ai_set hk)⟩, ai_set hk⟩, fun hl => ?_⟩
  · exact (((fr_.rf X).wr (by decide)).wr (by decide)).wr (by decide) |>.wr (by decide)
  · exact (((fr_.rf S).wr (by decide)).wr (by decide)).wr (by decide) |>.wr (by decide)
  · rcases hg with g | g
    · exact g
    · have := ww_nlt hl
      rw [g, eM] at this
      omega
theorem ai_o2 (h : RC X0 S0) {r y p q m : Int32} (p0 : 0 ≤ p.toInt) (p5 : p.toInt ≤ 5) (q0 : 0 ≤ q.toInt) (q5 : q.toInt ≤ 5) (y0 : 0 ≤ y.toInt) (y1 : y.toInt ≤ 60) (r4 : r.toInt ≤ 4) (fu : Nat) : ∀ (X S : mm_S) (l u : Int32), ai_J X0 S0 2 l X S → 0 ≤ u.toInt → (3 : Int) < u.toInt + (fu : Int) →
    (xf_ao_go fu X r y 2 p q m l u).1 = (ao_go fu S r y 2 p q m l u).1 ∧ ai_J X0 S0 2 (ao_go fu S r y 2 p q m l u).1 (xf_ao_go fu X r y 2 p q m l u).2 (ao_go fu S r y 2 p q m l u).2 ∧ (u.toInt < 3 ∨ ai_g 2 X S → ai_g 2 (xf_ao_go fu X r y 2 p q m l u).2 (ao_go fu S r y 2 p q m l u).2) := by
  have e3 : (3 : Int32).toInt = 3 := by decide
  induction fu with
  | zero =>
    intro X S l u J u0 hf
    exact ⟨rfl, J, fun z => z.elim (fun z => by omega) id⟩
  | succ fu ih =>
    intro X S l u J u0 hf
    unfold xf_ao_go ao_go
    rw [if_pos (show (2 : Int32) = 2 from rfl)]
    by_cases c : 3 ≤ u
    · have cl := ww_le c
      rw [if_pos c, if_pos c]
      exact ⟨rfl, J, fun z => z.elim (fun z => by omega) id⟩
    have cl := ww_nle c
    have u1 : (u + 1).toInt = u.toInt + 1 := ww_a1 (by omega) u0
    rw [if_neg c, if_neg c]
    obtain ⟨ev, hy, hn⟩ := ai_c h (k := 2) (m := m) (u := u) (o := u) J p0 p5 q0 q5 y0 y1 r4 (fun _ => rfl)
    rw [ev]
    by_cases d : ai_v S r y 2 p q m u < l
    · rw [if_pos d, if_pos d]
      have g := ih _ _ (ai_v S r y 2 p q m u) (u + 1) (hy d).1 (by omega) (by omega)
      exact ⟨g.1, g.2.1, fun _ => g.2.2 (Or.inr (hy d).2)⟩
    · rw [if_neg d, if_neg d]
      have g := ih X S l (u + 1) J (by omega) (by omega)
      exact ⟨g.1, g.2.1, fun _ => g.2.2 (Or.inr (hn d))⟩
theorem ai_os (h : RC X0 S0) {k r y p q m l : Int32} (J : ai_J X0 S0 k l X S) (p0 : 0 ≤ p.toInt) (p5 : p.toInt ≤ 5) (q0 : 0 ≤ q.toInt) (q5 : q.toInt ≤ 5) (y0 : 0 ≤ y.toInt) (y1 : y.toInt ≤ 60) (r4 : r.toInt ≤ 4) (m0 : 0 ≤ m.toInt) (m3 : m.toInt < 3) :
    (xf_ao_s X r y k p q m l).1 = (ao_s S r y k p q m l).1 ∧ ai_J X0 S0 k (ao_s S r y k p q m l).1 (xf_ao_s X r y k p q m l).2 (ao_s S r y k p q m l).2 ∧ (m.toInt < 2 ∨ ai_g k X S → ai_g k (xf_ao_s X r y k p q m l).2 (ao_s S r y k p q m l).2) := by
  have m1 : (m + 1).toInt = m.toInt + 1 := ww_a1 (by omega) m0
  unfold xf_ao_s ao_s
  by_cases k2 : k = 2
  · rw [k2] at J ⊢
    rw [if_pos rfl]
    have g := ai_o2 h (m := m) p0 p5 q0 q5 y0 y1 r4 5 X S l (m + 1) J (by omega) (by omega)
    exact ⟨g.1, g.2.1, fun z => g.2.2 (z.elim (fun z => Or.inl (by omega)) Or.inr)⟩
  · rw [if_neg k2]
    have m2 : (m + 2).toInt = m.toInt + 2 := by
      have e2 : (2 : Int32).toInt = 2 := by decide
      rw [ww_add _ _ (by omega) (by omega), e2]
    have m11 : (m + 1 + 1).toInt = m.toInt + 2 := by rw [ww_a1 (by omega) (by omega), m1]; omega
    obtain ⟨ev, hy, hn⟩ := ai_c h (k := k) (m := m) (u := m + 1) (o := 2) J p0 p5 q0 q5 y0 y1 r4 (fun z => absurd z k2)
    have n1 : ¬ (if k = 2 then (3 : Int32) else m + 2) ≤ m + 1 := by rw [if_neg k2]; exact ww_nle' (by omega)
    have n2 : (if k = 2 then (3 : Int32) else m + 2) ≤ m + 1 + 1 := by rw [if_neg k2]; exact ww_le' (by omega)
    have f1 : ∀ (Y : mm_S) (l : Int32), xf_ao_go 4 Y r y k p q m l (m + 1 + 1) = (l, Y) := fun Y l => by
      unfold xf_ao_go
      rw [if_pos n2]
    have f2 : ∀ (T : mm_S) (l : Int32), ao_go 4 T r y k p q m l (2 + 1) = (l, T) := fun T l => by
      unfold ao_go
      rw [if_pos (show (3 : Int32) ≤ 2 + 1 by decide)]
    have ux : xf_ao_go 5 X r y k p q m l (m + 1) = if ai_v S r y k p q m 2 < l then (ai_v S r y k p q m 2, xf_ai_S X p q m (m + 1)) else (l, X) := by
      rw [xf_ao_go, if_neg n1, ev, f1, f1]
    have us : ao_go 5 S r y k p q m l 2 = if ai_v S r y k p q m 2 < l then (ai_v S r y k p q m 2, ai_S S p q m 2) else (l, S) := by
      rw [ao_go, if_neg (show ¬ (3 : Int32) ≤ 2 by decide), f2, f2]
    rw [ux, us]
    by_cases d : ai_v S r y k p q m 2 < l
    · rw [if_pos d, if_pos d]
      exact ⟨rfl, (hy d).1, fun _ => (hy d).2⟩
    · rw [if_neg d, if_neg d]
      exact ⟨rfl, J, fun _ => hn d⟩
theorem ai_n (h : RC X0 S0) {k r y p q : Int32} (p0 : 0 ≤ p.toInt) (p5 : p.toInt ≤ 5) (q0 : 0 ≤ q.toInt) (q5 : q.toInt ≤ 5) (y0 : 0 ≤ y.toInt) (y1 : y.toInt ≤ 60) (r4 : r.toInt ≤ 4) (fu : Nat) : ∀ (X S : mm_S) (l m : Int32), ai_J X0 S0 k l X S → 0 ≤ m.toInt → (3 : Int) < m.toInt + (fu : Int) →
    (xf_an_go fu X r y k p q l m).1 = (an_go fu S r y k p q l m).1 ∧ ai_J X0 S0 k (an_go fu S r y k p q l m).1 (xf_an_go fu X r y k p q l m).2 (an_go fu S r y k p q l m).2 ∧ (m.toInt < 2 ∨ ai_g k X S → ai_g k (xf_an_go fu X r y k p q l m).2 (an_go fu S r y k p q l m).2) := by
  have e3 : (3 : Int32).toInt = 3 := by decide
  induction fu with
  | zero => intro X S l m J m0 hf; exact ⟨rfl, J, fun z => z.elim (fun z => by omega) id⟩
  | succ fu ih =>
    intro X S l m J m0 hf
    unfold xf_an_go an_go
    by_cases c : 3 ≤ m
    · have cl := ww_le c
      rw [if_pos c, if_pos c]
      exact ⟨rfl, J, fun z => z.elim (fun z => by omega) id⟩
    have cl := ww_nle c
    have m1 : (m + 1).toInt = m.toInt + 1 := ww_a1 (by omega) m0
    rw [if_neg c, if_neg c]
    obtain ⟨g1, g2, g3⟩ := ai_os h (m := m) J p0 p5 q0 q5 y0 y1 r4 m0 (by omega)
    rw [g1]
    have g := ih _ _ _ (m + 1) g2 (by omega) (by omega)
    exact ⟨g.1, g.2.1, fun z => g.2.2 (Or.inr (g3 z))⟩
theorem ai_q (h : RC X0 S0) {k r y p : Int32} (p0 : 0 ≤ p.toInt) (p5 : p.toInt ≤ 5) (y0 : 0 ≤ y.toInt) (y1 : y.toInt ≤ 60) (r4 : r.toInt ≤ 4) (fu : Nat) : ∀ (X S : mm_S) (l q : Int32), ai_J X0 S0 k l X S → 0 ≤ q.toInt → (6 : Int) < q.toInt + (fu : Int) →
    (xf_aq_go fu X r y k p l q).1 = (aq_go fu S r y k p l q).1 ∧ ai_J X0 S0 k (aq_go fu S r y k p l q).1 (xf_aq_go fu X r y k p l q).2 (aq_go fu S r y k p l q).2 ∧ (ai_g k X S ∨ (∃ z : Int32, q.toInt ≤ z.toInt ∧ z.toInt < (if k = 2 then fd_ S0 76 else 1).toInt ∧ (k = 2 → z ≠ p)) → ai_g k (xf_aq_go fu X r y k p l q).2 (aq_go fu S r y k p l q).2) := by
  have hA1 : (fd_ S0 76).toInt ≤ 6 := h.iA.2
  have e1 : (1 : Int32).toInt = 1 := by decide
  have hlim : (if k = 2 then fd_ S0 76 else (1 : Int32)).toInt ≤ 6 := by split <;> omega
  induction fu with
  | zero => intro X S l q J q0 hf; exact ⟨rfl, J, fun z => z.elim id (fun ⟨z, a, b, _⟩ => by omega)⟩
  | succ fu ih =>
    intro X S l q J q0 hf
    unfold xf_aq_go aq_go
    rw [show fd_ X 48 = fd_ S0 76 from (fd_of (J.1 48 (by decide))).trans h.f48, show fd_ S 76 = fd_ S0 76 from fd_of (J.2.1 76 (by decide))]
    by_cases c : (if k = 2 then fd_ S0 76 else 1) ≤ q
    · have cl := ww_le c
      rw [if_pos c, if_pos c]
      exact ⟨rfl, J, fun z => z.elim id (fun ⟨z, a, b, _⟩ => by omega)⟩
    have cl := ww_nle c
    have q1 : (q + 1).toInt = q.toInt + 1 := ww_a1 (by omega) q0
    rw [if_neg c, if_neg c]
    have go : ∀ hne : (k = 2 → ¬ q = p), (xf_aq_go fu (xf_an_s X r y k p q l).2 r y k p (xf_an_s X r y k p q l).1 (q + 1)).1 = (aq_go fu (an_s S r y k p q l).2 r y k p (an_s S r y k p q l).1 (q + 1)).1 ∧ ai_J X0 S0 k (aq_go fu (an_s S r y k p q l).2 r y k p (an_s S r y k p q l).1 (q + 1)).1 (xf_aq_go fu (xf_an_s X r y k p q l).2 r y k p (xf_an_s X r y k p q l).1 (q + 1)).2 (aq_go fu (an_s S r y k p q l).2 r y k p (an_s S r y k p q l).1 (q + 1)).2 ∧ ai_g k (xf_aq_go fu (xf_an_s X r y k p q l).2 r y k p (xf_an_s X r y k p q l).1 (q + 1)).2 (aq_go fu (an_s S r y k p q l).2 r y k p (an_s S r y k p q l).1 (q + 1)).2 := by
      intro _
      obtain ⟨g1, g2, g3⟩ := ai_n h (k := k) p0 p5 q0 (by omega) y0 y1 r4 4 X S l 0 J (by decide) (by decide)
      have g1 : (xf_an_s X r y k p q l).1 = (an_s S r y k p q l).1 := g1
      rw [g1]
      have g := ih _ _ (an_s S r y k p q l).1 (q + 1) g2 (by omega) (by omega)
      exact ⟨g.1, g.2.1, g.2.2 (Or.inl (g3 (Or.inl (by decide))))⟩
    by_cases k2 : k = 2
    · rw [if_pos k2, if_pos k2]
      by_cases d : q = p
      · rw [if_pos d.symm, if_pos d]
        have g := ih X S l (q + 1) J (by omega) (by omega)
        refine ⟨g.1, g.2.1, fun z => g.2.2 (z.elim Or.inl (fun ⟨z, a, b, e⟩ => Or.inr ⟨z, ?_, b, e⟩))⟩
        have : z ≠ q := fun y => e k2 (y.trans d)
        have := ww_ne this
        omega
      · rw [if_neg (fun y => d y.symm), if_neg d]
        have g := go (fun _ => d)
        exact ⟨g.1, g.2.1, fun _ => g.2.2⟩
    · rw [if_neg k2, if_neg k2]
      have g := go (fun y => absurd y k2)
      exact ⟨g.1, g.2.1, fun _ => g.2.2⟩
theorem ai_p (h : RC X0 S0) {k r y : Int32} (hk : k = 1 ∨ k = 2) (ha : k = 2 → 2 ≤ (fd_ S0 76).toInt) (y0 : 0 ≤ y.toInt) (y1 : y.toInt ≤ 60) (r4 : r.toInt ≤ 4) (fu : Nat) : ∀ (X S : mm_S) (l p : Int32), ai_J X0 S0 k l X S → 0 ≤ p.toInt → (6 : Int) < p.toInt + (fu : Int) → p.toInt ≤ 6 → (p.toInt < (fd_ S0 76).toInt ∨ ai_g k X S) →
    (xf_ap_go fu X r y k l p).1 = (ap_go fu S r y k l p).1 ∧ rr_ [48, 50, 51, 52] [76, 79, 80, 81] X0 S0 (xf_ap_go fu X r y k l p).2 (ap_go fu S r y k l p).2 := by
  have hA0 : 0 ≤ (fd_ S0 76).toInt := h.iA.1
  have hA1 : (fd_ S0 76).toInt ≤ 6 := h.iA.2
  have e1 : (1 : Int32).toInt = 1 := by decide
  have e2 : (2 : Int32).toInt = 2 := by decide
  induction fu with
  | zero => intro X S l p J p0 hf p6 hp; omega
  | succ fu ih =>
    intro X S l p J p0 hf p6 hp
    unfold xf_ap_go ap_go
    rw [show fd_ X 48 = fd_ S0 76 from (fd_of (J.1 48 (by decide))).trans h.f48, show fd_ S 76 = fd_ S0 76 from fd_of (J.2.1 76 (by decide))]
    by_cases c : fd_ S0 76 ≤ p
    · have cl := ww_le c
      rw [if_pos c, if_pos c]
      have g : ai_g k X S := hp.elim (fun z => by omega) id
      refine ⟨rfl, rr_.mk ((J.1.le' (by decide)).tr (((fr_.rf X).fw (by decide)).fw (by decide))) ((J.2.1.le' (by decide)).tr (((fr_.rf S).fw (by decide)).fw (by decide))) h 604758058979131335376896 (by decide +kernel) ⟨?_, ?_, ?_, ?_, trivial⟩⟩
      · dsimp only [rc_p]
        exact mm_up_p (by rw [fw_k (k := 52) (k2 := 48) (by decide), fw_k (k := 79) (k2 := 76) (by decide), J.1 48 (by decide), J.2.1 76 (by decide)]; exact h.p48)
      · dsimp only [rc_p]
        rw [fw_k (k := 48) (k2 := 52) (by decide), fw_k (k := 76) (k2 := 79) (by decide)]
        exact mm_up_p (by rw [J.1 52 (by decide), J.2.1 79 (by decide)]; exact h.p52)
      · dsimp only [rc_aim]
        rw [fw_k (k := 76) (k2 := 79) (by decide), fw_k (k := 48) (k2 := 50) (by decide), fw_k (k := 52) (k2 := 50) (by decide), fw_k (k := 48) (k2 := 51) (by decide), fw_k (k := 52) (k2 := 51) (by decide), fw_k (k := 76) (k2 := 80) (by decide), fw_k (k := 79) (k2 := 80) (by decide), fw_k (k := 76) (k2 := 81) (by decide), fw_k (k := 79) (k2 := 81) (by decide), fw_at]
        rcases hk with rfl | rfl
        · refine ⟨by decide, by decide, fun i hi => ?_⟩
          have : i = 0 := by rw [e1] at hi; omega
          rw [this]
          exact ⟨g.1, g.2.1⟩
        · refine ⟨by decide, by decide, fun i hi => ?_⟩
          have : i = 0 ∨ i = 1 := by rw [e2] at hi; omega
          rcases this with rfl | rfl
          · exact ⟨g.1, g.2.1⟩
          · exact g.2.2 rfl
      · dsimp only [rc_iA]
        exact ⟨by rw [fd_fw]; decide, by rw [fd_fw]; decide⟩
    have cl := ww_nle c
    have p1 : (p + 1).toInt = p.toInt + 1 := ww_a1 (by omega) p0
    rw [if_neg c, if_neg c]
    obtain ⟨g1, g2, g3⟩ := ai_q h (k := k) p0 (by omega) y0 y1 r4 7 X S l 0 J (by decide) (by decide)
    have g1 : (xf_aq_s X r y k p l).1 = (aq_s S r y k p l).1 := g1
    rw [g1]
    refine ih _ _ (aq_s S r y k p l).1 (p + 1) g2 (by omega) (by omega) (by omega) (Or.inr (g3 (Or.inr ?_)))
    by_cases k2 : k = 2
    · have a2 := ha k2
      rw [if_pos k2]
      by_cases z : p = 0
      · exact ⟨1, by decide, by omega, fun _ y => absurd (y.trans z) (by decide)⟩
      · exact ⟨0, Int.le_refl _, by rw [ww_00]; omega, fun _ y => z y.symm⟩
    · rw [if_neg k2]
      exact ⟨0, Int.le_refl _, by decide, fun y => absurd y k2⟩
theorem rs_aimed (h : RC X S) (r y k : Int32) : (xf_aimed X r y k).1 = (ff_aimed S r y k).1 ∧ rr_ [48, 50, 51, 52] [76, 79, 80, 81] X S (xf_aimed X r y k).2 (ff_aimed S r y k).2 := by
  unfold xf_aimed ff_aimed
  rw [h.f48]
  by_cases c1 : ff_in r 1 4 = 0
  · rw [if_pos c1, if_pos c1]; exact ⟨rfl, rr_.id h⟩
  rw [if_neg c1, if_neg c1]
  by_cases c2 : ff_in y 1 60 = 0
  · rw [if_pos c2, if_pos c2]; exact ⟨rfl, rr_.id h⟩
  rw [if_neg c2, if_neg c2]
  by_cases c3 : ff_in k 1 2 = 0
  · rw [if_pos c3, if_pos c3]; exact ⟨rfl, rr_.id h⟩
  rw [if_neg c3, if_neg c3]
  by_cases c4 : fd_ S 76 = 0
  · rw [if_pos c4, if_pos c4]; exact ⟨rfl, rr_.id h⟩
  rw [if_neg c4, if_neg c4]
  have hr := ff_in_t c1
  have hy := ff_in_t c2
  have hk := ff_in_t c3
  have n4 := ww_ne c4
  have hA0 : 0 ≤ (fd_ S 76).toInt := h.iA.1
  have e0 : (0 : Int32).toInt = 0 := by decide
  have e1 : (1 : Int32).toInt = 1 := by decide
  have e2 : (2 : Int32).toInt = 2 := by decide
  have e4 : (4 : Int32).toInt = 4 := by decide
  have e60 : (60 : Int32).toInt = 60 := by decide
  have hk2 : k = 1 ∨ k = 2 := by
    by_cases z : k = 1
    · exact Or.inl z
    · have := ww_ne z; exact Or.inr (ww_eq (by omega))
  have go : ∀ ha : (k = 2 → 2 ≤ (fd_ S 76).toInt), (xf_ap_s X r y k).1 = (ap_s S r y k).1 ∧ rr_ [48, 50, 51, 52] [76, 79, 80, 81] X S (xf_ap_s X r y k).2 (ap_s S r y k).2 := fun ha =>
    ai_p h hk2 ha (by omega) (by omega) (by omega) 7 X S 2147483647 0 ⟨fr_.rf X, fr_.rf S, Or.inr rfl⟩ (by decide) (by decide) (by decide) (Or.inl (by omega))
  rcases hk2 with z | z
  · rw [z, if_pos (ww_le' (by omega)), if_neg (by decide)]
    rw [z] at go
    exact go (fun q => absurd q (by decide))
  · rw [z, if_pos rfl]
    rw [z] at go
    by_cases w : 2 ≤ fd_ S 76
    · rw [if_pos w, if_pos w]
      exact go (fun _ => by have := ww_le w; omega)
    · rw [if_neg w, if_neg w]; exact ⟨rfl, rr_.id h⟩
end RAI
