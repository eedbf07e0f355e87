/-! THE COMPONENT's ORDER OF NEED: functions and laws of its tables -/
/-- the set with k -/
abbrev nu_ (s k : Int32) : Int32 := s ||| ((1 : Int32) <<< (k &&& 31))
def xb_chk : Bool := (List.range 11).all fun n => (List.range (2 ^ n)).all fun s => (List.range n).all fun k =>
  let x := Int32.ofNat s
  let y := nu_ x (Int32.ofNat k)
  decide (0 ≤ y.toInt) && decide (y.toInt < ((2 ^ n : Nat) : Int)) && (nb_ x (Int32.ofNat k) == 1 || (nb_ x (Int32.ofNat k) == 0 && decide (x.toInt < y.toInt) && pc_ y == pc_ x + 1))
theorem xb_t : xb_chk = true := by decide +kernel
def xb_any : Bool := (List.range 11).all fun n => (List.range (2 ^ n - 1)).all fun s => (List.range n).any fun k => nb_ (Int32.ofNat s) (Int32.ofNat k) == 0
theorem xb_at : xb_any = true := by decide +kernel
theorem nu_t {n s k : Int32} (n1 : n.toInt ≤ 10) (s0 : 0 ≤ s.toInt) (s1 : s.toInt < ((2 ^ n.toInt.toNat : Nat) : Int)) (k0 : 0 ≤ k.toInt) (k1 : k.toInt < n.toInt) : 0 ≤ (nu_ s k).toInt ∧ (nu_ s k).toInt < ((2 ^ n.toInt.toNat : Nat) : Int) ∧ (nb_ s k = 1 ∨ (nb_ s k = 0 ∧ s.toInt < (nu_ s k).toInt ∧ pc_ (nu_ s k) = pc_ s + 1)) := by
  have h := List.all_eq_true.mp (List.all_eq_true.mp (List.all_eq_true.mp xb_t n.toInt.toNat (List.mem_range.mpr (by omega))) s.toInt.toNat (List.mem_range.mpr (by omega))) k.toInt.toNat (List.mem_range.mpr (by omega))
  simp only [← ww_nat s0, ← ww_nat k0, Bool.and_eq_true, decide_eq_true_eq, Bool.or_eq_true, beq_iff_eq] at h
  obtain ⟨⟨h1, h2⟩, h3⟩ := h
  refine ⟨h1, h2, ?_⟩
  rcases h3 with z | z
  · exact Or.inl z
  · exact Or.inr ⟨z.1.1, z.1.2, z.2⟩
theorem nu_any {n s : Int32} (n0 : 0 ≤ n.toInt) (n1 : n.toInt ≤ 10) (s0 : 0 ≤ s.toInt) (s1 : s.toInt < ((2 ^ n.toInt.toNat : Nat) : Int) - 1) : ∃ k : Int32, 0 ≤ k.toInt ∧ k.toInt < n.toInt ∧ nb_ s k = 0 := by
  have h := List.all_eq_true.mp (List.all_eq_true.mp xb_at n.toInt.toNat (List.mem_range.mpr (by omega))) s.toInt.toNat (List.mem_range.mpr (by omega))
  simp only [← ww_nat s0, beq_iff_eq, List.any_eq_true, List.mem_range] at h
  obtain ⟨k, hk, hb⟩ := h
  have e : (Int32.ofNat k).toInt = k := by rw [Int32.toInt_ofNat']; exact ww_bm (by omega) (by omega)
  exact ⟨Int32.ofNat k, by rw [e]; omega, by rw [e]; omega, hb⟩
/-- the needs' numbers -/
def xv_Z (X : mm_S) : Prop := xv_N X ∧ ∀ i : Int32, 0 ≤ i.toInt → i.toInt < (fd_ X 40).toInt → 1 ≤ (rd_ X 37 i).toInt ∧ (rd_ X 37 i).toInt ≤ 9 ∧ 0 ≤ (rd_ X 38 i).toInt ∧ (rd_ X 38 i).toInt ≤ 99 ∧ 0 ≤ (rd_ X 39 i).toInt ∧ (rd_ X 39 i).toInt ≤ 99
abbrev xf_ol_v (X : mm_S) (s i : Int32) : Int32 := xf_lateOf X i s + rd_ X 41 (nu_ s i)
def xf_om_go : Nat → mm_S → Int32 → Int32 → mm_S
  | 0, X, _, _ => X
  | fu + 1, X, s, i => if fd_ X 40 ≤ i then X else if nb_ s i = 0 then xf_om_go fu (wr_ X 41 s (xi_min (rd_ X 41 s) (xf_ol_v X s i))) s (i + 1) else xf_om_go fu X s (i + 1)
def xf_om_S (X : mm_S) (s : Int32) : mm_S := xf_om_go 11 (wr_ X 41 s 2147483647) s 0
def xf_os_go : Nat → mm_S → Int32 → mm_S
  | 0, X, _ => X
  | fu + 1, X, s => if s < 0 then X else xf_os_go fu (xf_om_S X s) (s + -1)
def xf_o_all (X : mm_S) : Int32 := (1 : Int32) <<< (fd_ X 40 &&& 31) - 1
def xf_od_S (X : mm_S) : mm_S := xf_os_go 1025 (wr_ X 41 (xf_o_all X) 0) (xf_o_all X - 1)
def xf_ow_go : Nat → mm_S → Int32 → Int32 → Int32
  | 0, _, _, i => i
  | fu + 1, X, s, i => if nb_ s i = 1 then xf_ow_go fu X s (i + 1) else if xf_ol_v X s i = rd_ X 41 s then i else xf_ow_go fu X s (i + 1)
def xf_ow_S (X : mm_S) (s : Int32) : Int32 := xf_ow_go 11 X s 0
def xf_or_go : Nat → mm_S → Int32 → Int32 → mm_S
  | 0, X, _, _ => X
  | fu + 1, X, s, k => if fd_ X 40 ≤ k then fw_ (fw_ X 43 (fd_ X 40)) 40 0 else xf_or_go fu (wr_ X 42 k (xf_ow_S X s)) (nu_ s (xf_ow_S X s)) (k + 1)
def xf_or_S (X : mm_S) : mm_S := xf_or_go 11 (xf_od_S X) 0 0
def xf_order (X : mm_S) : Int32 × mm_S := if fd_ X 40 = 0 then (-1, X) else (rd_ (xf_or_S X) 41 0, xf_or_S X)
theorem xf_ho_of {X Y : mm_S} (h1 : Y 40 = X 40) (h2 : Y 37 = X 37) (fu : Nat) : ∀ s n i : Int32, xf_ho_go fu Y s n i = xf_ho_go fu X s n i := by
  induction fu with
  | zero => intro s n i; rfl
  | succ fu ih => intro s n i; unfold xf_ho_go; rw [fd_of h1, rd_of h2, ih, ih]
theorem xf_lateOf_of {X Y : mm_S} (h1 : Y 40 = X 40) (h2 : Y 37 = X 37) (h3 : Y 38 = X 38) (h4 : Y 39 = X 39) (i s : Int32) : xf_lateOf Y i s = xf_lateOf X i s := by
  unfold xf_lateOf xf_hoursOf
  rw [xf_ho_of h1 h2, rd_of h2, rd_of h3, rd_of h4]
theorem xf_ho_t {X : mm_S} (hZ : xv_Z X) (fu : Nat) : ∀ s n i : Int32, 0 ≤ i.toInt → i.toInt ≤ (fd_ X 40).toInt → 0 ≤ n.toInt → n.toInt ≤ 9 * i.toInt → 0 ≤ (xf_ho_go fu X s n i).toInt ∧ (xf_ho_go fu X s n i).toInt ≤ 90 := by
  obtain ⟨⟨n0, n1⟩, n2⟩ := hZ
  induction fu with
  | zero => intro s n i i0 i1 b0 b1; unfold xf_ho_go; omega
  | succ fu ih =>
    intro s n i i0 i1 b0 b1
    unfold xf_ho_go
    split
    · omega
    · rename_i q
      have q1 := ww_nle q
      obtain ⟨m1, m2, _⟩ := n2 i i0 q1
      have ek : (i + 1).toInt = i.toInt + 1 := ww_inc' (by omega)
      have w0 : ∀ w : Int32, 0 ≤ w.toInt → w.toInt ≤ 9 → 0 ≤ (xf_ho_go fu X s (n + w) (i + 1)).toInt ∧ (xf_ho_go fu X s (n + w) (i + 1)).toInt ≤ 90 := by
        intro w h0 h9
        have eb := ww_add n w (by omega) (by omega)
        exact ih s (n + w) (i + 1) (by omega) (by omega) (by omega) (by omega)
      split
      · exact w0 _ (by omega) m2
      · exact w0 0 (by decide) (by decide)
theorem xf_lateOf_t {X : mm_S} (hZ : xv_Z X) {i : Int32} (s : Int32) (i0 : 0 ≤ i.toInt) (i1 : i.toInt < (fd_ X 40).toInt) : 0 ≤ (xf_lateOf X i s).toInt ∧ (xf_lateOf X i s).toInt ≤ 9801 := by
  have b : 0 ≤ (xf_hoursOf X s).toInt ∧ (xf_hoursOf X s).toInt ≤ 90 := xf_ho_t hZ 11 s 0 0 (by decide) (by have := hZ.1.1; rw [ww_z0]; omega) (by decide) (by decide)
  obtain ⟨⟨n0, n1⟩, n2⟩ := hZ
  obtain ⟨m1, m2, m3, m4, m5, m6⟩ := n2 i i0 i1
  have e1 := ww_add (xf_hoursOf X s) (rd_ X 37 i) (by omega) (by omega)
  have e2 := ww_sub (xf_hoursOf X s + rd_ X 37 i) (rd_ X 39 i) (by omega) (by omega)
  have e3 := xi_max_t 0 (xf_hoursOf X s + rd_ X 37 i - rd_ X 39 i)
  have hz := ww_z0
  have hmul : ∀ x y : Int, 0 ≤ x → x ≤ 99 → 0 ≤ y → y ≤ 99 → 0 ≤ x * y ∧ x * y ≤ 9801 := by
    intro x y x0 x1 y0 y1
    exact ⟨Int.mul_nonneg x0 y0, Int.le_trans (Int.mul_le_mul x1 y1 y0 (by omega)) (by decide)⟩
  have b2 := hmul _ _ m3 m4 (show 0 ≤ (xi_max 0 (xf_hoursOf X s + rd_ X 37 i - rd_ X 39 i)).toInt by omega) (by omega)
  have e4 := ww_mul (rd_ X 38 i) (xi_max 0 (xf_hoursOf X s + rd_ X 37 i - rd_ X 39 i)) (by omega) (by omega)
  unfold xf_lateOf
  omega
theorem xv_Z_of {X Y : mm_S} (h1 : Y 40 = X 40) (h2 : Y 37 = X 37) (h3 : Y 38 = X 38) (h4 : Y 39 = X 39) (h : xv_Z X) : xv_Z Y := by
  unfold xv_Z xv_N
  rw [fd_of h1]
  exact ⟨h.1, fun i i0 i1 => by rw [rd_of h2, rd_of h3, rd_of h4]; exact h.2 i i0 i1⟩
/-- a set's least is right; a: all of them -/
def xd_1 (X : mm_S) (a x : Int32) : Prop := 0 ≤ (rd_ X 41 x).toInt ∧ (rd_ X 41 x).toInt ≤ 9801 * (a.toInt - x.toInt) ∧ (x.toInt < a.toInt → ∃ i : Int32, 0 ≤ i.toInt ∧ i.toInt < (fd_ X 40).toInt ∧ nb_ x i = 0 ∧ xf_ol_v X x i = rd_ X 41 x)
def xd_ (X : mm_S) (a s : Int32) : Prop := ∀ x : Int32, s.toInt < x.toInt → x.toInt ≤ a.toInt → xd_1 X a x
def xd_k (X : mm_S) (a s k : Int32) : Prop := (rd_ X 41 s = 2147483647 ∧ ∀ j : Int32, 0 ≤ j.toInt → j.toInt < k.toInt → ¬ nb_ s j = 0) ∨ xd_1 X a s
theorem xf_ol_w {X : mm_S} {s i x v : Int32} (h : (nu_ s i).toNatClampNeg ≠ x.toNatClampNeg) : xf_ol_v (wr_ X 41 x v) s i = xf_ol_v X s i := by
  unfold xf_ol_v
  rw [xf_lateOf_of (X := X) (Y := wr_ X 41 x v) (mm_up_k (by decide)) (mm_up_k (by decide)) (mm_up_k (by decide)) (mm_up_k (by decide)), rd_wa, if_neg h]
/-- the numbers of the sets: a is all of n -/
def xd_a (n a : Int32) : Prop := 0 ≤ n.toInt ∧ n.toInt ≤ 10 ∧ a.toInt = ((2 ^ n.toInt.toNat : Nat) : Int) - 1
theorem xd_a_of {n : Int32} (n0 : 0 ≤ n.toInt) (n1 : n.toInt ≤ 10) : xd_a n ((1 : Int32) <<< (n &&& 31) - 1) := ⟨n0, n1, (sh_t n0 n1).2.2⟩
theorem xd_a_lt {n a : Int32} (h : xd_a n a) : 0 ≤ a.toInt ∧ a.toInt < 1024 := by
  have := p2_le h.2.1
  have := p2_ge n.toInt.toNat
  have := h.2.2
  omega
theorem xd_w {X : mm_S} {a s v : Int32} (ha : xd_a (fd_ X 40) a) (s0 : 0 ≤ s.toInt) (h : xd_ X a s) : xd_ (wr_ X 41 s v) a s := by
  intro x x0 x1
  obtain ⟨y1, y2, y3⟩ := h x x0 x1
  have e : rd_ (wr_ X 41 s v) 41 x = rd_ X 41 x := by rw [rd_wa, if_neg (fun q => cl_ne s0 x0 q.symm)]
  refine ⟨by rw [e]; exact y1, by rw [e]; exact y2, fun q => ?_⟩
  obtain ⟨k, k0, k1, k2, k3⟩ := y3 q
  have ha3 := ha.2.2
  obtain ⟨t1, t2, t3⟩ := nu_t (s := x) ha.2.1 (by omega) (by omega) k0 k1
  have t4 : x.toInt < (nu_ x k).toInt := by
    rcases t3 with z | z
    · rw [k2] at z; exact absurd z (by decide)
    · exact z.2.1
  exact ⟨k, k0, by rw [fd_wn (by decide)]; exact k1, k2, by rw [e, xf_ol_w (fun q => cl_ne s0 (show s.toInt < (nu_ x k).toInt by omega) q.symm)]; exact k3⟩
theorem xf_ol_t {X : mm_S} {a s k : Int32} (hZ : xv_Z X) (ha : xd_a (fd_ X 40) a) (h : xd_ X a s) (s0 : 0 ≤ s.toInt) (s1 : s.toInt < a.toInt) (k0 : 0 ≤ k.toInt) (k1 : k.toInt < (fd_ X 40).toInt) (hb : nb_ s k = 0) : 0 ≤ (xf_ol_v X s k).toInt ∧ (xf_ol_v X s k).toInt ≤ 9801 * (a.toInt - s.toInt) := by
  have hlt := xd_a_lt ha
  have ha3 := ha.2.2
  obtain ⟨t1, t2, t3⟩ := nu_t (s := s) ha.2.1 s0 (by omega) k0 k1
  have t4 : s.toInt < (nu_ s k).toInt := by
    rcases t3 with z | z
    · rw [hb] at z; exact absurd z (by decide)
    · exact z.2.1
  have c := xf_lateOf_t hZ s k0 k1
  obtain ⟨y1, y2, _⟩ := h _ t4 (by omega)
  have e := ww_add (xf_lateOf X k s) (rd_ X 41 (nu_ s k)) (by omega) (by omega)
  unfold xf_ol_v
  omega
theorem xd_k0 {X : mm_S} {a s : Int32} : xd_k (wr_ X 41 s 2147483647) a s 0 := Or.inl ⟨by rw [rd_ws], fun j j0 j1 => by rw [ww_z0] at j1; omega⟩
theorem xd_kn {X : mm_S} {a s k : Int32} (hb : ¬ nb_ s k = 0) (k0 : 0 ≤ k.toInt) (kh : k.toInt < 10) (h : xd_k X a s k) : xd_k X a s (k + 1) := by
  rcases h with ⟨y, b⟩ | h
  · refine Or.inl ⟨y, fun j j0 j1 => ?_⟩
    rw [ww_inc' (by omega)] at j1
    rcases Int.lt_or_le j.toInt k.toInt with z | z
    · exact b j j0 z
    · rw [show j = k from ww_eq (by omega)]; exact hb
  · exact Or.inr h
theorem xd_ks {X : mm_S} {a s k : Int32} (hZ : xv_Z X) (ha : xd_a (fd_ X 40) a) (hd : xd_ X a s) (s0 : 0 ≤ s.toInt) (s1 : s.toInt < a.toInt) (k0 : 0 ≤ k.toInt) (k1 : k.toInt < (fd_ X 40).toInt) (hb : nb_ s k = 0) (h : xd_k X a s k) : xd_k (wr_ X 41 s (xi_min (rd_ X 41 s) (xf_ol_v X s k))) a s (k + 1) := by
  refine Or.inr ?_
  have ha3 := ha.2.2
  have hw : ∀ (z v : Int32), 0 ≤ z.toInt → z.toInt < (fd_ X 40).toInt → nb_ s z = 0 → xf_ol_v (wr_ X 41 s v) s z = xf_ol_v X s z := by
    intro z v z0 z1 zb
    obtain ⟨t1, t2, t3⟩ := nu_t (s := s) ha.2.1 s0 (by omega) z0 z1
    have t4 : s.toInt < (nu_ s z).toInt := by
      rcases t3 with y | y
      · rw [zb] at y; exact absurd y (by decide)
      · exact y.2.1
    exact xf_ol_w (fun q => cl_ne s0 t4 q.symm)
  have t := xf_ol_t hZ ha hd s0 s1 k0 k1 hb
  have hlt := xd_a_lt ha
  by_cases q : xf_ol_v X s k < rd_ X 41 s
  · have em : xi_min (rd_ X 41 s) (xf_ol_v X s k) = xf_ol_v X s k := by unfold xi_min; rw [if_pos q]
    rw [em]
    refine ⟨by rw [rd_ws]; exact t.1, by rw [rd_ws]; exact t.2, fun _ => ⟨k, k0, by rw [fd_wn (by decide)]; exact k1, hb, ?_⟩⟩
    rw [hw k _ k0 k1 hb, rd_ws]
  · have em : xi_min (rd_ X 41 s) (xf_ol_v X s k) = rd_ X 41 s := by unfold xi_min; rw [if_neg q]
    rw [em]
    rcases h with ⟨y, b⟩ | ⟨y1, y2, y3⟩
    · have q1 := ww_nlt q
      rw [y] at q1
      have : (2147483647 : Int32).toInt = 2147483647 := by decide
      omega
    · refine ⟨by rw [rd_ws]; exact y1, by rw [rd_ws]; exact y2, fun z => ?_⟩
      obtain ⟨i, i0, i1, i2, i3⟩ := y3 z
      exact ⟨i, i0, by rw [fd_wn (by decide)]; exact i1, i2, by rw [hw i _ i0 i1 i2, rd_ws]; exact i3⟩
theorem xd_ke {X : mm_S} {a s k : Int32} (ha : xd_a (fd_ X 40) a) (s0 : 0 ≤ s.toInt) (s1 : s.toInt < a.toInt) (hk : fd_ X 40 ≤ k) (h : xd_k X a s k) : xd_1 X a s := by
  rcases h with ⟨_, b⟩ | h
  · obtain ⟨j, j0, j1, j2⟩ := nu_any (s := s) ha.1 ha.2.1 s0 (by have := ha.2.2; omega)
    have := ww_le hk
    exact absurd j2 (b j j0 (by omega))
  · exact h
theorem xd_i {X : mm_S} {a s : Int32} (ha0 : 0 ≤ a.toInt) (hs : s.toInt = a.toInt - 1) : xd_ (wr_ X 41 a 0) a s := by
  intro x x0 x1
  have e : x = a := ww_eq (by omega)
  subst e
  exact ⟨by rw [rd_ws]; decide, by rw [rd_ws, ww_z0]; omega, fun q => absurd q (by omega)⟩
theorem xd_s {X : mm_S} {a s t : Int32} (h1 : xd_1 X a s) (h : xd_ X a s) (ht : t.toInt = s.toInt - 1) : xd_ X a t := by
  intro x x0 x1
  rcases Int.lt_or_le s.toInt x.toInt with z | z
  · exact h x z x1
  · rw [show x = s from ww_eq (by omega)]; exact h1
/-- the tables stay while the order is written -/
theorem xd_of {X Y : mm_S} {a s : Int32} (r : fr_ [42] X Y) (h : xd_ X a s) : xd_ Y a s := by
  intro x x0 x1
  obtain ⟨y1, y2, y3⟩ := h x x0 x1
  refine ⟨by rw [rd_of (r 41 (by decide))]; exact y1, by rw [rd_of (r 41 (by decide))]; exact y2, fun q => ?_⟩
  obtain ⟨i, i0, i1, i2, i3⟩ := y3 q
  refine ⟨i, i0, by rw [fd_of (r 40 (by decide))]; exact i1, i2, ?_⟩
  unfold xf_ol_v at i3 ⊢
  rw [xf_lateOf_of (r 40 (by decide)) (r 37 (by decide)) (r 38 (by decide)) (r 39 (by decide)), rd_of (r 41 (by decide)), rd_of (r 41 (by decide))]
  exact i3
