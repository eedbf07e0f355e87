/-! THE REFERENCE's ORDER OF NEED: laws of its tables -/
/-! the cheapest order: what the tables of the sets hold -/
theorem ww_nat {x : Int32} (h : 0 ≤ x.toInt) : x = Int32.ofNat x.toInt.toNat := by
  apply ww_eq
  have := ww_hi x
  rw [Int32.toInt_ofNat']
  have e : ((x.toInt.toNat : Nat) : Int) = x.toInt := Int.toNat_of_nonneg h
  rw [e]
  exact (ww_bm (ww_lo x) (ww_hi x)).symm
def pc_ (s : Int32) : Nat := (List.range 10).countP fun k => nb_ s (Int32.ofNat k) != 0
def ob_chk : Bool := (List.range 1024).all fun s => (List.range 10).all fun k =>
  let x := Int32.ofNat s
  let y := nm_ x (Int32.ofNat k)
  decide (0 ≤ y) && decide (y < 1024) && (nb_ x (Int32.ofNat k) == 0 || (decide (y < x) && pc_ y + 1 == pc_ x))
theorem ob_t : ob_chk = true := by decide +kernel
def ob_any : Bool := (List.range 11).all fun n => (List.range (2 ^ n)).all fun s => s == 0 || (List.range n).any fun k => nb_ (Int32.ofNat s) (Int32.ofNat k) != 0
theorem ob_at : ob_any = true := by decide +kernel
def ob_full : Bool := (List.range 11).all fun n => ((1 : Int32) <<< (Int32.ofNat n &&& 31)).toInt == ((2 ^ n : Nat) : Int) && pc_ ((1 : Int32) <<< (Int32.ofNat n &&& 31) - 1) == n && ((1 : Int32) <<< (Int32.ofNat n &&& 31) - 1).toInt == ((2 ^ n : Nat) : Int) - 1
theorem ob_ft : ob_full = true := by decide +kernel
theorem nm_t {s k : Int32} (s0 : 0 ≤ s.toInt) (s1 : s.toInt < 1024) (k0 : 0 ≤ k.toInt) (k1 : k.toInt < 10) : 0 ≤ (nm_ s k).toInt ∧ (nm_ s k).toInt < 1024 ∧ (¬ nb_ s k = 0 → (nm_ s k).toInt < s.toInt ∧ pc_ (nm_ s k) + 1 = pc_ s) := by
  have h := List.all_eq_true.mp (List.all_eq_true.mp ob_t s.toInt.toNat (List.mem_range.mpr (by omega))) k.toInt.toNat (List.mem_range.mpr (by omega))
  simp only [← ww_nat s0, ← ww_nat k0, Bool.and_eq_true, decide_eq_true_eq, Bool.or_eq_true, beq_iff_eq] at h
  obtain ⟨⟨h1, h2⟩, h3⟩ := h
  have e : (1024 : Int32).toInt = 1024 := by decide
  refine ⟨ww_0 h1, by have := ww_lt h2; omega, fun q => ?_⟩
  rcases h3 with z | z
  · exact absurd z q
  · exact ⟨ww_lt z.1, z.2⟩
theorem sh_t {n : Int32} (n0 : 0 ≤ n.toInt) (n1 : n.toInt ≤ 10) : ((1 : Int32) <<< (n &&& 31)).toInt = ((2 ^ n.toInt.toNat : Nat) : Int) ∧ pc_ ((1 : Int32) <<< (n &&& 31) - 1) = n.toInt.toNat ∧ ((1 : Int32) <<< (n &&& 31) - 1).toInt = ((2 ^ n.toInt.toNat : Nat) : Int) - 1 := by
  have h := List.all_eq_true.mp ob_ft n.toInt.toNat (List.mem_range.mpr (by omega))
  simp only [← ww_nat n0, Bool.and_eq_true, beq_iff_eq] at h
  exact ⟨h.1.1, h.1.2, h.2⟩
theorem p2_le {n : Int32} (n1 : n.toInt ≤ 10) : ((2 ^ n.toInt.toNat : Nat) : Int) ≤ 1024 := by
  have : 2 ^ n.toInt.toNat ≤ 2 ^ 10 := Nat.pow_le_pow_right (by decide) (by omega)
  omega
theorem p2_ge (n : Nat) : 1 ≤ ((2 ^ n : Nat) : Int) := by
  have : 1 ≤ 2 ^ n := Nat.one_le_two_pow
  omega
theorem nb_any {n s : Int32} (n0 : 0 ≤ n.toInt) (n1 : n.toInt ≤ 10) (s0 : 1 ≤ s.toInt) (s1 : s.toInt < ((2 ^ n.toInt.toNat : Nat) : Int)) : ∃ k : Int32, 0 ≤ k.toInt ∧ k.toInt < n.toInt ∧ ¬ nb_ s k = 0 := by
  have h := List.all_eq_true.mp (List.all_eq_true.mp ob_at n.toInt.toNat (List.mem_range.mpr (by omega))) s.toInt.toNat (List.mem_range.mpr (by omega))
  simp only [← ww_nat (show 0 ≤ s.toInt by omega), Bool.or_eq_true, beq_iff_eq, List.any_eq_true, List.mem_range, bne_iff_ne, ne_eq] at h
  rcases h with z | ⟨k, hk, hb⟩
  · omega
  · have e : (Int32.ofNat k).toInt = k := by rw [Int32.toInt_ofNat']; exact ww_bm (by omega) (by omega)
    exact ⟨Int32.ofNat k, by rw [e]; omega, by rw [e]; omega, hb⟩
theorem pc_0 {s : Int32} (s0 : 0 ≤ s.toInt) (h : 1 ≤ pc_ s) : 1 ≤ s.toInt := by
  rcases Int.lt_or_le 0 s.toInt with z | z
  · omega
  · have e : s = 0 := ww_eq (by rw [ww_z0]; omega)
    rw [e] at h
    exact absurd h (by decide +kernel)
theorem cn_go_of {S T : mm_S} (h1 : T 67 = S 67) (h2 : T 68 = S 68) (fu : Nat) : ∀ s b k : Int32, cn_go fu T s b k = cn_go fu S s b k := by
  induction fu with
  | zero => intro s b k; rfl
  | succ fu ih => intro s b k; unfold cn_go; rw [fd_of h1, rd_of h2, ih]
theorem costNext_of {S T : mm_S} (h1 : T 67 = S 67) (h2 : T 68 = S 68) (h3 : T 69 = S 69) (h4 : T 70 = S 70) (k s : Int32) : ff_costNext T k s = ff_costNext S k s := by
  unfold ff_costNext cn_late cn_s
  rw [cn_go_of h1 h2, rd_of h2, rd_of h3, rd_of h4]
theorem cn_go_t {S : mm_S} (hN : iv_N S) (fu : Nat) : ∀ s b k : Int32, 0 ≤ k.toInt → k.toInt ≤ (fd_ S 67).toInt → 0 ≤ b.toInt → b.toInt ≤ 9 * k.toInt → 0 ≤ (cn_go fu S s b k).toInt ∧ (cn_go fu S s b k).toInt ≤ 90 := by
  obtain ⟨n0, n1, n2⟩ := hN
  induction fu with
  | zero => intro s b k k0 kn b0 b1; unfold cn_go; omega
  | succ fu ih =>
    intro s b k k0 kn b0 b1
    unfold cn_go
    split
    · omega
    · rename_i q
      have q1 := ww_nle q
      obtain ⟨m1, m2, _⟩ := n2 k k0 q1
      have ek : (k + 1).toInt = k.toInt + 1 := ww_inc' (by omega)
      have w0 : ∀ w : Int32, 0 ≤ w.toInt → w.toInt ≤ 9 → 0 ≤ (cn_go fu S s (b + w) (k + 1)).toInt ∧ (cn_go fu S s (b + w) (k + 1)).toInt ≤ 90 := by
        intro w h0 h9
        have eb := ww_add b w (by omega) (by omega)
        exact ih s (b + w) (k + 1) (by omega) (by omega) (by omega) (by omega)
      apply w0
      · split
        · omega
        · decide
      · split
        · omega
        · decide
theorem costNext_t {S : mm_S} (hN : iv_N S) {k : Int32} (s : Int32) (k0 : 0 ≤ k.toInt) (k1 : k.toInt < (fd_ S 67).toInt) : 0 ≤ (ff_costNext S k s).toInt ∧ (ff_costNext S k s).toInt ≤ 9801 := by
  have b : 0 ≤ (cn_s S s).toInt ∧ (cn_s S s).toInt ≤ 90 := cn_go_t hN 11 s 0 0 (by decide) (by have := hN.1; rw [ww_z0]; omega) (by decide) (by decide)
  obtain ⟨n0, n1, n2⟩ := hN
  obtain ⟨m1, m2, m3, m4, m5, m6⟩ := n2 k k0 k1
  have e1 := ww_add (cn_s S s) (rd_ S 68 k) (by omega) (by omega)
  have e2 := ww_sub (cn_s S s + rd_ S 68 k) (rd_ S 70 k) (by omega) (by omega)
  unfold ff_costNext cn_late
  split
  · rw [ww_z0]; omega
  · rename_i q
    have q1 := ww_nle q
    rw [ww_z0] at q1
    have hmul : ∀ x y : Int, 0 ≤ x → x ≤ 99 → 0 ≤ y → y ≤ 99 → 0 ≤ x * y ∧ x * y ≤ 9801 := by
      intro x y x0 x1 y0 y1
      exact ⟨Int.mul_nonneg x0 y0, Int.le_trans (Int.mul_le_mul x1 y1 y0 (by omega)) (by decide)⟩
    have b2 := hmul _ _ (show 0 ≤ (cn_s S s + rd_ S 68 k - rd_ S 70 k).toInt by omega) (by omega) m3 m4
    have e3 := ww_mul (cn_s S s + rd_ S 68 k - rd_ S 70 k) (rd_ S 69 k) (by omega) (by omega)
    omega
/-- a set's cheapest is right -/
def dp_1 (S : mm_S) (x : Int32) : Prop := 0 ≤ (rd_ S 71 x).toInt ∧ (rd_ S 71 x).toInt ≤ 9801 * x.toInt ∧ (1 ≤ x.toInt → ∃ k : Int32, 0 ≤ k.toInt ∧ k.toInt < (fd_ S 67).toInt ∧ ¬ nb_ x k = 0 ∧ on_v S x k = rd_ S 71 x)
def dp_ (S : mm_S) (s : Int32) : Prop := ∀ x : Int32, 0 ≤ x.toInt → x.toInt < s.toInt → dp_1 S x
/-- .. so far, over the needs below k -/
def dp_k (S : mm_S) (s k : Int32) : Prop := (rd_ S 71 s = 2147483647 ∧ ∀ j : Int32, 0 ≤ j.toInt → j.toInt < k.toInt → nb_ s j = 0) ∨ dp_1 S s
theorem on_v_w {S : mm_S} {s k x v : Int32} (h : (nm_ s k).toNatClampNeg ≠ x.toNatClampNeg) : on_v (wr_ S 71 x v) s k = on_v S s k := by
  unfold on_v
  rw [costNext_of (S := S) (T := wr_ S 71 x v) (mm_up_k (by decide)) (mm_up_k (by decide)) (mm_up_k (by decide)) (mm_up_k (by decide)), rd_wa, if_neg h]
theorem cl_ne {a b : Int32} (h1 : 0 ≤ a.toInt) (h : a.toInt < b.toInt) : a.toNatClampNeg ≠ b.toNatClampNeg := by rw [ww_cl, ww_cl]; omega
/-- a table's writing at s leaves what is below -/
theorem dp_w {S : mm_S} {s v : Int32} (s1 : s.toInt < 1024) (hn : (fd_ S 67).toInt ≤ 10) (h : dp_ S s) : dp_ (wr_ S 71 s v) s := by
  intro x x0 x1
  obtain ⟨a, b, c⟩ := h x x0 x1
  have e : rd_ (wr_ S 71 s v) 71 x = rd_ S 71 x := by rw [rd_wa, if_neg (cl_ne x0 x1)]
  refine ⟨by rw [e]; exact a, by rw [e]; exact b, fun q => ?_⟩
  obtain ⟨k, k0, k1, k2, k3⟩ := c q
  have t := nm_t x0 (by omega) k0 (by omega)
  exact ⟨k, k0, by rw [fd_wn (by decide)]; exact k1, k2, by rw [e, on_v_w (cl_ne t.1 (by have := (t.2.2 k2).1; omega))]; exact k3⟩
theorem on_v_t {S : mm_S} (hN : iv_N S) {s k : Int32} (h : dp_ S s) (s0 : 1 ≤ s.toInt) (s1 : s.toInt < 1024) (k0 : 0 ≤ k.toInt) (k1 : k.toInt < (fd_ S 67).toInt) (hb : ¬ nb_ s k = 0) : 0 ≤ (on_v S s k).toInt ∧ (on_v S s k).toInt ≤ 9801 * s.toInt := by
  have hn := hN.2.1
  have t := nm_t (show 0 ≤ s.toInt by omega) s1 k0 (by omega)
  have t2 := (t.2.2 hb).1
  have c := costNext_t hN s k0 k1
  obtain ⟨a, b, _⟩ := h _ t.1 t2
  have e := ww_add (ff_costNext S k s) (rd_ S 71 (nm_ s k)) (by omega) (by omega)
  unfold on_v
  omega
theorem iv_N_of {S T : mm_S} (h1 : T 67 = S 67) (h2 : T 68 = S 68) (h3 : T 69 = S 69) (h4 : T 70 = S 70) (h : iv_N S) : iv_N T := by
  unfold iv_N
  rw [fd_of h1]
  exact ⟨h.1, h.2.1, fun i i0 i1 => by rw [rd_of h2, rd_of h3, rd_of h4]; exact h.2.2 i i0 i1⟩
/-- the first of a set's: still nothing -/
theorem dp_k0 {S : mm_S} {s : Int32} : dp_k (wr_ S 71 s 2147483647) s 0 := Or.inl ⟨by rw [rd_ws], fun j j0 j1 => by rw [ww_z0] at j1; omega⟩
theorem dp_kn {S : mm_S} {s k : Int32} (hb : nb_ s k = 0) (k0 : 0 ≤ k.toInt) (kh : k.toInt < 10) (h : dp_k S s k) : dp_k S s (k + 1) := by
  rcases h with ⟨a, b⟩ | h
  · refine Or.inl ⟨a, fun j j0 j1 => ?_⟩
    rw [ww_inc' (by omega)] at j1
    rcases Int.lt_or_le j.toInt k.toInt with z | z
    · exact b j j0 z
    · rw [show j = k from ww_eq (by omega)]; exact hb
  · exact Or.inr h
theorem dp_kl {S : mm_S} (hN : iv_N S) {s k : Int32} (hd : dp_ S s) (s0 : 1 ≤ s.toInt) (s1 : s.toInt < 1024) (k0 : 0 ≤ k.toInt) (k1 : k.toInt < (fd_ S 67).toInt) (hb : ¬ nb_ s k = 0) (hl : rd_ S 71 s ≤ on_v S s k) (h : dp_k S s k) : dp_k S s (k + 1) := by
  rcases h with ⟨a, b⟩ | h
  · have t := on_v_t hN hd s0 s1 k0 k1 hb
    have q := ww_le hl
    rw [a] at q
    have : (2147483647 : Int32).toInt = 2147483647 := by decide
    omega
  · exact Or.inr h
theorem dp_kg {S : mm_S} (hN : iv_N S) {s k : Int32} (hd : dp_ S s) (s0 : 1 ≤ s.toInt) (s1 : s.toInt < 1024) (k0 : 0 ≤ k.toInt) (k1 : k.toInt < (fd_ S 67).toInt) (hb : ¬ nb_ s k = 0) : dp_k (wr_ S 71 s (on_v S s k)) s (k + 1) := by
  have t := on_v_t hN hd s0 s1 k0 k1 hb
  have hn := hN.2.1
  have u := nm_t (show 0 ≤ s.toInt by omega) s1 k0 (by omega)
  refine Or.inr ⟨by rw [rd_ws]; exact t.1, by rw [rd_ws]; exact t.2, fun _ => ⟨k, k0, by rw [fd_wn (by decide)]; exact k1, hb, ?_⟩⟩
  rw [rd_ws, on_v_w (cl_ne u.1 (u.2.2 hb).1)]
theorem dp_ke {S : mm_S} (hN : iv_N S) {s k : Int32} (s0 : 1 ≤ s.toInt) (s1 : s.toInt < ((2 ^ (fd_ S 67).toInt.toNat : Nat) : Int)) (hk : (fd_ S 67).toInt ≤ k.toInt) (h : dp_k S s k) : dp_1 S s := by
  rcases h with ⟨a, b⟩ | h
  · obtain ⟨j, j0, j1, j2⟩ := nb_any hN.1 hN.2.1 s0 s1
    exact absurd (b j j0 (by omega)) j2
  · exact h
theorem dp_s {S : mm_S} {s : Int32} (hs : s.toInt < 1024) (h : dp_ S s) (h1 : dp_1 S s) : dp_ S (s + 1) := by
  intro x x0 x1
  rw [ww_inc' (by omega)] at x1
  rcases Int.lt_or_le x.toInt s.toInt with z | z
  · exact h x x0 z
  · rw [show x = s from ww_eq (by omega)]; exact h1
/-- what a full table does -/
theorem omg_R (fu : Nat) : ∀ (S : mm_S) (s k : Int32), fr_ [71] S (om_go fu S s k) := by
  induction fu with
  | zero => intro S s k; exact fr_.rf S
  | succ fu ih =>
    intro S s k
    unfold om_go
    repeat' split
    all_goals first | exact fr_.rf S | exact ih _ _ _ | exact (fr_wr (by decide)).tr (ih _ _ _)
theorem iv_N_71 {S T : mm_S} (r : fr_ [71] S T) (h : iv_N S) : iv_N T := iv_N_of (r 67 (by decide)) (r 68 (by decide)) (r 69 (by decide)) (r 70 (by decide)) h
theorem dp_i {S : mm_S} (h : rd_ S 71 0 = 0) : dp_ S 1 := by
  intro x x0 x1
  have e1 : (1 : Int32).toInt = 1 := by decide
  rw [e1] at x1
  have e : x = 0 := ww_eq (by rw [ww_z0]; omega)
  rw [e]
  exact ⟨by rw [h]; decide, by rw [h]; decide, fun q => absurd q (by decide)⟩
