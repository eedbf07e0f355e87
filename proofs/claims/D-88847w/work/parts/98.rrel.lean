/-! THE RELATION between the component's store and the model's: clauses, each with the fields that it speaks of -/
set_option maxRecDepth 100000
abbrev rc : Type := List Nat × List Nat × (mm_S → mm_S → Prop)
def rc_all : List rc → mm_S → mm_S → Prop
  | [], _, _ => True
  | c :: r, X, S => c.2.2 X S ∧ rc_all r X S
def rc_t (cx cs : List Nat) (c : rc) : Bool := c.1.any (fun k => cx.contains k) || c.2.1.any (fun k => cs.contains k)
def rc_ok (c : rc) : Prop := ∀ X S X' S' : mm_S, (∀ k : Nat, k ∈ c.1 → X' k = X k) → (∀ k : Nat, k ∈ c.2.1 → S' k = S k) → c.2.2 X S → c.2.2 X' S'
theorem rc_any {a b : List Nat} (h : a.any (fun k => b.contains k) = false) : ∀ k : Nat, k ∈ a → k ∉ b := by
  intro k h1 h2
  rw [List.any_eq_false] at h
  exact h k h1 (List.contains_iff_mem.mpr h2)
/-- of a list, those whose bit stands -/
def rc_pick : List rc → Nat → List rc
  | [], _ => []
  | c :: r, n => bif n % 2 == 1 then c :: rc_pick r (n / 2) else rc_pick r (n / 2)
def rc_chk (cx cs : List Nat) : List rc → Nat → Bool
  | [], _ => true
  | c :: r, n => (n % 2 == 1 || !rc_t cx cs c) && rc_chk cx cs r (n / 2)
theorem rc_step {cx cs : List Nat} {X S X' S' : mm_S} (hx : fr_ cx X X') (hs : fr_ cs S S') : ∀ (l : List rc) (n : Nat), (∀ c : rc, c ∈ l → rc_ok c) → rc_chk cx cs l n = true → rc_all l X S → rc_all (rc_pick l n) X' S' → rc_all l X' S' := by
  intro l
  induction l with
  | nil => intro _ _ _ _ _; exact trivial
  | cons c r ih =>
    intro n hok hc h hn
    have hc : ((n % 2 == 1 || !rc_t cx cs c) && rc_chk cx cs r (n / 2)) = true := hc
    rw [Bool.and_eq_true] at hc
    by_cases t : (n % 2 == 1) = true
    · have e : rc_pick (c :: r) n = c :: rc_pick r (n / 2) := by rw [rc_pick, t]; rfl
      rw [e] at hn
      exact ⟨hn.1, ih (n / 2) (fun c2 h2 => hok c2 (List.mem_cons_of_mem _ h2)) hc.2 h.2 hn.2⟩
    · have t0 : (n % 2 == 1) = false := by simpa using t
      have e : rc_pick (c :: r) n = rc_pick r (n / 2) := by rw [rc_pick, t0]; rfl
      rw [e] at hn
      have t2 : rc_t cx cs c = false := by
        have := hc.1
        rw [t0, Bool.false_or] at this
        simpa using this
      unfold rc_t at t2
      rw [Bool.or_eq_false_iff] at t2
      exact ⟨hok c List.mem_cons_self X S X' S' (fun k hk => hx k (rc_any t2.1 k hk)) (fun k hk => hs k (rc_any t2.2 k hk)) h.1, ih (n / 2) (fun c2 h2 => hok c2 (List.mem_cons_of_mem _ h2)) hc.2 h.2 hn⟩
theorem rc_get {X S : mm_S} : ∀ {l : List rc} {i : Nat} {c : rc}, rc_all l X S → l[i]? = some c → c.2.2 X S := by
  intro l
  induction l with
  | nil => intro i c _ h; simp at h
  | cons d r ih =>
    intro i c h hi
    cases i with
    | zero => have e : d = c := by simpa using hi
              rw [← e]; exact h.1
    | succ i => exact ih h.2 (by simpa using hi)
def rc_p (f g : Nat) : rc := ([f], [g], fun X S => X f = S g)
theorem rc_p_ok (f g : Nat) : rc_ok (rc_p f g) := fun X S X' S' hx hs h => by
  show X' f = S' g
  rw [hx f List.mem_cons_self, hs g List.mem_cons_self]
  exact h
def rc_hard : rc := ([1], [2], fun X S => ∀ j : Nat, X 1 j = 3 + S 2 j)
theorem rc_hard_ok : rc_ok rc_hard := fun X S X' S' hx hs h => by
  have h : ∀ j : Nat, X 1 j = 3 + S 2 j := h
  show ∀ j : Nat, X' 1 j = 3 + S' 2 j
  rw [hx 1 (by decide), hs 2 (by decide)]
  exact h
def rc_thr : rc := ([69], [12], fun X S => ∀ j : Nat, X 69 j = S 12 j - 1 ∧ 0 ≤ (S 12 j).toInt ∧ (S 12 j).toInt ≤ 1700)
theorem rc_thr_ok : rc_ok rc_thr := fun X S X' S' hx hs h => by
  have h : ∀ j : Nat, X 69 j = S 12 j - 1 ∧ 0 ≤ (S 12 j).toInt ∧ (S 12 j).toInt ≤ 1700 := h
  show ∀ j : Nat, X' 69 j = S' 12 j - 1 ∧ 0 ≤ (S' 12 j).toInt ∧ (S' 12 j).toInt ≤ 1700
  rw [hx 69 (by decide), hs 12 (by decide)]
  exact h
def rc_up : rc := ([80], [5, 20], fun X S => ∀ j : Nat, S 20 j = if S 5 j = 7 then (if X 80 j = 0 then 1 else 0) else 0)
theorem rc_up_ok : rc_ok rc_up := fun X S X' S' hx hs h => by
  have h : ∀ j : Nat, S 20 j = if S 5 j = 7 then (if X 80 j = 0 then 1 else 0) else 0 := h
  show ∀ j : Nat, S' 20 j = if S' 5 j = 7 then (if X' 80 j = 0 then 1 else 0) else 0
  rw [hx 80 (by decide), hs 5 (by decide), hs 20 (by decide)]
  exact h
def rc_tape : rc := ([21], [36], fun X S => ∀ j : Nat, X 21 j = S 36 j &&& 255 ∧ -128 ≤ (S 36 j).toInt ∧ (S 36 j).toInt ≤ 127)
theorem rc_tape_ok : rc_ok rc_tape := fun X S X' S' hx hs h => by
  have h : ∀ j : Nat, X 21 j = S 36 j &&& 255 ∧ -128 ≤ (S 36 j).toInt ∧ (S 36 j).toInt ≤ 127 := h
  show ∀ j : Nat, X' 21 j = S' 36 j &&& 255 ∧ -128 ≤ (S' 36 j).toInt ∧ (S' 36 j).toInt ≤ 127
  rw [hx 21 (by decide), hs 36 (by decide)]
  exact h
theorem rc_old_go {S S' : mm_S} (h4 : S' 34 = S 34) (h5 : S' 35 = S 35) (fu : Nat) : ∀ m c k : Int32, ff_isOldBy_go fu S' m c k = ff_isOldBy_go fu S m c k := by
  induction fu with
  | zero => intro m c k; rfl
  | succ fu ih => intro m c k; unfold ff_isOldBy_go rd_; rw [h4, h5, ih]
def rc_old : rc := ([16], [34, 35], fun X S => (∀ m x y : Int32, 0 ≤ m.toInt → m.toInt < 8 → 0 ≤ x.toInt → x.toInt < 32 → 0 ≤ y.toInt → y.toInt ≤ 60 → X 16 (xf_oldAt m x y).toNatClampNeg = ff_isOldBy S m (100 * x + y)) ∧ ∀ i : Nat, X 16 i = 0 ∨ X 16 i = 1)
theorem rc_old_ok : rc_ok rc_old := fun X S X' S' hx hs h => by
  have h : (∀ m x y : Int32, 0 ≤ m.toInt → m.toInt < 8 → 0 ≤ x.toInt → x.toInt < 32 → 0 ≤ y.toInt → y.toInt ≤ 60 → X 16 (xf_oldAt m x y).toNatClampNeg = ff_isOldBy S m (100 * x + y)) ∧ ∀ i : Nat, X 16 i = 0 ∨ X 16 i = 1 := h
  show (∀ m x y : Int32, 0 ≤ m.toInt → m.toInt < 8 → 0 ≤ x.toInt → x.toInt < 32 → 0 ≤ y.toInt → y.toInt ≤ 60 → X' 16 (xf_oldAt m x y).toNatClampNeg = ff_isOldBy S' m (100 * x + y)) ∧ ∀ i : Nat, X' 16 i = 0 ∨ X' 16 i = 1
  have e : ∀ m c : Int32, ff_isOldBy S' m c = ff_isOldBy S m c := fun m c => by unfold ff_isOldBy; exact rc_old_go (hs 34 (by decide)) (hs 35 (by decide)) 41 m c 0
  simp only [e]
  rw [hx 16 (by decide)]
  exact h
def rc_shel : rc := ([73, 74, 75, 76], [4, 5, 21, 22, 23, 24, 25], fun X S => (0 ≤ (S 21 0).toInt → (S 21 0).toInt < (S 4 0).toInt ∧ S 5 (S 21 0).toNatClampNeg = 6 ∧ X 73 (S 21 0).toNatClampNeg = S 22 0 ∧ X 74 (S 21 0).toNatClampNeg = S 23 0 ∧ X 75 (S 21 0).toNatClampNeg = S 24 0 ∧ X 76 (S 21 0).toNatClampNeg = S 25 0) ∧ ∀ b : Nat, S 5 b = 6 → 0 ≤ (S 21 0).toInt ∧ b = (S 21 0).toNatClampNeg)
theorem rc_shel_ok : rc_ok rc_shel := fun X S X' S' hx hs h => by
  have h : (0 ≤ (S 21 0).toInt → (S 21 0).toInt < (S 4 0).toInt ∧ S 5 (S 21 0).toNatClampNeg = 6 ∧ X 73 (S 21 0).toNatClampNeg = S 22 0 ∧ X 74 (S 21 0).toNatClampNeg = S 23 0 ∧ X 75 (S 21 0).toNatClampNeg = S 24 0 ∧ X 76 (S 21 0).toNatClampNeg = S 25 0) ∧ ∀ b : Nat, S 5 b = 6 → 0 ≤ (S 21 0).toInt ∧ b = (S 21 0).toNatClampNeg := h
  show (0 ≤ (S' 21 0).toInt → (S' 21 0).toInt < (S' 4 0).toInt ∧ S' 5 (S' 21 0).toNatClampNeg = 6 ∧ X' 73 (S' 21 0).toNatClampNeg = S' 22 0 ∧ X' 74 (S' 21 0).toNatClampNeg = S' 23 0 ∧ X' 75 (S' 21 0).toNatClampNeg = S' 24 0 ∧ X' 76 (S' 21 0).toNatClampNeg = S' 25 0) ∧ ∀ b : Nat, S' 5 b = 6 → 0 ≤ (S' 21 0).toInt ∧ b = (S' 21 0).toNatClampNeg
  rw [hx 73 (by decide), hx 74 (by decide), hx 75 (by decide), hx 76 (by decide), hs 4 (by decide), hs 5 (by decide), hs 21 (by decide), hs 22 (by decide), hs 23 (by decide), hs 24 (by decide), hs 25 (by decide)]
  exact h
def rc_om : rc := ([43], [72], fun X S => (S 72 0 = -1 ∧ X 43 0 = 0) ∨ (X 43 0 = S 72 0 ∧ 0 ≤ (S 72 0).toInt ∧ (S 72 0).toInt ≤ 10))
theorem rc_om_ok : rc_ok rc_om := fun X S X' S' hx hs h => by
  have h : (S 72 0 = -1 ∧ X 43 0 = 0) ∨ (X 43 0 = S 72 0 ∧ 0 ≤ (S 72 0).toInt ∧ (S 72 0).toInt ≤ 10) := h
  show (S' 72 0 = -1 ∧ X' 43 0 = 0) ∨ (X' 43 0 = S' 72 0 ∧ 0 ≤ (S' 72 0).toInt ∧ (S' 72 0).toInt ≤ 10)
  rw [hx 43 (by decide), hs 72 (by decide)]
  exact h
def rc_wp : rc := ([45], [74], fun X S => (S 74 0 = -1 ∧ X 45 0 = 0) ∨ (X 45 0 = S 74 0 ∧ 0 ≤ (S 74 0).toInt ∧ (S 74 0).toInt ≤ 3))
theorem rc_wp_ok : rc_ok rc_wp := fun X S X' S' hx hs h => by
  have h : (S 74 0 = -1 ∧ X 45 0 = 0) ∨ (X 45 0 = S 74 0 ∧ 0 ≤ (S 74 0).toInt ∧ (S 74 0).toInt ≤ 3) := h
  show (S' 74 0 = -1 ∧ X' 45 0 = 0) ∨ (X' 45 0 = S' 74 0 ∧ 0 ≤ (S' 74 0).toInt ∧ (S' 74 0).toInt ≤ 3)
  rw [hx 45 (by decide), hs 74 (by decide)]
  exact h
def rc_um : rc := ([55, 56], [82, 83], fun X S => (S 82 0 = -1 ∧ X 55 0 = 0 ∧ X 56 0 = -1) ∨ (X 55 0 = S 82 0 ∧ X 56 0 = S 83 0 ∧ 0 ≤ (S 82 0).toInt ∧ (S 82 0).toInt ≤ 120 ∧ 0 ≤ (S 83 0).toInt))
theorem rc_um_ok : rc_ok rc_um := fun X S X' S' hx hs h => by
  have h : (S 82 0 = -1 ∧ X 55 0 = 0 ∧ X 56 0 = -1) ∨ (X 55 0 = S 82 0 ∧ X 56 0 = S 83 0 ∧ 0 ≤ (S 82 0).toInt ∧ (S 82 0).toInt ≤ 120 ∧ 0 ≤ (S 83 0).toInt) := h
  show (S' 82 0 = -1 ∧ X' 55 0 = 0 ∧ X' 56 0 = -1) ∨ (X' 55 0 = S' 82 0 ∧ X' 56 0 = S' 83 0 ∧ 0 ≤ (S' 82 0).toInt ∧ (S' 82 0).toInt ≤ 120 ∧ 0 ≤ (S' 83 0).toInt)
  rw [hx 55 (by decide), hx 56 (by decide), hs 82 (by decide), hs 83 (by decide)]
  exact h
def rc_wat : rc := ([44, 45], [75], fun X S => ∀ i : Nat, i < 3 * (X 45 0).toInt.toNat → X 44 i = S 75 i)
theorem rc_wat_ok : rc_ok rc_wat := fun X S X' S' hx hs h => by
  have h : ∀ i : Nat, i < 3 * (X 45 0).toInt.toNat → X 44 i = S 75 i := h
  show ∀ i : Nat, i < 3 * (X' 45 0).toInt.toNat → X' 44 i = S' 75 i
  rw [hx 44 (by decide), hx 45 (by decide), hs 75 (by decide)]
  exact h
def rc_aim : rc := ([50, 51], [79, 80, 81], fun X S => 0 ≤ (S 79 0).toInt ∧ (S 79 0).toInt ≤ 2 ∧ ∀ i : Nat, i < (S 79 0).toInt.toNat → X 50 i = S 80 i ∧ X 51 i = S 81 i)
theorem rc_aim_ok : rc_ok rc_aim := fun X S X' S' hx hs h => by
  have h : 0 ≤ (S 79 0).toInt ∧ (S 79 0).toInt ≤ 2 ∧ ∀ i : Nat, i < (S 79 0).toInt.toNat → X 50 i = S 80 i ∧ X 51 i = S 81 i := h
  show 0 ≤ (S' 79 0).toInt ∧ (S' 79 0).toInt ≤ 2 ∧ ∀ i : Nat, i < (S' 79 0).toInt.toNat → X' 50 i = S' 80 i ∧ X' 51 i = S' 81 i
  rw [hx 50 (by decide), hx 51 (by decide), hs 79 (by decide), hs 80 (by decide), hs 81 (by decide)]
  exact h
def rc_ih : rc := ([], [1], fun X S => 0 ≤ (S 1 0).toInt ∧ (S 1 0).toInt ≤ 1699)
theorem rc_ih_ok : rc_ok rc_ih := fun X S X' S' hx hs h => by
  have h : 0 ≤ (S 1 0).toInt ∧ (S 1 0).toInt ≤ 1699 := h
  show 0 ≤ (S' 1 0).toInt ∧ (S' 1 0).toInt ≤ 1699
  rw [hs 1 (by decide)]
  exact h
def rc_iB : rc := ([], [4], fun X S => iv_B S)
theorem rc_iB_ok : rc_ok rc_iB := fun X S X' S' hx hs h => by
  have h : iv_B S := h
  show iv_B S'
  unfold iv_B fd_ at h ⊢
  rw [hs 4 (by decide)]
  exact h
def rc_iT : rc := ([], [9, 10], fun X S => iv_T S)
theorem rc_iT_ok : rc_ok rc_iT := fun X S X' S' hx hs h => by
  have h : iv_T S := h
  show iv_T S'
  unfold iv_T rd_ at h ⊢
  rw [hs 9 (by decide), hs 10 (by decide)]
  exact h
def rc_iM : rc := ([], [30, 34], fun X S => iv_M S)
theorem rc_iM_ok : rc_ok rc_iM := fun X S X' S' hx hs h => by
  have h : iv_M S := h
  show iv_M S'
  unfold iv_M fd_ rd_ at h ⊢
  rw [hs 30 (by decide), hs 34 (by decide)]
  exact h
def rc_iV : rc := ([], [56, 57], fun X S => iv_V S)
theorem rc_iV_ok : rc_ok rc_iV := fun X S X' S' hx hs h => by
  have h : iv_V S := h
  show iv_V S'
  unfold iv_V fd_ rd_ at h ⊢
  rw [hs 56 (by decide), hs 57 (by decide)]
  exact h
def rc_iH : rc := ([], [4, 5, 27], fun X S => iv_H S)
theorem rc_iH_ok : rc_ok rc_iH := fun X S X' S' hx hs h => by
  have h : iv_H S := h
  show iv_H S'
  unfold iv_H ff_isHole ff_isBody rd_ fd_ at h ⊢
  rw [hs 4 (by decide), hs 5 (by decide), hs 27 (by decide)]
  exact h
def rc_iD : rc := ([], [27], fun X S => ∀ a b : Int32, 0 ≤ a.toInt → a.toInt < 3 → 0 ≤ b.toInt → b.toInt < 3 → a ≠ b → 0 ≤ (rd_ S 27 a).toInt → rd_ S 27 a ≠ rd_ S 27 b)
theorem rc_iD_ok : rc_ok rc_iD := fun X S X' S' hx hs h => by
  have h : ∀ a b : Int32, 0 ≤ a.toInt → a.toInt < 3 → 0 ≤ b.toInt → b.toInt < 3 → a ≠ b → 0 ≤ (rd_ S 27 a).toInt → rd_ S 27 a ≠ rd_ S 27 b := h
  show ∀ a b : Int32, 0 ≤ a.toInt → a.toInt < 3 → 0 ≤ b.toInt → b.toInt < 3 → a ≠ b → 0 ≤ (rd_ S' 27 a).toInt → rd_ S' 27 a ≠ rd_ S' 27 b
  unfold rd_ at h ⊢
  rw [hs 27 (by decide)]
  exact h
def rc_iW : rc := ([], [62, 63], fun X S => iv_W S ∧ ∀ i : Int32, 0 ≤ i.toInt → i.toInt < (fd_ S 62).toInt → xv_Yw (rd_ S 63 i))
theorem rc_iW_ok : rc_ok rc_iW := fun X S X' S' hx hs h => by
  have h : iv_W S ∧ ∀ i : Int32, 0 ≤ i.toInt → i.toInt < (fd_ S 62).toInt → xv_Yw (rd_ S 63 i) := h
  show iv_W S' ∧ ∀ i : Int32, 0 ≤ i.toInt → i.toInt < (fd_ S' 62).toInt → xv_Yw (rd_ S' 63 i)
  unfold iv_W fd_ rd_ at h ⊢
  rw [hs 62 (by decide), hs 63 (by decide)]
  exact h
def rc_iN : rc := ([], [67, 68, 69, 70], fun X S => iv_N S)
theorem rc_iN_ok : rc_ok rc_iN := fun X S X' S' hx hs h => by
  have h : iv_N S := h
  show iv_N S'
  unfold iv_N fd_ rd_ at h ⊢
  rw [hs 67 (by decide), hs 68 (by decide), hs 69 (by decide), hs 70 (by decide)]
  exact h
def rc_io : rc := ([], [71], fun X S => S 71 0 = 0)
theorem rc_io_ok : rc_ok rc_io := fun X S X' S' hx hs h => by
  have h : S 71 0 = 0 := h
  show S' 71 0 = 0
  rw [hs 71 (by decide)]
  exact h
def rc_iA : rc := ([], [76], fun X S => iv_A S)
theorem rc_iA_ok : rc_ok rc_iA := fun X S X' S' hx hs h => by
  have h : iv_A S := h
  show iv_A S'
  unfold iv_A fd_ at h ⊢
  rw [hs 76 (by decide)]
  exact h
def rc_imi : rc := ([], [77], fun X S => ∀ j : Nat, 0 ≤ (S 77 j).toInt ∧ (S 77 j).toInt ≤ 9)
theorem rc_imi_ok : rc_ok rc_imi := fun X S X' S' hx hs h => by
  have h : ∀ j : Nat, 0 ≤ (S 77 j).toInt ∧ (S 77 j).toInt ≤ 9 := h
  show ∀ j : Nat, 0 ≤ (S' 77 j).toInt ∧ (S' 77 j).toInt ≤ 9
  rw [hs 77 (by decide)]
  exact h
def rc_irk : rc := ([], [78], fun X S => ∀ j : Nat, 0 ≤ (S 78 j).toInt ∧ (S 78 j).toInt ≤ 9)
theorem rc_irk_ok : rc_ok rc_irk := fun X S X' S' hx hs h => by
  have h : ∀ j : Nat, 0 ≤ (S 78 j).toInt ∧ (S 78 j).toInt ≤ 9 := h
  show ∀ j : Nat, 0 ≤ (S' 78 j).toInt ∧ (S' 78 j).toInt ≤ 9
  rw [hs 78 (by decide)]
  exact h
def rc_isp : rc := ([], [26], fun X S => ∀ j : Nat, 0 ≤ (S 26 j).toInt ∧ (S 26 j).toInt ≤ 60)
theorem rc_isp_ok : rc_ok rc_isp := fun X S X' S' hx hs h => by
  have h : ∀ j : Nat, 0 ≤ (S 26 j).toInt ∧ (S 26 j).toInt ≤ 60 := h
  show ∀ j : Nat, 0 ≤ (S' 26 j).toInt ∧ (S' 26 j).toInt ≤ 60
  rw [hs 26 (by decide)]
  exact h
def rc_ibr : rc := ([], [28], fun X S => ∀ j : Nat, -1 ≤ (S 28 j).toInt ∧ (S 28 j).toInt ≤ 1699)
theorem rc_ibr_ok : rc_ok rc_ibr := fun X S X' S' hx hs h => by
  have h : ∀ j : Nat, -1 ≤ (S 28 j).toInt ∧ (S 28 j).toInt ≤ 1699 := h
  show ∀ j : Nat, -1 ≤ (S' 28 j).toInt ∧ (S' 28 j).toInt ≤ 1699
  rw [hs 28 (by decide)]
  exact h
def rc_ike : rc := ([], [1, 11], fun X S => ∀ j : Nat, 0 ≤ (S 11 j).toInt ∧ (S 11 j).toInt ≤ 60 * (S 1 0).toInt)
theorem rc_ike_ok : rc_ok rc_ike := fun X S X' S' hx hs h => by
  have h : ∀ j : Nat, 0 ≤ (S 11 j).toInt ∧ (S 11 j).toInt ≤ 60 * (S 1 0).toInt := h
  show ∀ j : Nat, 0 ≤ (S' 11 j).toInt ∧ (S' 11 j).toInt ≤ 60 * (S' 1 0).toInt
  rw [hs 1 (by decide), hs 11 (by decide)]
  exact h
def rc_ilg : rc := ([], [16], fun X S => ∀ j : Nat, -9999 ≤ (S 16 j).toInt ∧ (S 16 j).toInt ≤ 9999)
theorem rc_ilg_ok : rc_ok rc_ilg := fun X S X' S' hx hs h => by
  have h : ∀ j : Nat, -9999 ≤ (S 16 j).toInt ∧ (S 16 j).toInt ≤ 9999 := h
  show ∀ j : Nat, -9999 ≤ (S' 16 j).toInt ∧ (S' 16 j).toInt ≤ 9999
  rw [hs 16 (by decide)]
  exact h
def rc_icol : rc := ([], [6], fun X S => ∀ j : Nat, 0 ≤ (S 6 j).toInt ∧ (S 6 j).toInt ≤ 31)
theorem rc_icol_ok : rc_ok rc_icol := fun X S X' S' hx hs h => by
  have h : ∀ j : Nat, 0 ≤ (S 6 j).toInt ∧ (S 6 j).toInt ≤ 31 := h
  show ∀ j : Nat, 0 ≤ (S' 6 j).toInt ∧ (S' 6 j).toInt ≤ 31
  rw [hs 6 (by decide)]
  exact h
def rc_isd : rc := ([], [29], fun X S => 0 ≤ (S 29 0).toInt ∧ (S 29 0).toInt ≤ 8)
theorem rc_isd_ok : rc_ok rc_isd := fun X S X' S' hx hs h => by
  have h : 0 ≤ (S 29 0).toInt ∧ (S 29 0).toInt ≤ 8 := h
  show 0 ≤ (S' 29 0).toInt ∧ (S' 29 0).toInt ≤ 8
  rw [hs 29 (by decide)]
  exact h
def rc_iP : rc := ([], [37], fun X S => 0 ≤ (S 37 0).toInt ∧ (S 37 0).toInt ≤ 160)
theorem rc_iP_ok : rc_ok rc_iP := fun X S X' S' hx hs h => by
  have h : 0 ≤ (S 37 0).toInt ∧ (S 37 0).toInt ≤ 160 := h
  show 0 ≤ (S' 37 0).toInt ∧ (S' 37 0).toInt ≤ 160
  rw [hs 37 (by decide)]
  exact h
def rc_it : rc := ([], [38], fun X S => 0 ≤ (S 38 0).toInt ∧ (S 38 0).toInt ≤ 16)
theorem rc_it_ok : rc_ok rc_it := fun X S X' S' hx hs h => by
  have h : 0 ≤ (S 38 0).toInt ∧ (S 38 0).toInt ≤ 16 := h
  show 0 ≤ (S' 38 0).toInt ∧ (S' 38 0).toInt ≤ 16
  rw [hs 38 (by decide)]
  exact h
def rc_iU : rc := ([], [82, 84], fun X S => iv_U S)
theorem rc_iU_ok : rc_ok rc_iU := fun X S X' S' hx hs h => by
  have h : iv_U S := h
  show iv_U S'
  unfold iv_U fd_ rd_ at h ⊢
  rw [hs 82 (by decide), hs 84 (by decide)]
  exact h
def rc_iS : rc := ([], [4, 89], fun X S => iv_S S)
theorem rc_iS_ok : rc_ok rc_iS := fun X S X' S' hx hs h => by
  have h : iv_S S := h
  show iv_S S'
  unfold iv_S rd_ fd_ at h ⊢
  rw [hs 4 (by decide), hs 89 (by decide)]
  exact h
def rc_iZ : rc := ([], [90], fun X S => iv_Z S)
theorem rc_iZ_ok : rc_ok rc_iZ := fun X S X' S' hx hs h => by
  have h : iv_Z S := h
  show iv_Z S'
  unfold iv_Z rd_ at h ⊢
  rw [hs 90 (by decide)]
  exact h
def rc_iK : rc := ([], [92, 94], fun X S => iv_K S)
theorem rc_iK_ok : rc_ok rc_iK := fun X S X' S' hx hs h => by
  have h : iv_K S := h
  show iv_K S'
  unfold iv_K at h ⊢
  rw [hs 92 (by decide), hs 94 (by decide)]
  exact h
def rc_itr : rc := ([], [87], fun X S => 0 ≤ (S 87 0).toInt)
theorem rc_itr_ok : rc_ok rc_itr := fun X S X' S' hx hs h => by
  have h : 0 ≤ (S 87 0).toInt := h
  show 0 ≤ (S' 87 0).toInt
  rw [hs 87 (by decide)]
  exact h
def rc_ikd : rc := ([], [5], fun X S => ∀ j : Nat, 0 ≤ (S 5 j).toInt ∧ (S 5 j).toInt < 8)
theorem rc_ikd_ok : rc_ok rc_ikd := fun X S X' S' hx hs h => by
  have h : ∀ j : Nat, 0 ≤ (S 5 j).toInt ∧ (S 5 j).toInt < 8 := h
  show ∀ j : Nat, 0 ≤ (S' 5 j).toInt ∧ (S' 5 j).toInt < 8
  rw [hs 5 (by decide)]
  exact h
def rc_imp : rc := ([], [30, 31, 32, 33], fun X S => ∀ m : Int32, 0 ≤ m.toInt → m.toInt < (fd_ S 30).toInt → 0 ≤ (rd_ S 31 m).toInt ∧ (rd_ S 31 m).toInt ≤ 31 ∧ 0 ≤ (rd_ S 32 m).toInt ∧ (rd_ S 32 m).toInt ≤ 31 ∧ 1 ≤ (rd_ S 33 m).toInt ∧ (rd_ S 33 m).toInt ≤ 60)
theorem rc_imp_ok : rc_ok rc_imp := fun X S X' S' hx hs h => by
  have h : ∀ m : Int32, 0 ≤ m.toInt → m.toInt < (fd_ S 30).toInt → 0 ≤ (rd_ S 31 m).toInt ∧ (rd_ S 31 m).toInt ≤ 31 ∧ 0 ≤ (rd_ S 32 m).toInt ∧ (rd_ S 32 m).toInt ≤ 31 ∧ 1 ≤ (rd_ S 33 m).toInt ∧ (rd_ S 33 m).toInt ≤ 60 := h
  show ∀ m : Int32, 0 ≤ m.toInt → m.toInt < (fd_ S' 30).toInt → 0 ≤ (rd_ S' 31 m).toInt ∧ (rd_ S' 31 m).toInt ≤ 31 ∧ 0 ≤ (rd_ S' 32 m).toInt ∧ (rd_ S' 32 m).toInt ≤ 31 ∧ 1 ≤ (rd_ S' 33 m).toInt ∧ (rd_ S' 33 m).toInt ≤ 60
  unfold fd_ rd_ at h ⊢
  rw [hs 30 (by decide), hs 31 (by decide), hs 32 (by decide), hs 33 (by decide)]
  exact h
def rc_n10 : rc := ([], [5, 10], fun X S => ∀ j : Nat, S 10 j = 0 ∨ 2 ≤ (S 5 j).toInt ∧ (S 5 j).toInt ≤ 5)
theorem rc_n10_ok : rc_ok rc_n10 := fun X S X' S' hx hs h => by
  have h : ∀ j : Nat, S 10 j = 0 ∨ 2 ≤ (S 5 j).toInt ∧ (S 5 j).toInt ≤ 5 := h
  show ∀ j : Nat, S' 10 j = 0 ∨ 2 ≤ (S' 5 j).toInt ∧ (S' 5 j).toInt ≤ 5
  rw [hs 5 (by decide), hs 10 (by decide)]
  exact h
def rc_n12 : rc := ([], [5, 12], fun X S => ∀ j : Nat, S 12 j = 0 ∨ 2 ≤ (S 5 j).toInt ∧ (S 5 j).toInt ≤ 5)
theorem rc_n12_ok : rc_ok rc_n12 := fun X S X' S' hx hs h => by
  have h : ∀ j : Nat, S 12 j = 0 ∨ 2 ≤ (S 5 j).toInt ∧ (S 5 j).toInt ≤ 5 := h
  show ∀ j : Nat, S' 12 j = 0 ∨ 2 ≤ (S' 5 j).toInt ∧ (S' 5 j).toInt ≤ 5
  rw [hs 5 (by decide), hs 12 (by decide)]
  exact h
def rc_z5 : rc := ([], [4, 5], fun X S => ∀ b : Nat, (S 4 0).toInt ≤ (b : Int) → S 5 b = 0)
theorem rc_z5_ok : rc_ok rc_z5 := fun X S X' S' hx hs h => by
  have h : ∀ b : Nat, (S 4 0).toInt ≤ (b : Int) → S 5 b = 0 := h
  show ∀ b : Nat, (S' 4 0).toInt ≤ (b : Int) → S' 5 b = 0
  rw [hs 4 (by decide), hs 5 (by decide)]
  exact h
def rc_z6 : rc := ([], [4, 6], fun X S => ∀ b : Nat, (S 4 0).toInt ≤ (b : Int) → S 6 b = 0)
theorem rc_z6_ok : rc_ok rc_z6 := fun X S X' S' hx hs h => by
  have h : ∀ b : Nat, (S 4 0).toInt ≤ (b : Int) → S 6 b = 0 := h
  show ∀ b : Nat, (S' 4 0).toInt ≤ (b : Int) → S' 6 b = 0
  rw [hs 4 (by decide), hs 6 (by decide)]
  exact h
def rc_z7 : rc := ([], [4, 7], fun X S => ∀ b : Nat, (S 4 0).toInt ≤ (b : Int) → S 7 b = 0)
theorem rc_z7_ok : rc_ok rc_z7 := fun X S X' S' hx hs h => by
  have h : ∀ b : Nat, (S 4 0).toInt ≤ (b : Int) → S 7 b = 0 := h
  show ∀ b : Nat, (S' 4 0).toInt ≤ (b : Int) → S' 7 b = 0
  rw [hs 4 (by decide), hs 7 (by decide)]
  exact h
def rc_z8 : rc := ([], [4, 8], fun X S => ∀ b : Nat, (S 4 0).toInt ≤ (b : Int) → S 8 b = 0)
theorem rc_z8_ok : rc_ok rc_z8 := fun X S X' S' hx hs h => by
  have h : ∀ b : Nat, (S 4 0).toInt ≤ (b : Int) → S 8 b = 0 := h
  show ∀ b : Nat, (S' 4 0).toInt ≤ (b : Int) → S' 8 b = 0
  rw [hs 4 (by decide), hs 8 (by decide)]
  exact h
def rc_z9 : rc := ([], [4, 9], fun X S => ∀ b : Nat, (S 4 0).toInt ≤ (b : Int) → S 9 b = 0)
theorem rc_z9_ok : rc_ok rc_z9 := fun X S X' S' hx hs h => by
  have h : ∀ b : Nat, (S 4 0).toInt ≤ (b : Int) → S 9 b = 0 := h
  show ∀ b : Nat, (S' 4 0).toInt ≤ (b : Int) → S' 9 b = 0
  rw [hs 4 (by decide), hs 9 (by decide)]
  exact h
def rc_z10 : rc := ([], [4, 10], fun X S => ∀ b : Nat, (S 4 0).toInt ≤ (b : Int) → S 10 b = 0)
theorem rc_z10_ok : rc_ok rc_z10 := fun X S X' S' hx hs h => by
  have h : ∀ b : Nat, (S 4 0).toInt ≤ (b : Int) → S 10 b = 0 := h
  show ∀ b : Nat, (S' 4 0).toInt ≤ (b : Int) → S' 10 b = 0
  rw [hs 4 (by decide), hs 10 (by decide)]
  exact h
def rc_z11 : rc := ([], [4, 11], fun X S => ∀ b : Nat, (S 4 0).toInt ≤ (b : Int) → S 11 b = 0)
theorem rc_z11_ok : rc_ok rc_z11 := fun X S X' S' hx hs h => by
  have h : ∀ b : Nat, (S 4 0).toInt ≤ (b : Int) → S 11 b = 0 := h
  show ∀ b : Nat, (S' 4 0).toInt ≤ (b : Int) → S' 11 b = 0
  rw [hs 4 (by decide), hs 11 (by decide)]
  exact h
def rc_z12 : rc := ([], [4, 12], fun X S => ∀ b : Nat, (S 4 0).toInt ≤ (b : Int) → S 12 b = 0)
theorem rc_z12_ok : rc_ok rc_z12 := fun X S X' S' hx hs h => by
  have h : ∀ b : Nat, (S 4 0).toInt ≤ (b : Int) → S 12 b = 0 := h
  show ∀ b : Nat, (S' 4 0).toInt ≤ (b : Int) → S' 12 b = 0
  rw [hs 4 (by decide), hs 12 (by decide)]
  exact h
def rc_z17 : rc := ([], [4, 17], fun X S => ∀ b : Nat, (S 4 0).toInt ≤ (b : Int) → S 17 b = 0)
theorem rc_z17_ok : rc_ok rc_z17 := fun X S X' S' hx hs h => by
  have h : ∀ b : Nat, (S 4 0).toInt ≤ (b : Int) → S 17 b = 0 := h
  show ∀ b : Nat, (S' 4 0).toInt ≤ (b : Int) → S' 17 b = 0
  rw [hs 4 (by decide), hs 17 (by decide)]
  exact h
def rc_z18 : rc := ([], [4, 18], fun X S => ∀ b : Nat, (S 4 0).toInt ≤ (b : Int) → S 18 b = 0)
theorem rc_z18_ok : rc_ok rc_z18 := fun X S X' S' hx hs h => by
  have h : ∀ b : Nat, (S 4 0).toInt ≤ (b : Int) → S 18 b = 0 := h
  show ∀ b : Nat, (S' 4 0).toInt ≤ (b : Int) → S' 18 b = 0
  rw [hs 4 (by decide), hs 18 (by decide)]
  exact h
def rc_z19 : rc := ([], [4, 19], fun X S => ∀ b : Nat, (S 4 0).toInt ≤ (b : Int) → S 19 b = 0)
theorem rc_z19_ok : rc_ok rc_z19 := fun X S X' S' hx hs h => by
  have h : ∀ b : Nat, (S 4 0).toInt ≤ (b : Int) → S 19 b = 0 := h
  show ∀ b : Nat, (S' 4 0).toInt ≤ (b : Int) → S' 19 b = 0
  rw [hs 4 (by decide), hs 19 (by decide)]
  exact h
def rc_z20 : rc := ([], [4, 20], fun X S => ∀ b : Nat, (S 4 0).toInt ≤ (b : Int) → S 20 b = 0)
theorem rc_z20_ok : rc_ok rc_z20 := fun X S X' S' hx hs h => by
  have h : ∀ b : Nat, (S 4 0).toInt ≤ (b : Int) → S 20 b = 0 := h
  show ∀ b : Nat, (S' 4 0).toInt ≤ (b : Int) → S' 20 b = 0
  rw [hs 4 (by decide), hs 20 (by decide)]
  exact h
def rc_z65 : rc := ([], [4, 65], fun X S => ∀ b : Nat, (S 4 0).toInt ≤ (b : Int) → S 65 b = 0)
theorem rc_z65_ok : rc_ok rc_z65 := fun X S X' S' hx hs h => by
  have h : ∀ b : Nat, (S 4 0).toInt ≤ (b : Int) → S 65 b = 0 := h
  show ∀ b : Nat, (S' 4 0).toInt ≤ (b : Int) → S' 65 b = 0
  rw [hs 4 (by decide), hs 65 (by decide)]
  exact h
def rc_z13 : rc := ([], [4, 13], fun X S => ∀ b : Nat, 61 * (S 4 0).toInt ≤ (b : Int) → S 13 b = 0)
theorem rc_z13_ok : rc_ok rc_z13 := fun X S X' S' hx hs h => by
  have h : ∀ b : Nat, 61 * (S 4 0).toInt ≤ (b : Int) → S 13 b = 0 := h
  show ∀ b : Nat, 61 * (S' 4 0).toInt ≤ (b : Int) → S' 13 b = 0
  rw [hs 4 (by decide), hs 13 (by decide)]
  exact h
def rc_z14 : rc := ([], [4, 14], fun X S => ∀ b : Nat, 61 * (S 4 0).toInt ≤ (b : Int) → S 14 b = 0)
theorem rc_z14_ok : rc_ok rc_z14 := fun X S X' S' hx hs h => by
  have h : ∀ b : Nat, 61 * (S 4 0).toInt ≤ (b : Int) → S 14 b = 0 := h
  show ∀ b : Nat, 61 * (S' 4 0).toInt ≤ (b : Int) → S' 14 b = 0
  rw [hs 4 (by decide), hs 14 (by decide)]
  exact h
def rc_z15 : rc := ([], [4, 15], fun X S => ∀ b : Nat, 61 * (S 4 0).toInt ≤ (b : Int) → S 15 b = 0)
theorem rc_z15_ok : rc_ok rc_z15 := fun X S X' S' hx hs h => by
  have h : ∀ b : Nat, 61 * (S 4 0).toInt ≤ (b : Int) → S 15 b = 0 := h
  show ∀ b : Nat, 61 * (S' 4 0).toInt ≤ (b : Int) → S' 15 b = 0
  rw [hs 4 (by decide), hs 15 (by decide)]
  exact h
def rc_z16 : rc := ([], [4, 16], fun X S => ∀ b : Nat, 61 * (S 4 0).toInt ≤ (b : Int) → S 16 b = 0)
theorem rc_z16_ok : rc_ok rc_z16 := fun X S X' S' hx hs h => by
  have h : ∀ b : Nat, 61 * (S 4 0).toInt ≤ (b : Int) → S 16 b = 0 := h
  show ∀ b : Nat, 61 * (S' 4 0).toInt ≤ (b : Int) → S' 16 b = 0
  rw [hs 4 (by decide), hs 16 (by decide)]
  exact h
def rc_x73 : rc := ([4, 73], [], fun X S => ∀ b : Nat, (X 4 0).toInt ≤ (b : Int) → X 73 b = 0)
theorem rc_x73_ok : rc_ok rc_x73 := fun X S X' S' hx hs h => by
  have h : ∀ b : Nat, (X 4 0).toInt ≤ (b : Int) → X 73 b = 0 := h
  show ∀ b : Nat, (X' 4 0).toInt ≤ (b : Int) → X' 73 b = 0
  rw [hx 4 (by decide), hx 73 (by decide)]
  exact h
def rc_x74 : rc := ([4, 74], [], fun X S => ∀ b : Nat, (X 4 0).toInt ≤ (b : Int) → X 74 b = 0)
theorem rc_x74_ok : rc_ok rc_x74 := fun X S X' S' hx hs h => by
  have h : ∀ b : Nat, (X 4 0).toInt ≤ (b : Int) → X 74 b = 0 := h
  show ∀ b : Nat, (X' 4 0).toInt ≤ (b : Int) → X' 74 b = 0
  rw [hx 4 (by decide), hx 74 (by decide)]
  exact h
def rc_x75 : rc := ([4, 75], [], fun X S => ∀ b : Nat, (X 4 0).toInt ≤ (b : Int) → X 75 b = 0)
theorem rc_x75_ok : rc_ok rc_x75 := fun X S X' S' hx hs h => by
  have h : ∀ b : Nat, (X 4 0).toInt ≤ (b : Int) → X 75 b = 0 := h
  show ∀ b : Nat, (X' 4 0).toInt ≤ (b : Int) → X' 75 b = 0
  rw [hx 4 (by decide), hx 75 (by decide)]
  exact h
def rc_x76 : rc := ([4, 76], [], fun X S => ∀ b : Nat, (X 4 0).toInt ≤ (b : Int) → X 76 b = 0)
theorem rc_x76_ok : rc_ok rc_x76 := fun X S X' S' hx hs h => by
  have h : ∀ b : Nat, (X 4 0).toInt ≤ (b : Int) → X 76 b = 0 := h
  show ∀ b : Nat, (X' 4 0).toInt ≤ (b : Int) → X' 76 b = 0
  rw [hx 4 (by decide), hx 76 (by decide)]
  exact h
def rc_x80 : rc := ([4, 80], [], fun X S => ∀ b : Nat, (X 4 0).toInt ≤ (b : Int) → X 80 b = 0)
theorem rc_x80_ok : rc_ok rc_x80 := fun X S X' S' hx hs h => by
  have h : ∀ b : Nat, (X 4 0).toInt ≤ (b : Int) → X 80 b = 0 := h
  show ∀ b : Nat, (X' 4 0).toInt ≤ (b : Int) → X' 80 b = 0
  rw [hx 4 (by decide), hx 80 (by decide)]
  exact h
def rc_s25 : rc := ([], [21, 25], fun X S => (S 21 0).toInt < 0 → S 25 0 = 0)
theorem rc_s25_ok : rc_ok rc_s25 := fun X S X' S' hx hs h => by
  have h : (S 21 0).toInt < 0 → S 25 0 = 0 := h
  show (S' 21 0).toInt < 0 → S' 25 0 = 0
  rw [hs 21 (by decide), hs 25 (by decide)]
  exact h
def rc_l : List rc := [rc_p 0 1, rc_p 2 3, rc_p 4 4, rc_p 60 5, rc_p 61 6, rc_p 62 7, rc_p 67 8, rc_p 64 9, rc_p 66 10, rc_p 68 11, rc_p 63 13, rc_p 65 14, rc_p 71 15, rc_p 70 16, rc_p 77 17, rc_p 78 18, rc_p 79 19, rc_p 5 21, rc_p 8 26, rc_p 9 27, rc_p 10 28, rc_p 12 29, rc_p 18 30, rc_p 13 31, rc_p 14 32, rc_p 15 33, rc_p 17 34, rc_p 22 37, rc_p 25 38, rc_p 91 39, rc_p 93 40, rc_p 92 41, rc_p 26 54, rc_p 27 55, rc_p 30 56, rc_p 28 57, rc_p 29 58, rc_p 35 62, rc_p 33 63, rc_p 34 64, rc_p 72 65, rc_p 36 66, rc_p 40 67, rc_p 37 68, rc_p 38 69, rc_p 39 70, rc_p 42 73, rc_p 48 76, rc_p 47 77, rc_p 49 78, rc_p 52 79, rc_p 53 84, rc_p 54 86, rc_p 7 87, rc_p 6 88, rc_p 58 89, rc_p 100 90, rc_p 101 92, rc_hard, rc_thr, rc_up, rc_tape, rc_old, rc_shel, rc_om, rc_wp, rc_um, rc_wat, rc_aim, rc_ih, rc_iB, rc_iT, rc_iM, rc_iV, rc_iH, rc_iD, rc_iW, rc_iN, rc_io, rc_iA, rc_imi, rc_irk, rc_isp, rc_ibr, rc_ike, rc_ilg, rc_icol, rc_isd, rc_iP, rc_it, rc_iU, rc_iS, rc_iZ, rc_iK, rc_itr, rc_ikd, rc_imp, rc_n10, rc_n12, rc_z5, rc_z6, rc_z7, rc_z8, rc_z9, rc_z10, rc_z11, rc_z12, rc_z17, rc_z18, rc_z19, rc_z20, rc_z65, rc_z13, rc_z14, rc_z15, rc_z16, rc_x73, rc_x74, rc_x75, rc_x76, rc_x80, rc_s25]
def RC (X S : mm_S) : Prop := rc_all rc_l X S
theorem rc_l_ok : ∀ c : rc, c ∈ rc_l → rc_ok c := by
  intro c h
  unfold rc_l at h
  simp only [List.mem_cons, List.not_mem_nil, or_false] at h
  rcases h with rfl | rfl | rfl | rfl | rfl | rfl | rfl | rfl | rfl | rfl | rfl | rfl | rfl | rfl | rfl | rfl | rfl | rfl | rfl | rfl | rfl | rfl | rfl | rfl | rfl | rfl | rfl | rfl | rfl | rfl | rfl | rfl | rfl | rfl | rfl | rfl | rfl | rfl | rfl | rfl | rfl | rfl | rfl | rfl | rfl | rfl | rfl | rfl | rfl | rfl | rfl | rfl | rfl | rfl | rfl | rfl | rfl | rfl | rfl | rfl | rfl | rfl | rfl | rfl | rfl | rfl | rfl | rfl | rfl | rfl | rfl | rfl | rfl | rfl | rfl | rfl | rfl | rfl | rfl | rfl | rfl | rfl | rfl | rfl | rfl | rfl | rfl | rfl | rfl | rfl | rfl | rfl | rfl | rfl | rfl | rfl | rfl | rfl | rfl | rfl | rfl | rfl | rfl | rfl | rfl | rfl | rfl | rfl | rfl | rfl | rfl | rfl | rfl | rfl | rfl | rfl | rfl | rfl | rfl | rfl | rfl | rfl
  · exact rc_p_ok 0 1
  · exact rc_p_ok 2 3
  · exact rc_p_ok 4 4
  · exact rc_p_ok 60 5
  · exact rc_p_ok 61 6
  · exact rc_p_ok 62 7
  · exact rc_p_ok 67 8
  · exact rc_p_ok 64 9
  · exact rc_p_ok 66 10
  · exact rc_p_ok 68 11
  · exact rc_p_ok 63 13
  · exact rc_p_ok 65 14
  · exact rc_p_ok 71 15
  · exact rc_p_ok 70 16
  · exact rc_p_ok 77 17
  · exact rc_p_ok 78 18
  · exact rc_p_ok 79 19
  · exact rc_p_ok 5 21
  · exact rc_p_ok 8 26
  · exact rc_p_ok 9 27
  · exact rc_p_ok 10 28
  · exact rc_p_ok 12 29
  · exact rc_p_ok 18 30
  · exact rc_p_ok 13 31
  · exact rc_p_ok 14 32
  · exact rc_p_ok 15 33
  · exact rc_p_ok 17 34
  · exact rc_p_ok 22 37
  · exact rc_p_ok 25 38
  · exact rc_p_ok 91 39
  · exact rc_p_ok 93 40
  · exact rc_p_ok 92 41
  · exact rc_p_ok 26 54
  · exact rc_p_ok 27 55
  · exact rc_p_ok 30 56
  · exact rc_p_ok 28 57
  · exact rc_p_ok 29 58
  · exact rc_p_ok 35 62
  · exact rc_p_ok 33 63
  · exact rc_p_ok 34 64
  · exact rc_p_ok 72 65
  · exact rc_p_ok 36 66
  · exact rc_p_ok 40 67
  · exact rc_p_ok 37 68
  · exact rc_p_ok 38 69
  · exact rc_p_ok 39 70
  · exact rc_p_ok 42 73
  · exact rc_p_ok 48 76
  · exact rc_p_ok 47 77
  · exact rc_p_ok 49 78
  · exact rc_p_ok 52 79
  · exact rc_p_ok 53 84
  · exact rc_p_ok 54 86
  · exact rc_p_ok 7 87
  · exact rc_p_ok 6 88
  · exact rc_p_ok 58 89
  · exact rc_p_ok 100 90
  · exact rc_p_ok 101 92
  · exact rc_hard_ok
  · exact rc_thr_ok
  · exact rc_up_ok
  · exact rc_tape_ok
  · exact rc_old_ok
  · exact rc_shel_ok
  · exact rc_om_ok
  · exact rc_wp_ok
  · exact rc_um_ok
  · exact rc_wat_ok
  · exact rc_aim_ok
  · exact rc_ih_ok
  · exact rc_iB_ok
  · exact rc_iT_ok
  · exact rc_iM_ok
  · exact rc_iV_ok
  · exact rc_iH_ok
  · exact rc_iD_ok
  · exact rc_iW_ok
  · exact rc_iN_ok
  · exact rc_io_ok
  · exact rc_iA_ok
  · exact rc_imi_ok
  · exact rc_irk_ok
  · exact rc_isp_ok
  · exact rc_ibr_ok
  · exact rc_ike_ok
  · exact rc_ilg_ok
  · exact rc_icol_ok
  · exact rc_isd_ok
  · exact rc_iP_ok
  · exact rc_it_ok
  · exact rc_iU_ok
  · exact rc_iS_ok
  · exact rc_iZ_ok
  · exact rc_iK_ok
  · exact rc_itr_ok
  · exact rc_ikd_ok
  · exact rc_imp_ok
  · exact rc_n10_ok
  · exact rc_n12_ok
  · exact rc_z5_ok
  · exact rc_z6_ok
  · exact rc_z7_ok
  · exact rc_z8_ok
  · exact rc_z9_ok
  · exact rc_z10_ok
  · exact rc_z11_ok
  · exact rc_z12_ok
  · exact rc_z17_ok
  · exact rc_z18_ok
  · exact rc_z19_ok
  · exact rc_z20_ok
  · exact rc_z65_ok
  · exact rc_z13_ok
  · exact rc_z14_ok
  · exact rc_z15_ok
  · exact rc_z16_ok
  · exact rc_x73_ok
  · exact rc_x74_ok
  · exact rc_x75_ok
  · exact rc_x76_ok
  · exact rc_x80_ok
  · exact rc_s25_ok
theorem RC.step {cx cs : List Nat} {X S X' S' : mm_S} (h : RC X S) (hx : fr_ cx X X') (hs : fr_ cs S S') (n : Nat) (hl : rc_chk cx cs rc_l n = true) (hn : rc_all (rc_pick rc_l n) X' S') : RC X' S' :=
  rc_step hx hs rc_l n rc_l_ok hl h hn
section RCG
variable {X S : mm_S}
theorem RC.p0 (h : RC X S) : X 0 = S 1 := rc_get (i := 0) h rfl
theorem RC.p2 (h : RC X S) : X 2 = S 3 := rc_get (i := 1) h rfl
theorem RC.p4 (h : RC X S) : X 4 = S 4 := rc_get (i := 2) h rfl
theorem RC.p60 (h : RC X S) : X 60 = S 5 := rc_get (i := 3) h rfl
theorem RC.p61 (h : RC X S) : X 61 = S 6 := rc_get (i := 4) h rfl
theorem RC.p62 (h : RC X S) : X 62 = S 7 := rc_get (i := 5) h rfl
theorem RC.p67 (h : RC X S) : X 67 = S 8 := rc_get (i := 6) h rfl
theorem RC.p64 (h : RC X S) : X 64 = S 9 := rc_get (i := 7) h rfl
theorem RC.p66 (h : RC X S) : X 66 = S 10 := rc_get (i := 8) h rfl
theorem RC.p68 (h : RC X S) : X 68 = S 11 := rc_get (i := 9) h rfl
theorem RC.p63 (h : RC X S) : X 63 = S 13 := rc_get (i := 10) h rfl
theorem RC.p65 (h : RC X S) : X 65 = S 14 := rc_get (i := 11) h rfl
theorem RC.p71 (h : RC X S) : X 71 = S 15 := rc_get (i := 12) h rfl
theorem RC.p70 (h : RC X S) : X 70 = S 16 := rc_get (i := 13) h rfl
theorem RC.p77 (h : RC X S) : X 77 = S 17 := rc_get (i := 14) h rfl
theorem RC.p78 (h : RC X S) : X 78 = S 18 := rc_get (i := 15) h rfl
theorem RC.p79 (h : RC X S) : X 79 = S 19 := rc_get (i := 16) h rfl
theorem RC.p5 (h : RC X S) : X 5 = S 21 := rc_get (i := 17) h rfl
theorem RC.p8 (h : RC X S) : X 8 = S 26 := rc_get (i := 18) h rfl
theorem RC.p9 (h : RC X S) : X 9 = S 27 := rc_get (i := 19) h rfl
theorem RC.p10 (h : RC X S) : X 10 = S 28 := rc_get (i := 20) h rfl
theorem RC.p12 (h : RC X S) : X 12 = S 29 := rc_get (i := 21) h rfl
theorem RC.p18 (h : RC X S) : X 18 = S 30 := rc_get (i := 22) h rfl
theorem RC.p13 (h : RC X S) : X 13 = S 31 := rc_get (i := 23) h rfl
theorem RC.p14 (h : RC X S) : X 14 = S 32 := rc_get (i := 24) h rfl
theorem RC.p15 (h : RC X S) : X 15 = S 33 := rc_get (i := 25) h rfl
theorem RC.p17 (h : RC X S) : X 17 = S 34 := rc_get (i := 26) h rfl
theorem RC.p22 (h : RC X S) : X 22 = S 37 := rc_get (i := 27) h rfl
theorem RC.p25 (h : RC X S) : X 25 = S 38 := rc_get (i := 28) h rfl
theorem RC.p91 (h : RC X S) : X 91 = S 39 := rc_get (i := 29) h rfl
theorem RC.p93 (h : RC X S) : X 93 = S 40 := rc_get (i := 30) h rfl
theorem RC.p92 (h : RC X S) : X 92 = S 41 := rc_get (i := 31) h rfl
theorem RC.p26 (h : RC X S) : X 26 = S 54 := rc_get (i := 32) h rfl
theorem RC.p27 (h : RC X S) : X 27 = S 55 := rc_get (i := 33) h rfl
theorem RC.p30 (h : RC X S) : X 30 = S 56 := rc_get (i := 34) h rfl
theorem RC.p28 (h : RC X S) : X 28 = S 57 := rc_get (i := 35) h rfl
theorem RC.p29 (h : RC X S) : X 29 = S 58 := rc_get (i := 36) h rfl
theorem RC.p35 (h : RC X S) : X 35 = S 62 := rc_get (i := 37) h rfl
theorem RC.p33 (h : RC X S) : X 33 = S 63 := rc_get (i := 38) h rfl
theorem RC.p34 (h : RC X S) : X 34 = S 64 := rc_get (i := 39) h rfl
theorem RC.p72 (h : RC X S) : X 72 = S 65 := rc_get (i := 40) h rfl
theorem RC.p36 (h : RC X S) : X 36 = S 66 := rc_get (i := 41) h rfl
theorem RC.p40 (h : RC X S) : X 40 = S 67 := rc_get (i := 42) h rfl
theorem RC.p37 (h : RC X S) : X 37 = S 68 := rc_get (i := 43) h rfl
theorem RC.p38 (h : RC X S) : X 38 = S 69 := rc_get (i := 44) h rfl
theorem RC.p39 (h : RC X S) : X 39 = S 70 := rc_get (i := 45) h rfl
theorem RC.p42 (h : RC X S) : X 42 = S 73 := rc_get (i := 46) h rfl
theorem RC.p48 (h : RC X S) : X 48 = S 76 := rc_get (i := 47) h rfl
theorem RC.p47 (h : RC X S) : X 47 = S 77 := rc_get (i := 48) h rfl
theorem RC.p49 (h : RC X S) : X 49 = S 78 := rc_get (i := 49) h rfl
theorem RC.p52 (h : RC X S) : X 52 = S 79 := rc_get (i := 50) h rfl
theorem RC.p53 (h : RC X S) : X 53 = S 84 := rc_get (i := 51) h rfl
theorem RC.p54 (h : RC X S) : X 54 = S 86 := rc_get (i := 52) h rfl
theorem RC.p7 (h : RC X S) : X 7 = S 87 := rc_get (i := 53) h rfl
theorem RC.p6 (h : RC X S) : X 6 = S 88 := rc_get (i := 54) h rfl
theorem RC.p58 (h : RC X S) : X 58 = S 89 := rc_get (i := 55) h rfl
theorem RC.p100 (h : RC X S) : X 100 = S 90 := rc_get (i := 56) h rfl
theorem RC.p101 (h : RC X S) : X 101 = S 92 := rc_get (i := 57) h rfl
theorem RC.hard (h : RC X S) : ∀ j : Nat, X 1 j = 3 + S 2 j := rc_get (i := 58) h rfl
theorem RC.thr (h : RC X S) : ∀ j : Nat, X 69 j = S 12 j - 1 ∧ 0 ≤ (S 12 j).toInt ∧ (S 12 j).toInt ≤ 1700 := rc_get (i := 59) h rfl
theorem RC.up (h : RC X S) : ∀ j : Nat, S 20 j = if S 5 j = 7 then (if X 80 j = 0 then 1 else 0) else 0 := rc_get (i := 60) h rfl
theorem RC.tape (h : RC X S) : ∀ j : Nat, X 21 j = S 36 j &&& 255 ∧ -128 ≤ (S 36 j).toInt ∧ (S 36 j).toInt ≤ 127 := rc_get (i := 61) h rfl
theorem RC.old (h : RC X S) : (∀ m x y : Int32, 0 ≤ m.toInt → m.toInt < 8 → 0 ≤ x.toInt → x.toInt < 32 → 0 ≤ y.toInt → y.toInt ≤ 60 → X 16 (xf_oldAt m x y).toNatClampNeg = ff_isOldBy S m (100 * x + y)) ∧ ∀ i : Nat, X 16 i = 0 ∨ X 16 i = 1 := rc_get (i := 62) h rfl
theorem RC.shel (h : RC X S) : (0 ≤ (S 21 0).toInt → (S 21 0).toInt < (S 4 0).toInt ∧ S 5 (S 21 0).toNatClampNeg = 6 ∧ X 73 (S 21 0).toNatClampNeg = S 22 0 ∧ X 74 (S 21 0).toNatClampNeg = S 23 0 ∧ X 75 (S 21 0).toNatClampNeg = S 24 0 ∧ X 76 (S 21 0).toNatClampNeg = S 25 0) ∧ ∀ b : Nat, S 5 b = 6 → 0 ≤ (S 21 0).toInt ∧ b = (S 21 0).toNatClampNeg := rc_get (i := 63) h rfl
theorem RC.om (h : RC X S) : (S 72 0 = -1 ∧ X 43 0 = 0) ∨ (X 43 0 = S 72 0 ∧ 0 ≤ (S 72 0).toInt ∧ (S 72 0).toInt ≤ 10) := rc_get (i := 64) h rfl
theorem RC.wp (h : RC X S) : (S 74 0 = -1 ∧ X 45 0 = 0) ∨ (X 45 0 = S 74 0 ∧ 0 ≤ (S 74 0).toInt ∧ (S 74 0).toInt ≤ 3) := rc_get (i := 65) h rfl
theorem RC.um (h : RC X S) : (S 82 0 = -1 ∧ X 55 0 = 0 ∧ X 56 0 = -1) ∨ (X 55 0 = S 82 0 ∧ X 56 0 = S 83 0 ∧ 0 ≤ (S 82 0).toInt ∧ (S 82 0).toInt ≤ 120 ∧ 0 ≤ (S 83 0).toInt) := rc_get (i := 66) h rfl
theorem RC.wat (h : RC X S) : ∀ i : Nat, i < 3 * (X 45 0).toInt.toNat → X 44 i = S 75 i := rc_get (i := 67) h rfl
theorem RC.aim (h : RC X S) : 0 ≤ (S 79 0).toInt ∧ (S 79 0).toInt ≤ 2 ∧ ∀ i : Nat, i < (S 79 0).toInt.toNat → X 50 i = S 80 i ∧ X 51 i = S 81 i := rc_get (i := 68) h rfl
theorem RC.ih (h : RC X S) : 0 ≤ (S 1 0).toInt ∧ (S 1 0).toInt ≤ 1699 := rc_get (i := 69) h rfl
theorem RC.iB (h : RC X S) : iv_B S := rc_get (i := 70) h rfl
theorem RC.iT (h : RC X S) : iv_T S := rc_get (i := 71) h rfl
theorem RC.iM (h : RC X S) : iv_M S := rc_get (i := 72) h rfl
theorem RC.iV (h : RC X S) : iv_V S := rc_get (i := 73) h rfl
theorem RC.iH (h : RC X S) : iv_H S := rc_get (i := 74) h rfl
theorem RC.iD (h : RC X S) : ∀ a b : Int32, 0 ≤ a.toInt → a.toInt < 3 → 0 ≤ b.toInt → b.toInt < 3 → a ≠ b → 0 ≤ (rd_ S 27 a).toInt → rd_ S 27 a ≠ rd_ S 27 b := rc_get (i := 75) h rfl
theorem RC.iW (h : RC X S) : iv_W S ∧ ∀ i : Int32, 0 ≤ i.toInt → i.toInt < (fd_ S 62).toInt → xv_Yw (rd_ S 63 i) := rc_get (i := 76) h rfl
theorem RC.iN (h : RC X S) : iv_N S := rc_get (i := 77) h rfl
theorem RC.io (h : RC X S) : S 71 0 = 0 := rc_get (i := 78) h rfl
theorem RC.iA (h : RC X S) : iv_A S := rc_get (i := 79) h rfl
theorem RC.imi (h : RC X S) : ∀ j : Nat, 0 ≤ (S 77 j).toInt ∧ (S 77 j).toInt ≤ 9 := rc_get (i := 80) h rfl
theorem RC.irk (h : RC X S) : ∀ j : Nat, 0 ≤ (S 78 j).toInt ∧ (S 78 j).toInt ≤ 9 := rc_get (i := 81) h rfl
theorem RC.isp (h : RC X S) : ∀ j : Nat, 0 ≤ (S 26 j).toInt ∧ (S 26 j).toInt ≤ 60 := rc_get (i := 82) h rfl
theorem RC.ibr (h : RC X S) : ∀ j : Nat, -1 ≤ (S 28 j).toInt ∧ (S 28 j).toInt ≤ 1699 := rc_get (i := 83) h rfl
theorem RC.ike (h : RC X S) : ∀ j : Nat, 0 ≤ (S 11 j).toInt ∧ (S 11 j).toInt ≤ 60 * (S 1 0).toInt := rc_get (i := 84) h rfl
theorem RC.ilg (h : RC X S) : ∀ j : Nat, -9999 ≤ (S 16 j).toInt ∧ (S 16 j).toInt ≤ 9999 := rc_get (i := 85) h rfl
theorem RC.icol (h : RC X S) : ∀ j : Nat, 0 ≤ (S 6 j).toInt ∧ (S 6 j).toInt ≤ 31 := rc_get (i := 86) h rfl
theorem RC.isd (h : RC X S) : 0 ≤ (S 29 0).toInt ∧ (S 29 0).toInt ≤ 8 := rc_get (i := 87) h rfl
theorem RC.iP (h : RC X S) : 0 ≤ (S 37 0).toInt ∧ (S 37 0).toInt ≤ 160 := rc_get (i := 88) h rfl
theorem RC.it (h : RC X S) : 0 ≤ (S 38 0).toInt ∧ (S 38 0).toInt ≤ 16 := rc_get (i := 89) h rfl
theorem RC.iU (h : RC X S) : iv_U S := rc_get (i := 90) h rfl
theorem RC.iS (h : RC X S) : iv_S S := rc_get (i := 91) h rfl
theorem RC.iZ (h : RC X S) : iv_Z S := rc_get (i := 92) h rfl
theorem RC.iK (h : RC X S) : iv_K S := rc_get (i := 93) h rfl
theorem RC.itr (h : RC X S) : 0 ≤ (S 87 0).toInt := rc_get (i := 94) h rfl
theorem RC.ikd (h : RC X S) : ∀ j : Nat, 0 ≤ (S 5 j).toInt ∧ (S 5 j).toInt < 8 := rc_get (i := 95) h rfl
theorem RC.imp (h : RC X S) : ∀ m : Int32, 0 ≤ m.toInt → m.toInt < (fd_ S 30).toInt → 0 ≤ (rd_ S 31 m).toInt ∧ (rd_ S 31 m).toInt ≤ 31 ∧ 0 ≤ (rd_ S 32 m).toInt ∧ (rd_ S 32 m).toInt ≤ 31 ∧ 1 ≤ (rd_ S 33 m).toInt ∧ (rd_ S 33 m).toInt ≤ 60 := rc_get (i := 96) h rfl
theorem RC.n10 (h : RC X S) : ∀ j : Nat, S 10 j = 0 ∨ 2 ≤ (S 5 j).toInt ∧ (S 5 j).toInt ≤ 5 := rc_get (i := 97) h rfl
theorem RC.n12 (h : RC X S) : ∀ j : Nat, S 12 j = 0 ∨ 2 ≤ (S 5 j).toInt ∧ (S 5 j).toInt ≤ 5 := rc_get (i := 98) h rfl
theorem RC.z5 (h : RC X S) : ∀ b : Nat, (S 4 0).toInt ≤ (b : Int) → S 5 b = 0 := rc_get (i := 99) h rfl
theorem RC.z6 (h : RC X S) : ∀ b : Nat, (S 4 0).toInt ≤ (b : Int) → S 6 b = 0 := rc_get (i := 100) h rfl
theorem RC.z7 (h : RC X S) : ∀ b : Nat, (S 4 0).toInt ≤ (b : Int) → S 7 b = 0 := rc_get (i := 101) h rfl
theorem RC.z8 (h : RC X S) : ∀ b : Nat, (S 4 0).toInt ≤ (b : Int) → S 8 b = 0 := rc_get (i := 102) h rfl
theorem RC.z9 (h : RC X S) : ∀ b : Nat, (S 4 0).toInt ≤ (b : Int) → S 9 b = 0 := rc_get (i := 103) h rfl
theorem RC.z10 (h : RC X S) : ∀ b : Nat, (S 4 0).toInt ≤ (b : Int) → S 10 b = 0 := rc_get (i := 104) h rfl
theorem RC.z11 (h : RC X S) : ∀ b : Nat, (S 4 0).toInt ≤ (b : Int) → S 11 b = 0 := rc_get (i := 105) h rfl
theorem RC.z12 (h : RC X S) : ∀ b : Nat, (S 4 0).toInt ≤ (b : Int) → S 12 b = 0 := rc_get (i := 106) h rfl
theorem RC.z17 (h : RC X S) : ∀ b : Nat, (S 4 0).toInt ≤ (b : Int) → S 17 b = 0 := rc_get (i := 107) h rfl
theorem RC.z18 (h : RC X S) : ∀ b : Nat, (S 4 0).toInt ≤ (b : Int) → S 18 b = 0 := rc_get (i := 108) h rfl
theorem RC.z19 (h : RC X S) : ∀ b : Nat, (S 4 0).toInt ≤ (b : Int) → S 19 b = 0 := rc_get (i := 109) h rfl
theorem RC.z20 (h : RC X S) : ∀ b : Nat, (S 4 0).toInt ≤ (b : Int) → S 20 b = 0 := rc_get (i := 110) h rfl
theorem RC.z65 (h : RC X S) : ∀ b : Nat, (S 4 0).toInt ≤ (b : Int) → S 65 b = 0 := rc_get (i := 111) h rfl
theorem RC.z13 (h : RC X S) : ∀ b : Nat, 61 * (S 4 0).toInt ≤ (b : Int) → S 13 b = 0 := rc_get (i := 112) h rfl
theorem RC.z14 (h : RC X S) : ∀ b : Nat, 61 * (S 4 0).toInt ≤ (b : Int) → S 14 b = 0 := rc_get (i := 113) h rfl
theorem RC.z15 (h : RC X S) : ∀ b : Nat, 61 * (S 4 0).toInt ≤ (b : Int) → S 15 b = 0 := rc_get (i := 114) h rfl
theorem RC.z16 (h : RC X S) : ∀ b : Nat, 61 * (S 4 0).toInt ≤ (b : Int) → S 16 b = 0 := rc_get (i := 115) h rfl
theorem RC.x73 (h : RC X S) : ∀ b : Nat, (X 4 0).toInt ≤ (b : Int) → X 73 b = 0 := rc_get (i := 116) h rfl
theorem RC.x74 (h : RC X S) : ∀ b : Nat, (X 4 0).toInt ≤ (b : Int) → X 74 b = 0 := rc_get (i := 117) h rfl
theorem RC.x75 (h : RC X S) : ∀ b : Nat, (X 4 0).toInt ≤ (b : Int) → X 75 b = 0 := rc_get (i := 118) h rfl
theorem RC.x76 (h : RC X S) : ∀ b : Nat, (X 4 0).toInt ≤ (b : Int) → X 76 b = 0 := rc_get (i := 119) h rfl
theorem RC.x80 (h : RC X S) : ∀ b : Nat, (X 4 0).toInt ≤ (b : Int) → X 80 b = 0 := rc_get (i := 120) h rfl
theorem RC.s25 (h : RC X S) : (S 21 0).toInt < 0 → S 25 0 = 0 := rc_get (i := 121) h rfl
theorem RC.f0 (h : RC X S) : fd_ X 0 = fd_ S 1 := congrFun h.p0 0
theorem RC.r0 (h : RC X S) (i : Int32) : rd_ X 0 i = rd_ S 1 i := congrFun h.p0 _
theorem RC.f2 (h : RC X S) : fd_ X 2 = fd_ S 3 := congrFun h.p2 0
theorem RC.r2 (h : RC X S) (i : Int32) : rd_ X 2 i = rd_ S 3 i := congrFun h.p2 _
theorem RC.f4 (h : RC X S) : fd_ X 4 = fd_ S 4 := congrFun h.p4 0
theorem RC.r4 (h : RC X S) (i : Int32) : rd_ X 4 i = rd_ S 4 i := congrFun h.p4 _
theorem RC.f60 (h : RC X S) : fd_ X 60 = fd_ S 5 := congrFun h.p60 0
theorem RC.r60 (h : RC X S) (i : Int32) : rd_ X 60 i = rd_ S 5 i := congrFun h.p60 _
theorem RC.f61 (h : RC X S) : fd_ X 61 = fd_ S 6 := congrFun h.p61 0
theorem RC.r61 (h : RC X S) (i : Int32) : rd_ X 61 i = rd_ S 6 i := congrFun h.p61 _
theorem RC.f62 (h : RC X S) : fd_ X 62 = fd_ S 7 := congrFun h.p62 0
theorem RC.r62 (h : RC X S) (i : Int32) : rd_ X 62 i = rd_ S 7 i := congrFun h.p62 _
theorem RC.f67 (h : RC X S) : fd_ X 67 = fd_ S 8 := congrFun h.p67 0
theorem RC.r67 (h : RC X S) (i : Int32) : rd_ X 67 i = rd_ S 8 i := congrFun h.p67 _
theorem RC.f64 (h : RC X S) : fd_ X 64 = fd_ S 9 := congrFun h.p64 0
theorem RC.r64 (h : RC X S) (i : Int32) : rd_ X 64 i = rd_ S 9 i := congrFun h.p64 _
theorem RC.f66 (h : RC X S) : fd_ X 66 = fd_ S 10 := congrFun h.p66 0
theorem RC.r66 (h : RC X S) (i : Int32) : rd_ X 66 i = rd_ S 10 i := congrFun h.p66 _
theorem RC.f68 (h : RC X S) : fd_ X 68 = fd_ S 11 := congrFun h.p68 0
theorem RC.r68 (h : RC X S) (i : Int32) : rd_ X 68 i = rd_ S 11 i := congrFun h.p68 _
theorem RC.f63 (h : RC X S) : fd_ X 63 = fd_ S 13 := congrFun h.p63 0
theorem RC.r63 (h : RC X S) (i : Int32) : rd_ X 63 i = rd_ S 13 i := congrFun h.p63 _
theorem RC.f65 (h : RC X S) : fd_ X 65 = fd_ S 14 := congrFun h.p65 0
theorem RC.r65 (h : RC X S) (i : Int32) : rd_ X 65 i = rd_ S 14 i := congrFun h.p65 _
theorem RC.f71 (h : RC X S) : fd_ X 71 = fd_ S 15 := congrFun h.p71 0
theorem RC.r71 (h : RC X S) (i : Int32) : rd_ X 71 i = rd_ S 15 i := congrFun h.p71 _
theorem RC.f70 (h : RC X S) : fd_ X 70 = fd_ S 16 := congrFun h.p70 0
theorem RC.r70 (h : RC X S) (i : Int32) : rd_ X 70 i = rd_ S 16 i := congrFun h.p70 _
theorem RC.f77 (h : RC X S) : fd_ X 77 = fd_ S 17 := congrFun h.p77 0
theorem RC.r77 (h : RC X S) (i : Int32) : rd_ X 77 i = rd_ S 17 i := congrFun h.p77 _
theorem RC.f78 (h : RC X S) : fd_ X 78 = fd_ S 18 := congrFun h.p78 0
theorem RC.r78 (h : RC X S) (i : Int32) : rd_ X 78 i = rd_ S 18 i := congrFun h.p78 _
theorem RC.f79 (h : RC X S) : fd_ X 79 = fd_ S 19 := congrFun h.p79 0
theorem RC.r79 (h : RC X S) (i : Int32) : rd_ X 79 i = rd_ S 19 i := congrFun h.p79 _
theorem RC.f5 (h : RC X S) : fd_ X 5 = fd_ S 21 := congrFun h.p5 0
theorem RC.r5 (h : RC X S) (i : Int32) : rd_ X 5 i = rd_ S 21 i := congrFun h.p5 _
theorem RC.f8 (h : RC X S) : fd_ X 8 = fd_ S 26 := congrFun h.p8 0
theorem RC.r8 (h : RC X S) (i : Int32) : rd_ X 8 i = rd_ S 26 i := congrFun h.p8 _
theorem RC.f9 (h : RC X S) : fd_ X 9 = fd_ S 27 := congrFun h.p9 0
theorem RC.r9 (h : RC X S) (i : Int32) : rd_ X 9 i = rd_ S 27 i := congrFun h.p9 _
theorem RC.f10 (h : RC X S) : fd_ X 10 = fd_ S 28 := congrFun h.p10 0
theorem RC.r10 (h : RC X S) (i : Int32) : rd_ X 10 i = rd_ S 28 i := congrFun h.p10 _
theorem RC.f12 (h : RC X S) : fd_ X 12 = fd_ S 29 := congrFun h.p12 0
theorem RC.r12 (h : RC X S) (i : Int32) : rd_ X 12 i = rd_ S 29 i := congrFun h.p12 _
theorem RC.f18 (h : RC X S) : fd_ X 18 = fd_ S 30 := congrFun h.p18 0
theorem RC.r18 (h : RC X S) (i : Int32) : rd_ X 18 i = rd_ S 30 i := congrFun h.p18 _
theorem RC.f13 (h : RC X S) : fd_ X 13 = fd_ S 31 := congrFun h.p13 0
theorem RC.r13 (h : RC X S) (i : Int32) : rd_ X 13 i = rd_ S 31 i := congrFun h.p13 _
theorem RC.f14 (h : RC X S) : fd_ X 14 = fd_ S 32 := congrFun h.p14 0
theorem RC.r14 (h : RC X S) (i : Int32) : rd_ X 14 i = rd_ S 32 i := congrFun h.p14 _
theorem RC.f15 (h : RC X S) : fd_ X 15 = fd_ S 33 := congrFun h.p15 0
theorem RC.r15 (h : RC X S) (i : Int32) : rd_ X 15 i = rd_ S 33 i := congrFun h.p15 _
theorem RC.f17 (h : RC X S) : fd_ X 17 = fd_ S 34 := congrFun h.p17 0
theorem RC.r17 (h : RC X S) (i : Int32) : rd_ X 17 i = rd_ S 34 i := congrFun h.p17 _
theorem RC.f22 (h : RC X S) : fd_ X 22 = fd_ S 37 := congrFun h.p22 0
theorem RC.r22 (h : RC X S) (i : Int32) : rd_ X 22 i = rd_ S 37 i := congrFun h.p22 _
theorem RC.f25 (h : RC X S) : fd_ X 25 = fd_ S 38 := congrFun h.p25 0
theorem RC.r25 (h : RC X S) (i : Int32) : rd_ X 25 i = rd_ S 38 i := congrFun h.p25 _
theorem RC.f91 (h : RC X S) : fd_ X 91 = fd_ S 39 := congrFun h.p91 0
theorem RC.r91 (h : RC X S) (i : Int32) : rd_ X 91 i = rd_ S 39 i := congrFun h.p91 _
theorem RC.f93 (h : RC X S) : fd_ X 93 = fd_ S 40 := congrFun h.p93 0
theorem RC.r93 (h : RC X S) (i : Int32) : rd_ X 93 i = rd_ S 40 i := congrFun h.p93 _
theorem RC.f92 (h : RC X S) : fd_ X 92 = fd_ S 41 := congrFun h.p92 0
theorem RC.r92 (h : RC X S) (i : Int32) : rd_ X 92 i = rd_ S 41 i := congrFun h.p92 _
theorem RC.f26 (h : RC X S) : fd_ X 26 = fd_ S 54 := congrFun h.p26 0
theorem RC.r26 (h : RC X S) (i : Int32) : rd_ X 26 i = rd_ S 54 i := congrFun h.p26 _
theorem RC.f27 (h : RC X S) : fd_ X 27 = fd_ S 55 := congrFun h.p27 0
theorem RC.r27 (h : RC X S) (i : Int32) : rd_ X 27 i = rd_ S 55 i := congrFun h.p27 _
theorem RC.f30 (h : RC X S) : fd_ X 30 = fd_ S 56 := congrFun h.p30 0
theorem RC.r30 (h : RC X S) (i : Int32) : rd_ X 30 i = rd_ S 56 i := congrFun h.p30 _
theorem RC.f28 (h : RC X S) : fd_ X 28 = fd_ S 57 := congrFun h.p28 0
theorem RC.r28 (h : RC X S) (i : Int32) : rd_ X 28 i = rd_ S 57 i := congrFun h.p28 _
theorem RC.f29 (h : RC X S) : fd_ X 29 = fd_ S 58 := congrFun h.p29 0
theorem RC.r29 (h : RC X S) (i : Int32) : rd_ X 29 i = rd_ S 58 i := congrFun h.p29 _
theorem RC.f35 (h : RC X S) : fd_ X 35 = fd_ S 62 := congrFun h.p35 0
theorem RC.r35 (h : RC X S) (i : Int32) : rd_ X 35 i = rd_ S 62 i := congrFun h.p35 _
theorem RC.f33 (h : RC X S) : fd_ X 33 = fd_ S 63 := congrFun h.p33 0
theorem RC.r33 (h : RC X S) (i : Int32) : rd_ X 33 i = rd_ S 63 i := congrFun h.p33 _
theorem RC.f34 (h : RC X S) : fd_ X 34 = fd_ S 64 := congrFun h.p34 0
theorem RC.r34 (h : RC X S) (i : Int32) : rd_ X 34 i = rd_ S 64 i := congrFun h.p34 _
theorem RC.f72 (h : RC X S) : fd_ X 72 = fd_ S 65 := congrFun h.p72 0
theorem RC.r72 (h : RC X S) (i : Int32) : rd_ X 72 i = rd_ S 65 i := congrFun h.p72 _
theorem RC.f36 (h : RC X S) : fd_ X 36 = fd_ S 66 := congrFun h.p36 0
theorem RC.r36 (h : RC X S) (i : Int32) : rd_ X 36 i = rd_ S 66 i := congrFun h.p36 _
theorem RC.f40 (h : RC X S) : fd_ X 40 = fd_ S 67 := congrFun h.p40 0
theorem RC.r40 (h : RC X S) (i : Int32) : rd_ X 40 i = rd_ S 67 i := congrFun h.p40 _
theorem RC.f37 (h : RC X S) : fd_ X 37 = fd_ S 68 := congrFun h.p37 0
theorem RC.r37 (h : RC X S) (i : Int32) : rd_ X 37 i = rd_ S 68 i := congrFun h.p37 _
theorem RC.f38 (h : RC X S) : fd_ X 38 = fd_ S 69 := congrFun h.p38 0
theorem RC.r38 (h : RC X S) (i : Int32) : rd_ X 38 i = rd_ S 69 i := congrFun h.p38 _
theorem RC.f39 (h : RC X S) : fd_ X 39 = fd_ S 70 := congrFun h.p39 0
theorem RC.r39 (h : RC X S) (i : Int32) : rd_ X 39 i = rd_ S 70 i := congrFun h.p39 _
theorem RC.f42 (h : RC X S) : fd_ X 42 = fd_ S 73 := congrFun h.p42 0
theorem RC.r42 (h : RC X S) (i : Int32) : rd_ X 42 i = rd_ S 73 i := congrFun h.p42 _
theorem RC.f48 (h : RC X S) : fd_ X 48 = fd_ S 76 := congrFun h.p48 0
theorem RC.r48 (h : RC X S) (i : Int32) : rd_ X 48 i = rd_ S 76 i := congrFun h.p48 _
theorem RC.f47 (h : RC X S) : fd_ X 47 = fd_ S 77 := congrFun h.p47 0
theorem RC.r47 (h : RC X S) (i : Int32) : rd_ X 47 i = rd_ S 77 i := congrFun h.p47 _
theorem RC.f49 (h : RC X S) : fd_ X 49 = fd_ S 78 := congrFun h.p49 0
theorem RC.r49 (h : RC X S) (i : Int32) : rd_ X 49 i = rd_ S 78 i := congrFun h.p49 _
theorem RC.f52 (h : RC X S) : fd_ X 52 = fd_ S 79 := congrFun h.p52 0
theorem RC.r52 (h : RC X S) (i : Int32) : rd_ X 52 i = rd_ S 79 i := congrFun h.p52 _
theorem RC.f53 (h : RC X S) : fd_ X 53 = fd_ S 84 := congrFun h.p53 0
theorem RC.r53 (h : RC X S) (i : Int32) : rd_ X 53 i = rd_ S 84 i := congrFun h.p53 _
theorem RC.f54 (h : RC X S) : fd_ X 54 = fd_ S 86 := congrFun h.p54 0
theorem RC.r54 (h : RC X S) (i : Int32) : rd_ X 54 i = rd_ S 86 i := congrFun h.p54 _
theorem RC.f7 (h : RC X S) : fd_ X 7 = fd_ S 87 := congrFun h.p7 0
theorem RC.r7 (h : RC X S) (i : Int32) : rd_ X 7 i = rd_ S 87 i := congrFun h.p7 _
theorem RC.f6 (h : RC X S) : fd_ X 6 = fd_ S 88 := congrFun h.p6 0
theorem RC.r6 (h : RC X S) (i : Int32) : rd_ X 6 i = rd_ S 88 i := congrFun h.p6 _
theorem RC.f58 (h : RC X S) : fd_ X 58 = fd_ S 89 := congrFun h.p58 0
theorem RC.r58 (h : RC X S) (i : Int32) : rd_ X 58 i = rd_ S 89 i := congrFun h.p58 _
theorem RC.f100 (h : RC X S) : fd_ X 100 = fd_ S 90 := congrFun h.p100 0
theorem RC.r100 (h : RC X S) (i : Int32) : rd_ X 100 i = rd_ S 90 i := congrFun h.p100 _
theorem RC.f101 (h : RC X S) : fd_ X 101 = fd_ S 92 := congrFun h.p101 0
theorem RC.r101 (h : RC X S) (i : Int32) : rd_ X 101 i = rd_ S 92 i := congrFun h.p101 _
end RCG
