/-! THE REFERENCE's METHODS AS FUNCTIONS: 4 (what a reading leaves alone; texts in force; what they give) -/
theorem ww_z0 : (0 : Int32).toInt = 0 := by decide
theorem ww_n0 {a : Int32} (h : ¬ 0 ≤ a) : a.toInt < 0 := by have := ww_nle h; rw [ww_z0] at this; exact this
theorem ww_0 {a : Int32} (h : 0 ≤ a) : 0 ≤ a.toInt := by have := ww_le h; rw [ww_z0] at this; exact this
theorem ww_l0 {a : Int32} (h : a < 0) : a.toInt < 0 := by have := ww_lt h; rw [ww_z0] at this; exact this
theorem ww_nl0 {a : Int32} (h : ¬ a < 0) : 0 ≤ a.toInt := by have := ww_nlt h; rw [ww_z0] at this; exact this
/-- the fields that a reading may change -/
def fp_chg : List Nat := [45, 46, 47, 48, 49, 51]
def fp_fr (S T : mm_S) : Prop := ∀ k : Nat, k ∉ fp_chg → T k = S k
theorem fp_fr.rf (S : mm_S) : fp_fr S S := fun _ _ => rfl
theorem fp_fr.trans {S T U : mm_S} (h1 : fp_fr S T) (h2 : fp_fr T U) : fp_fr S U := fun k hk => (h2 k hk).trans (h1 k hk)
theorem fp_fr_fw {S : mm_S} {k : Nat} {v : Int32} (h : k ∈ fp_chg) : fp_fr S (fw_ S k v) := fun k2 hk => mm_up_k (fun q => hk (by rw [q]; exact h))
theorem fp_fr_wr {S : mm_S} {k : Nat} {i v : Int32} (h : k ∈ fp_chg) : fp_fr S (wr_ S k i v) := fun k2 hk => mm_up_k (fun q => hk (by rw [q]; exact h))
theorem fp_fr_adv (S : mm_S) : fp_fr S (fp_adv S) := fp_fr_fw (by decide)
theorem fp_fr_fault (S : mm_S) : fp_fr S (fp_fault S) := by
  unfold fp_fault
  split
  · exact fp_fr.rf S
  · exact fp_fr_fw (by decide)
theorem fp_fr_lay (S : mm_S) (a b : Int32) : fp_fr S (fp_lay S a b) := ((fp_fr_wr (by decide)).trans (fp_fr_wr (by decide))).trans (fp_fr_fw (by decide))
theorem fp_fr_opens (S : mm_S) : fp_fr S (fp_opens S).2 := by
  unfold fp_opens
  split
  · exact fp_fr_fault S
  · exact (fp_fr_fw (by decide)).trans (fp_fr_adv _)
theorem fp_fr_fin (S : mm_S) (n v : Int32) : fp_fr S (fp_fin S n v) := by
  unfold fp_fin
  split
  · exact fp_fr_fault S
  · split
    · exact fp_fr_lay S _ _
    · exact fp_fr_fault S
theorem fp_fr_dig (m : Nat) : ∀ (S : mm_S) (n v : Int32), fp_fr S (fp_dig m S n v) := by
  induction m with
  | zero => intro S n v; exact fp_fr.rf S
  | succ m ih =>
    intro S n v
    unfold fp_dig
    split
    · exact fp_fr_fin S n v
    · split
      · exact fp_fr_fin S n v
      · exact (fp_fr_adv S).trans (ih _ _ _)
def fp_fo (f : mm_S → mm_S) : Prop := ∀ S : mm_S, fp_fr S (f S)
theorem fp_fr_op {f : mm_S → mm_S} (hf : fp_fo f) (S : mm_S) (a b : Int32) : fp_fr S (fp_lay (f (fp_adv S)) a b) := ((fp_fr_adv S).trans (hf _)).trans (fp_fr_lay _ _ _)
theorem fp_fr_one {f g : mm_S → mm_S} (hf : fp_fo f) (hg : fp_fo g) : fp_fo (fp_one f g) := by
  have turn : ∀ (S : mm_S) (b : Int32), fp_fr S (fp_turn f S b) := by
    intro S b
    unfold fp_turn
    split
    · exact fp_fr_opens S
    · exact (((fp_fr_opens S).trans (hf _)).trans (fp_fr_fw (by decide))).trans (fp_fr_lay _ _ _)
  intro S
  unfold fp_one
  split
  · split
    · exact turn S _
    · split
      · exact turn S _
      · split
        · unfold fp_paren
          split
          · exact fp_fr_opens S
          · split
            · split
              · exact (((fp_fr_opens S).trans (hg _)).trans (fp_fr_fw (by decide))).trans (fp_fr_adv _)
              · exact ((fp_fr_opens S).trans (hg _)).trans (fp_fr_fault _)
            · exact (fp_fr_opens S).trans (hg _)
        · exact fp_fr_dig 6 S 0 0
  · exact (fp_fr_lay S _ _).trans (fp_fr_adv _)
theorem fp_fr_pr {f : mm_S → mm_S} (hf : fp_fo f) (n : Nat) : ∀ S : mm_S, fp_fr S (fp_pr f n S) := by
  induction n with
  | zero => intro S; exact fp_fr.rf S
  | succ n ih =>
    intro S
    have go : fp_fr S (fp_pr f n (fp_step f S)) := (fp_fr_op hf S _ _).trans (ih _)
    unfold fp_pr
    repeat' split
    all_goals first | exact fp_fr.rf S | exact go
theorem fp_fr_su {f : mm_S → mm_S} (hf : fp_fo f) (n : Nat) : ∀ S : mm_S, fp_fr S (fp_su f n S) := by
  induction n with
  | zero => intro S; exact fp_fr.rf S
  | succ n ih =>
    intro S
    have go : fp_fr S (fp_su f n (fp_step f S)) := (fp_fr_op hf S _ _).trans (ih _)
    unfold fp_su
    repeat' split
    all_goals first | exact fp_fr.rf S | exact go
theorem fp_fr_al {f : mm_S → mm_S} (hf : fp_fo f) (n : Nat) : ∀ S : mm_S, fp_fr S (fp_al f n S) := by
  induction n with
  | zero => intro S; exact fp_fr.rf S
  | succ n ih =>
    intro S
    have go : fp_fr S (fp_al f n (fp_lay (f (fp_adv S)) 38 0)) := (fp_fr_op hf S _ _).trans (ih _)
    unfold fp_al
    repeat' split
    all_goals first | exact fp_fr.rf S | exact go
theorem fp_fr_ei {f : mm_S → mm_S} (hf : fp_fo f) (n : Nat) : ∀ S : mm_S, fp_fr S (fp_ei f n S) := by
  induction n with
  | zero => intro S; exact fp_fr.rf S
  | succ n ih =>
    intro S
    have go : fp_fr S (fp_ei f n (fp_lay (f (fp_adv S)) 124 0)) := (fp_fr_op hf S _ _).trans (ih _)
    unfold fp_ei
    repeat' split
    all_goals first | exact fp_fr.rf S | exact go
theorem fp_fr_co {f : mm_S → mm_S} (hf : fp_fo f) (S : mm_S) : fp_fr S (fp_co f S) := by
  unfold fp_co
  repeat' split
  all_goals first | exact fp_fr.rf S | exact fp_fr_op hf S _ _
theorem ps_fr (fu : Nat) : ∀ lv : Nat, fp_fo (ff_ps fu lv) := by
  induction fu with
  | zero => intro lv S; exact fp_fr.rf S
  | succ fu ih =>
    intro lv
    match lv with
    | 0 => exact fp_fr_one (ih 0) (ih 5)
    | 1 => intro S; exact (ih 0 S).trans (fp_fr_pr (ih 0) 161 _)
    | 2 => intro S; exact (ih 1 S).trans (fp_fr_su (ih 1) 161 _)
    | 3 => intro S; exact (ih 2 S).trans (fp_fr_co (ih 2) _)
    | 4 => intro S; exact (ih 3 S).trans (fp_fr_al (ih 3) 161 _)
    | _ + 5 => intro S; exact (ih 4 S).trans (fp_fr_ei (ih 4) 161 _)
/-! a line -/
theorem iv_P_wr {S : mm_S} {k : Nat} {i v : Int32} (h : iv_P S) (h1 : 47 ≠ k) (h2 : 37 ≠ k) (h3 : 51 ≠ k) (h4 : 50 ≠ k) : iv_P (wr_ S k i v) := by
  obtain ⟨p1, p2, p3, p4, p5, p6, p7⟩ := h
  refine ⟨?_, ?_, ?_, ?_, ?_, ?_, ?_⟩ <;> simp only [fd_wn h1, fd_wn h2, fd_wn h3, fd_wn h4] <;> assumption
theorem iv_Q_wr {S : mm_S} {k : Nat} {i v : Int32} (h : iv_Q S) (h1 : 47 ≠ k) (h2 : 37 ≠ k) (h3 : 51 ≠ k) (h4 : 50 ≠ k) (h5 : 49 ≠ k) (h6 : 48 ≠ k) : iv_Q (wr_ S k i v) := by
  obtain ⟨q1, q2, q3, q4⟩ := h
  exact ⟨iv_P_wr q1 h1 h2 h3 h4, by rw [fd_wn h5]; exact q2, by rw [fd_wn h5]; exact q3, by rw [fd_wn h6]; exact q4⟩
/-- how many lines there are -/
def iv_L (S : mm_S) : Prop := 0 ≤ (rd_ S 42 (fd_ S 50)).toInt ∧ 2 * (rd_ S 42 (fd_ S 50)).toInt ≤ (fd_ S 47).toInt
theorem ix_90 {S : mm_S} (hP : iv_P S) (hL : iv_L S) : vp_in (fp_l S) 1530 := by
  obtain ⟨p1, p2, p3, p4, p5, p6, p7⟩ := hP
  obtain ⟨l0, l1⟩ := hL
  have e90 : (90 : Int32).toInt = 90 := by decide
  have e : (90 * fd_ S 50).toInt = 90 * (fd_ S 50).toInt := by rw [ww_mul, e90] <;> rw [e90] <;> omega
  have e2 : (fp_l S).toInt = 90 * (fd_ S 50).toInt + (rd_ S 42 (fd_ S 50)).toInt := by
    unfold fp_l
    rw [ww_add, e] <;> rw [e] <;> omega
  exact ww_in (by omega) (by omega)
theorem fp_R_wr {k j : Int} {S T : mm_S} {q : Nat} {i v : Int32} (h : fp_R k j S T) (h1 : 47 ≠ q) (h2 : 37 ≠ q) (h3 : 51 ≠ q) (h4 : 50 ≠ q) (h5 : 49 ≠ q) (h6 : 48 ≠ q) : fp_R k j S (wr_ T q i v) := by
  obtain ⟨x1, x2, x3, x4, x5, x6, x7⟩ := h
  refine ⟨?_, ?_, ?_, ?_, ?_, ?_, ?_⟩ <;> simp only [fd_wn h1, fd_wn h2, fd_wn h3, fd_wn h4, fd_wn h5, fd_wn h6] <;> assumption
theorem fp_line1_R {S : mm_S} (hQ : iv_Q S) : fp_R 0 0 S (fp_line1 S) := fp_R_wr (ps_ok 64 5 S hQ) (by decide) (by decide) (by decide) (by decide) (by decide) (by decide)
theorem fp_mid_R {S : mm_S} (hQ : iv_Q S) (hF : (fd_ (fp_line1 S) 48).toInt < 0) (hl : (fd_ (fp_line1 S) 47).toInt < (fd_ (fp_line1 S) 37).toInt) : fp_R 1 0 (fp_line1 S) (fp_mid S) ∧ iv_Q (fp_line1 S) ∧ iv_Q (fp_mid S) := by
  have q1 := (fp_line1_R hQ).ivQ (by omega) hQ hF
  exact ⟨fp_R_wr (fp_adv_R q1.1 hF hl) (by decide) (by decide) (by decide) (by decide) (by decide) (by decide), q1, iv_Q_wr (fp_adv_Q q1 hl) (by decide) (by decide) (by decide) (by decide) (by decide) (by decide)⟩
theorem fp_end_fd {S : mm_S} {l : Int32} {k : Nat} (h1 : k ≠ 44) (h2 : k ≠ 42) : fd_ (fp_end S l) k = fd_ S k := by
  unfold fp_end fp_end1
  rw [fd_wn h2, fd_wn h1]
theorem fp_end_42 (S : mm_S) (l : Int32) : rd_ (fp_end S l) 42 (fd_ (fp_end S l) 50) = rd_ S 42 (fd_ S 50) + 1 := by
  rw [fp_end_fd (by decide) (by decide)]
  unfold fp_end fp_end1
  rw [fd_wn (by decide), rd_ws, rd_wn (by decide)]
/-- what reading a line leaves -/
theorem rl_R {S : mm_S} (hQ : iv_Q S) : fp_R 0 0 S (ff_readLine S) := by
  have e : ∀ (k j : Int) (T : mm_S), fp_R k j S T → ∀ l : Int32, fp_R k j S (fp_end T l) := fun k j T h l => fp_R_wr (fp_R_wr h (by decide) (by decide) (by decide) (by decide) (by decide) (by decide)) (by decide) (by decide) (by decide) (by decide) (by decide) (by decide)
  have r1 := fp_line1_R hQ
  unfold ff_readLine
  split
  · exact e _ _ _ r1 _
  · rename_i h
    split
    · rename_i hc
      obtain ⟨m1, m2, m3⟩ := fp_mid_R hQ (ww_n0 h) (fp_look_lt (by rw [hc]; decide))
      have r2 := (r1.trans m1).trans (ps_ok 64 5 _ m3)
      exact (e _ _ _ (by simpa using r2 : fp_R 1 0 S (ff_ps 64 5 (fp_mid S))) _).less (by omega)
    · exact e _ _ _ r1 _
theorem rl_pg {S : mm_S} (hQ : iv_Q S) (hF : (fd_ (ff_readLine S) 48).toInt < 0) : (fd_ S 47).toInt < (fd_ (ff_readLine S) 47).toInt := by
  have r1 := fp_line1_R hQ
  have pg : (fd_ (fp_line1 S) 48).toInt < 0 → (fd_ S 47).toInt < (fd_ (fp_line1 S) 47).toInt := by
    unfold fp_line1
    rw [fd_wn (by decide), fd_wn (by decide)]
    exact ps_pg 64 5 (by omega) (by omega) S hQ
  have e0 : (0 : Int32).toInt = 0 := by decide
  unfold ff_readLine at hF ⊢
  split at hF
  · rename_i h
    rw [fp_end_fd (by decide) (by decide)] at hF
    have := ww_0 h
    omega
  · rename_i h
    rw [if_neg h]
    have hF1 : (fd_ (fp_line1 S) 48).toInt < 0 := ww_n0 h
    split at hF
    · rename_i hc
      rw [if_pos hc]
      obtain ⟨m1, m2, m3⟩ := fp_mid_R hQ hF1 (fp_look_lt (by rw [hc]; decide))
      rw [fp_end_fd (by decide) (by decide)]
      have a := pg hF1
      have b := m1.mono
      have c := (ps_ok 64 5 _ m3).mono
      omega
    · rename_i hc
      rw [if_neg hc, fp_end_fd (by decide) (by decide)]
      exact pg hF1
theorem rl_42 {S : mm_S} (hQ : iv_Q S) : rd_ (ff_readLine S) 42 (fd_ (ff_readLine S) 50) = rd_ S 42 (fd_ S 50) + 1 := by
  have a1 : fd_ (fp_line1 S) 50 = fd_ S 50 := (fp_line1_R hQ).2.1
  have a2 : ∀ i : Int32, rd_ (fp_line1 S) 42 i = rd_ S 42 i := by
    intro i
    unfold fp_line1
    rw [rd_wn (by decide)]
    exact congrFun (ps_fr 64 5 S 42 (by decide)) _
  unfold ff_readLine
  split
  · rw [fp_end_42, a1, a2]
  · rename_i h
    split
    · rename_i hc
      obtain ⟨m1, m2, m3⟩ := fp_mid_R hQ (ww_n0 h) (fp_look_lt (by rw [hc]; decide))
      have b1 : fd_ (ff_ps 64 5 (fp_mid S)) 50 = fd_ S 50 := (ps_ok 64 5 _ m3).2.1.trans (m1.2.1.trans a1)
      have b2 : ∀ i : Int32, rd_ (ff_ps 64 5 (fp_mid S)) 42 i = rd_ S 42 i := by
        intro i
        have c1 : rd_ (ff_ps 64 5 (fp_mid S)) 42 i = rd_ (fp_mid S) 42 i := congrFun (ps_fr 64 5 (fp_mid S) 42 (by decide)) _
        rw [c1]
        unfold fp_mid
        rw [rd_wn (by decide)]
        exact (congrFun (fp_fr_adv (fp_line1 S) 42 (by decide)) _).trans (a2 i)
      rw [fp_end_42, b1, b2]
    · rw [fp_end_42, a1, a2]
/-- the fields that reading a line may change -/
def rl_chg : List Nat := [42, 43, 44, 45, 46, 47, 48, 49, 51]
theorem rl_fr (S : mm_S) : ∀ k : Nat, k ∉ rl_chg → ff_readLine S k = S k := by
  intro k hk
  have hk2 : k ∉ fp_chg := fun q => hk (by revert q; unfold fp_chg rl_chg; simp only [List.mem_cons, List.not_mem_nil, or_false]; omega)
  have n42 : k ≠ 42 := fun q => hk (by rw [q]; decide)
  have n43 : k ≠ 43 := fun q => hk (by rw [q]; decide)
  have n44 : k ≠ 44 := fun q => hk (by rw [q]; decide)
  have e : ∀ (T : mm_S) (l : Int32), fp_end T l k = T k := by
    intro T l
    unfold fp_end fp_end1
    exact (mm_up_k n42).trans (mm_up_k n44)
  have l1 : fp_line1 S k = S k := by
    unfold fp_line1
    exact (mm_up_k n43).trans (ps_fr 64 5 S k hk2)
  unfold ff_readLine
  split
  · exact (e _ _).trans l1
  · split
    · refine (e _ _).trans ((ps_fr 64 5 _ k hk2).trans ?_)
      unfold fp_mid
      exact (mm_up_k n43).trans ((fp_fr_adv _ k hk2).trans l1)
    · exact (e _ _).trans l1
theorem fd_of {S T : mm_S} {k : Nat} (h : S k = T k) : fd_ S k = fd_ T k := congrFun h 0
theorem rd_of {S T : mm_S} {k : Nat} (h : S k = T k) (i : Int32) : rd_ S k i = rd_ T k i := congrFun h _
theorem fs_fd {S : mm_S} (hp : 0 ≤ (fd_ S 37).toInt) (hp1 : (fd_ S 37).toInt ≤ 160) (ht : 0 ≤ (fd_ S 38).toInt) (ht1 : (fd_ S 38).toInt ≤ 15) : iv_Q (ft_start S) ∧ iv_L (ft_start S) := by
  have e0 : (0 : Int32).toInt = 0 := by decide
  have em : (-1 : Int32).toInt = -1 := by decide
  unfold ft_start
  refine ⟨⟨⟨?_, ?_, ?_, ?_, ?_, ?_, ?_⟩, ?_, ?_, ?_⟩, ?_, ?_⟩
  · rw [fd_fn (by decide), fd_fn (by decide), fd_fw, e0]; exact Int.le_refl _
  · rw [fd_fn (by decide), fd_fn (by decide), fd_fw, e0, fd_fn (by decide), fd_fn (by decide), fd_fn (by decide), fd_fn (by decide), fd_wn (by decide), fd_fn (by decide)]; exact hp
  · rw [fd_fn (by decide), fd_fn (by decide), fd_fn (by decide), fd_fn (by decide), fd_wn (by decide), fd_fn (by decide)]; exact hp1
  · rw [fd_fn (by decide), fd_fn (by decide), fd_fn (by decide), fd_fw, e0]; exact Int.le_refl _
  · rw [fd_fn (by decide), fd_fn (by decide), fd_fn (by decide), fd_fw, fd_fn (by decide), fd_fn (by decide), fd_fw]; exact Int.le_refl _
  · rw [fd_fn (by decide), fd_fn (by decide), fd_fn (by decide), fd_fn (by decide), fd_wn (by decide), fd_fw]; exact ht
  · rw [fd_fn (by decide), fd_fn (by decide), fd_fn (by decide), fd_fn (by decide), fd_wn (by decide), fd_fw]; exact ht1
  · rw [fd_fw, e0]; exact Int.le_refl _
  · rw [fd_fw, e0]; decide
  · rw [fd_fn (by decide), fd_fw, em]; decide
  · rw [fd_fn (by decide), fd_fn (by decide), fd_fn (by decide), fd_fn (by decide), fd_wn (by decide), fd_fw, rd_fn (by decide), rd_fn (by decide), rd_fn (by decide), rd_fn (by decide), rd_ws, e0]; exact Int.le_refl _
  · rw [fd_fn (by decide), fd_fn (by decide), fd_fn (by decide), fd_fn (by decide), fd_wn (by decide), fd_fw, rd_fn (by decide), rd_fn (by decide), rd_fn (by decide), rd_fn (by decide), rd_ws, fd_fn (by decide), fd_fn (by decide), fd_fw, e0]; exact Int.le_refl _
/-! texts in force -/
def ff_fo_go : Nat → mm_S → Int32 → Int32 → Int32 → Int32 → Int32 → Int32
  | 0, _, _, _, _, _, _ => -2
  | fu + 1, S, w, h, k, g, t => if t < 0 then -2 else if jr_ (rd_ S 39 t) 10 = jr_ w 10 then
      (if rd_ S 39 t / 10 = w / 10 then (if k < rd_ S 40 t then ff_fo_go fu S w h k g (t + -1) else if h < rd_ S 41 t then ff_fo_go fu S w h k g (t + -1) else t)
      else if g = 0 then ff_fo_go fu S w h k g (t + -1) else if k < rd_ S 40 t then ff_fo_go fu S w h k g (t + -1) else if h < rd_ S 41 t then ff_fo_go fu S w h k g (t + -1) else t)
    else ff_fo_go fu S w h k g (t + -1)
def ff_forceOf (S : mm_S) (w h k : Int32) : Int32 := ff_fo_go 17 S w h k (if k < ff_firstThrough S then 0 else 1) (fd_ S 38 - 1)
def ff_inForce (S : mm_S) (w h k : Int32) : Int32 := if ff_isWhat w = 0 then -1 else if ff_isHour h = 0 then -1 else if ff_isHour k = 0 then -1 else ff_forceOf S w h k
def ff_both (w a b : Int32) : Int32 :=
  if w = 37 then (if b = 0 then 0 else if b = -1 then 0 else jr_ a b) else if w = 38 then (if a = 0 then 0 else if b = 0 then 0 else 1) else if w = 42 then a * b else if w = 43 then a + b else if w = 45 then a - b
  else if w = 47 then (if b = 0 then 0 else if b = -1 then -a else a / b) else if w = 60 then (if b ≤ a then 0 else 1) else if w = 61 then (if a = b then 1 else 0) else if w = 62 then (if a ≤ b then 0 else 1) else if a = 0 then (if b = 0 then 0 else 1) else 1
/-- steps on a pile of n -/
def wk_go : Nat → mm_S → Int32 → Int32 → Int32 → Int32 × mm_S
  | 0, S, _, _, _ => (0, S)
  | fu + 1, S, n, k, e => if e ≤ k then (rd_ S 53 0, S) else if rd_ S 45 k = 1 then wk_go fu (wr_ S 53 n (rd_ S 46 k)) (n + 1) (k + 1) e else if rd_ S 45 k = 2 then wk_go fu (wr_ S 53 n (rd_ S 52 (rd_ S 46 k))) (n + 1) (k + 1) e
    else if rd_ S 45 k = 3 then wk_go fu (wr_ S 53 (n - 1) (if rd_ S 53 (n - 1) = 0 then 1 else 0)) n (k + 1) e else if rd_ S 45 k = 4 then wk_go fu (wr_ S 53 (n - 1) (-(rd_ S 53 (n - 1)))) n (k + 1) e
    else wk_go fu (wr_ S 53 (n + -1 - 1) (ff_both (rd_ S 45 k) (rd_ S 53 (n + -1 - 1)) (rd_ S 53 (n + -1)))) (n + -1) (k + 1) e
def wk_ok : Nat → mm_S → Int32 → Int32 → Int32 → Prop
  | 0, _, _, _, _ => False
  | fu + 1, S, n, k, e => if e ≤ k then True else 0 ≤ k.toInt ∧ k.toInt < 2890 ∧ (if rd_ S 45 k = 1 then 0 ≤ n.toInt ∧ n.toInt < 170 ∧ wk_ok fu S (n + 1) (k + 1) e else if rd_ S 45 k = 2 then 0 ≤ n.toInt ∧ n.toInt < 170 ∧ 0 ≤ (rd_ S 46 k).toInt ∧ (rd_ S 46 k).toInt < 8 ∧ wk_ok fu S (n + 1) (k + 1) e
    else if rd_ S 45 k = 3 then 1 ≤ n.toInt ∧ n.toInt ≤ 170 ∧ wk_ok fu S n (k + 1) e else if rd_ S 45 k = 4 then 1 ≤ n.toInt ∧ n.toInt ≤ 170 ∧ wk_ok fu S n (k + 1) e else 2 ≤ n.toInt ∧ n.toInt ≤ 170 ∧ wk_ok fu S (n + -1) (k + 1) e)
def ff_worked (S : mm_S) (t a b : Int32) : Int32 × mm_S := wk_go 171 S 0 (170 * t + a) (170 * t + b)
def gv_go : Nat → mm_S → Int32 → Int32 → Int32 → Int32 × mm_S
  | 0, S, _, _, _ => (0, S)
  | fu + 1, S, t, f, i => if rd_ S 42 t ≤ i then (0, S) else if rd_ S 43 (90 * t + i) = f then ff_worked S t (rd_ S 43 (90 * t + i)) (rd_ S 44 (90 * t + i)) else
      if (ff_worked S t f (rd_ S 43 (90 * t + i))).1 = 0 then gv_go fu (ff_worked S t f (rd_ S 43 (90 * t + i))).2 t (rd_ (ff_worked S t f (rd_ S 43 (90 * t + i))).2 44 (90 * t + i)) (i + 1)
      else ff_worked (ff_worked S t f (rd_ S 43 (90 * t + i))).2 t (rd_ (ff_worked S t f (rd_ S 43 (90 * t + i))).2 43 (90 * t + i)) (rd_ (ff_worked S t f (rd_ S 43 (90 * t + i))).2 44 (90 * t + i))
def gv_ok : Nat → mm_S → Int32 → Int32 → Int32 → Prop
  | 0, _, _, _, _ => False
  | fu + 1, S, t, f, i => if rd_ S 42 t ≤ i then True else vp_in (90 * t + i) 1530 ∧ wk_ok 171 S 0 (170 * t + rd_ S 43 (90 * t + i)) (170 * t + rd_ S 44 (90 * t + i)) ∧ (¬ rd_ S 43 (90 * t + i) = f → wk_ok 171 S 0 (170 * t + f) (170 * t + rd_ S 43 (90 * t + i)) ∧ gv_ok fu S t (rd_ S 44 (90 * t + i)) (i + 1))
def ff_gives (S : mm_S) (t : Int32) : Int32 × mm_S := gv_go 91 S t 0 0
def ff_thr_go : Nat → mm_S → Int32 → Int32 → Int32
  | 0, _, n, _ => n
  | fu + 1, S, n, b => if fd_ S 4 ≤ b then n else if rd_ S 12 b ≤ 0 then ff_thr_go fu S (n + 0) (b + 1) else ff_thr_go fu S (n + 1) (b + 1)
def ff_through (S : mm_S) : Int32 := ff_thr_go 121 S 0 0
def sn1 (S : mm_S) : mm_S := wr_ S 52 0 (fd_ S 1)
def sn2 (S : mm_S) : mm_S := wr_ S 52 1 (fd_ S 1 / 24)
def sn3 (S : mm_S) (m : Int32) : mm_S := wr_ S 52 2 (if 0 ≤ m then rd_ S 17 m else 0)
def sn4 (S : mm_S) (m : Int32) : mm_S := wr_ S 52 3 (if 0 ≤ m then rd_ S 18 m else 0)
def sn5 (S : mm_S) (m : Int32) : mm_S := wr_ S 52 4 (if 0 ≤ m then rd_ S 19 m else 0)
def sn6 (S : mm_S) : mm_S := wr_ S 52 5 (ff_menBelow S)
def sn7 (S : mm_S) : mm_S := wr_ S 52 6 (fd_ S 54)
def sn8 (S : mm_S) (n : Int32) : mm_S := wr_ S 52 7 n
def sn_S (S : mm_S) (m n : Int32) : mm_S := sn8 (sn7 (sn6 (sn5 (sn4 (sn3 (sn2 (sn1 S)) m) m) m))) n
def ff_saysNow (S : mm_S) (w m d : Int32) : Int32 × mm_S := if 0 ≤ ff_forceOf S w (fd_ S 1) (fd_ S 1) then ff_gives (sn_S S m (ff_through S)) (ff_forceOf S w (fd_ S 1) (fd_ S 1)) else (d, S)
def ff_says (S : mm_S) (w m : Int32) : Int32 × mm_S :=
  if ff_isWhat w = 0 then (-2000000000, S) else if jr_ w 10 = 2 then (if m = -1 then ff_saysNow S w m (if jr_ w 10 = 0 then 1 else 0) else (-2000000000, S)) else if ff_isMan S m = 0 then (-2000000000, S) else ff_saysNow S w m (if jr_ w 10 = 0 then 1 else 0)
def ff_move (S : mm_S) (c h : Int32) : Int32 × mm_S :=
  if ff_isCell c = 0 then (-1, S) else if ff_in h (fd_ S 1 + 1) 1699 = 0 then (-1, S) else if fd_ S 56 = 60 then (-3, S) else (fd_ S 56 + 1, fw_ (wr_ (wr_ S 57 (fd_ S 56) c) 58 (fd_ S 56) h) 56 (fd_ S 56 + 1))
def ff_spoons (S : mm_S) (v : Int32) : Int32 × mm_S := if ff_in v 0 9999 = 0 then (-1, S) else (fd_ S 54, fw_ S 54 v)
/-! laws of them -/
/-- the texts, and how many -/
def iv_X (S : mm_S) : Prop := 0 ≤ (fd_ S 38).toInt ∧ (fd_ S 38).toInt ≤ 16 ∧ ∀ t : Int32, 0 ≤ t.toInt → t.toInt < (fd_ S 38).toInt → gv_ok 91 S t 0 0 ∧ 0 ≤ (rd_ S 42 t).toInt ∧ (rd_ S 42 t).toInt ≤ 90
theorem wk_ok_of {S T : mm_S} (h1 : T 45 = S 45) (h2 : T 46 = S 46) (fu : Nat) : ∀ n k e : Int32, wk_ok fu S n k e → wk_ok fu T n k e := by
  induction fu with
  | zero => intro n k e h; exact h
  | succ fu ih =>
    intro n k e h
    unfold wk_ok at h ⊢
    rw [rd_of h1, rd_of h2]
    split
    · trivial
    · rename_i q
      rw [if_neg q] at h
      obtain ⟨a, b, h⟩ := h
      refine ⟨a, b, ?_⟩
      split
      · rename_i q1; rw [if_pos q1] at h; exact ⟨h.1, h.2.1, ih _ _ _ h.2.2⟩
      · rename_i q1
        rw [if_neg q1] at h
        split
        · rename_i q2; rw [if_pos q2] at h; exact ⟨h.1, h.2.1, h.2.2.1, h.2.2.2.1, ih _ _ _ h.2.2.2.2⟩
        · rename_i q2
          rw [if_neg q2] at h
          split
          · rename_i q3; rw [if_pos q3] at h; exact ⟨h.1, h.2.1, ih _ _ _ h.2.2⟩
          · rename_i q3
            rw [if_neg q3] at h
            split
            · rename_i q4; rw [if_pos q4] at h; exact ⟨h.1, h.2.1, ih _ _ _ h.2.2⟩
            · rename_i q4; rw [if_neg q4] at h; exact ⟨h.1, h.2.1, ih _ _ _ h.2.2⟩
theorem gv_ok_of {S T : mm_S} (h1 : T 45 = S 45) (h2 : T 46 = S 46) (h3 : T 42 = S 42) (h4 : T 43 = S 43) (h5 : T 44 = S 44) (fu : Nat) : ∀ t f i : Int32, gv_ok fu S t f i → gv_ok fu T t f i := by
  induction fu with
  | zero => intro t f i h; exact h
  | succ fu ih =>
    intro t f i h
    unfold gv_ok at h ⊢
    rw [rd_of h3, rd_of h4, rd_of h5]
    split
    · trivial
    · rename_i q
      rw [if_neg q] at h
      obtain ⟨a, b, h⟩ := h
      exact ⟨a, wk_ok_of h1 h2 _ _ _ _ b, fun q2 => ⟨wk_ok_of h1 h2 _ _ _ _ (h q2).1, ih _ _ _ (h q2).2⟩⟩
theorem iv_X_of {S T : mm_S} (h1 : T 45 = S 45) (h2 : T 46 = S 46) (h3 : T 42 = S 42) (h4 : T 43 = S 43) (h5 : T 44 = S 44) (h6 : T 38 = S 38) (h : iv_X S) : iv_X T := by
  obtain ⟨a, b, c⟩ := h
  unfold iv_X
  rw [fd_of h6]
  refine ⟨a, b, fun t t0 t1 => ?_⟩
  rw [rd_of h3]
  exact ⟨gv_ok_of h1 h2 h3 h4 h5 _ _ _ _ (c t t0 t1).1, (c t t0 t1).2⟩
theorem wk_fr (fu : Nat) : ∀ (S : mm_S) (n k e : Int32) (q : Nat), q ≠ 53 → (wk_go fu S n k e).2 q = S q := by
  induction fu with
  | zero => intro S n k e q _; rfl
  | succ fu ih =>
    intro S n k e q hq
    have go : ∀ (i v n k e : Int32), (wk_go fu (wr_ S 53 i v) n k e).2 q = S q := fun i v n k e => (ih _ _ _ _ q hq).trans (mm_up_k hq)
    unfold wk_go
    repeat' split
    all_goals first | rfl | exact go _ _ _ _ _
theorem gv_fr (fu : Nat) : ∀ (S : mm_S) (t f i : Int32) (q : Nat), q ≠ 53 → (gv_go fu S t f i).2 q = S q := by
  induction fu with
  | zero => intro S t f i q _; rfl
  | succ fu ih =>
    intro S t f i q hq
    have w : ∀ (S : mm_S) (t a b : Int32), (ff_worked S t a b).2 q = S q := fun S t a b => wk_fr _ _ _ _ _ q hq
    unfold gv_go
    repeat' split
    · rfl
    · exact w _ _ _ _
    · exact (ih _ _ _ _ q hq).trans (w _ _ _ _)
    · exact (w _ _ _ _).trans (w _ _ _ _)
theorem sn_fr (S : mm_S) (m n : Int32) {q : Nat} (h : q ≠ 52) : sn_S S m n q = S q := by
  unfold sn_S sn8 sn7 sn6 sn5 sn4 sn3 sn2 sn1
  simp only [wr_]
  rw [mm_up_k h, mm_up_k h, mm_up_k h, mm_up_k h, mm_up_k h, mm_up_k h, mm_up_k h, mm_up_k h]
theorem sayn_fr (S : mm_S) (w m d : Int32) {q : Nat} (h1 : q ≠ 52) (h2 : q ≠ 53) : (ff_saysNow S w m d).2 q = S q := by
  unfold ff_saysNow
  split
  · exact (gv_fr _ _ _ _ _ q h2).trans (sn_fr S _ _ h1)
  · rfl
theorem ff_fo_t (n : Nat) : ∀ (S : mm_S) (w h k g t : Int32), -2147483648 < t.toInt → ff_fo_go n S w h k g t = -2 ∨ (0 ≤ (ff_fo_go n S w h k g t).toInt ∧ (ff_fo_go n S w h k g t).toInt ≤ t.toInt) := by
  induction n with
  | zero => intro S w h k g t _; exact Or.inl rfl
  | succ n ih =>
    intro S w h k g t ht
    have em : (-1 : Int32).toInt = -1 := by decide
    unfold ff_fo_go
    split
    · exact Or.inl rfl
    · rename_i q
      have t0 : 0 ≤ t.toInt := ww_nlt q
      have et : (t + -1).toInt = t.toInt - 1 := by
        have := ww_hi t
        have y := ww_add t (-1) (by rw [em]; omega) (by rw [em]; omega)
        rw [em] at y
        omega
      have go : ff_fo_go n S w h k g (t + -1) = -2 ∨ (0 ≤ (ff_fo_go n S w h k g (t + -1)).toInt ∧ (ff_fo_go n S w h k g (t + -1)).toInt ≤ t.toInt) := by
        rcases ih S w h k g (t + -1) (by omega) with z | z
        · exact Or.inl z
        · exact Or.inr ⟨z.1, by omega⟩
      repeat' split
      all_goals first | exact go | exact Or.inr ⟨t0, Int.le_refl _⟩
theorem ff_forceOf_t {S : mm_S} (hX : iv_X S) (w h k : Int32) (hf : 0 ≤ (ff_forceOf S w h k).toInt) : (ff_forceOf S w h k).toInt < (fd_ S 38).toInt := by
  have h1 := hX.1
  have h2 := hX.2.1
  have e1 : (1 : Int32).toInt = 1 := by decide
  have e : (fd_ S 38 - 1).toInt = (fd_ S 38).toInt - 1 := by rw [ww_sub, e1] <;> rw [e1] <;> omega
  unfold ff_forceOf at hf ⊢
  rcases ff_fo_t 17 S w h k (if k < ff_firstThrough S then 0 else 1) (fd_ S 38 - 1) (by omega) with z | z
  · rw [z] at hf; exact absurd hf (by decide)
  · omega
theorem ww_dec {t : Int32} (h : -2147483648 < t.toInt) : (t + -1).toInt = t.toInt - 1 := by
  have em : (-1 : Int32).toInt = -1 := by decide
  have := ww_hi t
  have y := ww_add t (-1) (by rw [em]; omega) (by rw [em]; omega)
  rw [em] at y
  omega
theorem ww_sub1 {t : Int32} (h : -2147483648 < t.toInt) : (t - 1).toInt = t.toInt - 1 := by
  have em : (1 : Int32).toInt = 1 := by decide
  have := ww_hi t
  have y := ww_sub t 1 (by rw [em]; omega) (by rw [em]; omega)
  rw [em] at y
  omega
theorem rl_L {S : mm_S} (hQ : iv_Q S) (hL : iv_L S) (hF : (fd_ (ff_readLine S) 48).toInt < 0) : 0 ≤ (rd_ (ff_readLine S) 42 (fd_ (ff_readLine S) 50)).toInt ∧ 2 * (rd_ (ff_readLine S) 42 (fd_ (ff_readLine S) 50)).toInt ≤ (fd_ (ff_readLine S) 47).toInt + 1 := by
  obtain ⟨p1, p2, p3, p4, p5, p6, p7⟩ := id hQ.1
  obtain ⟨l0, l1⟩ := hL
  have pg := rl_pg hQ hF
  rw [rl_42 hQ, ww_inc' (by omega)]
  omega
theorem iv_B_of {S T : mm_S} (h : T 4 = S 4) (hB : iv_B S) : iv_B T := by
  unfold iv_B
  rw [fd_of h]
  exact hB
/-- the moves to come -/
def iv_V (S : mm_S) : Prop := 0 ≤ (fd_ S 56).toInt ∧ (fd_ S 56).toInt ≤ 60 ∧ ∀ i : Int32, 0 ≤ i.toInt → i.toInt < (fd_ S 56).toInt → ¬ ff_isCell (rd_ S 57 i) = 0
theorem gm_wr {S : mm_S} {k q : Nat} {i v : Int32} (h : q ≠ k) : wr_ S k i v q = S q := mm_up_k h
theorem gm_fw {S : mm_S} {k q : Nat} {v : Int32} (h : q ≠ k) : fw_ S k v q = S q := mm_up_k h

theorem ff_text_go {S : mm_S} {w f : Int32} (h1 : ¬ ff_isWhat w = 0) (h2 : ¬ ff_in f (fd_ S 1) 1699 = 0) (h3 : ¬ fd_ S 38 = 16) : ft_go 162 (ff_readLine (ft_start S)) w f = ff_text S w f := by
  unfold ff_text
  rw [if_neg h1, if_neg h2, if_neg h3]
