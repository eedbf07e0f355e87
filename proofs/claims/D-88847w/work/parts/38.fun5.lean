/-! THE REFERENCE's METHODS AS FUNCTIONS: 5 (hours, food, tubes, orders of need) -/
/-- all but these fields stay -/
def fr_ (ks : List Nat) (S T : mm_S) : Prop := ∀ k : Nat, k ∉ ks → T k = S k
theorem fr_.rf {ks : List Nat} (S : mm_S) : fr_ ks S S := fun _ _ => rfl
theorem fr_.tr {ks : List Nat} {S T U : mm_S} (h1 : fr_ ks S T) (h2 : fr_ ks T U) : fr_ ks S U := fun k hk => (h2 k hk).trans (h1 k hk)
theorem fr_fw {ks : List Nat} {S : mm_S} {k : Nat} {v : Int32} (h : k ∈ ks) : fr_ ks S (fw_ S k v) := fun _ hk => mm_up_k (fun q => hk (by rw [q]; exact h))
theorem fr_wr {ks : List Nat} {S : mm_S} {k : Nat} {i v : Int32} (h : k ∈ ks) : fr_ ks S (wr_ S k i v) := fun _ hk => mm_up_k (fun q => hk (by rw [q]; exact h))
theorem fr_.fw {ks : List Nat} {S T : mm_S} {k : Nat} {v : Int32} (r : fr_ ks S T) (h : k ∈ ks) : fr_ ks S (fw_ T k v) := r.tr (fr_fw h)
theorem fr_.wr {ks : List Nat} {S T : mm_S} {k : Nat} {i v : Int32} (r : fr_ ks S T) (h : k ∈ ks) : fr_ ks S (wr_ T k i v) := r.tr (fr_wr h)
theorem fr_.le {ks ls : List Nat} {S T : mm_S} (r : fr_ ks S T) (h : ∀ k : Nat, k ∈ ks → k ∈ ls) : fr_ ls S T := fun k hk => r k (fun q => hk (h k q))
theorem fr_.le' {ks ls : List Nat} {S T : mm_S} (r : fr_ ks S T) (h : (ks.all fun k => ls.contains k) = true) : fr_ ls S T :=
  r.le fun k hk => by have := List.all_eq_true.mp h k hk; simpa using this
theorem iv_T_of {S T : mm_S} (h1 : T 9 = S 9) (h2 : T 10 = S 10) (h : iv_T S) : iv_T T := fun b b0 b1 => by rw [rd_of h1, rd_of h2]; exact h b b0 b1
theorem iv_V_of {S T : mm_S} (h1 : T 56 = S 56) (h2 : T 57 = S 57) (h : iv_V S) : iv_V T := by
  unfold iv_V
  rw [fd_of h1]
  exact ⟨h.1, h.2.1, fun i i0 i1 => by rw [rd_of h2]; exact h.2.2 i i0 i1⟩
theorem ff_isBody_of {S T : mm_S} (h : T 4 = S 4) (b : Int32) : ff_isBody T b = ff_isBody S b := by unfold ff_isBody; rw [fd_of h]
theorem ff_isHole_of {S T : mm_S} (h : T 4 = S 4) (h2 : T 5 = S 5) (b : Int32) : ff_isHole T b = ff_isHole S b := by unfold ff_isHole; rw [ff_isBody_of h, rd_of h2]
/-- the machines' holes -/
def iv_H (S : mm_S) : Prop := ∀ m : Int32, 0 ≤ m.toInt → m.toInt < 3 → rd_ S 27 m = -1 ∨ ¬ ff_isHole S (rd_ S 27 m) = 0
theorem iv_H_of {S T : mm_S} (h1 : T 4 = S 4) (h2 : T 5 = S 5) (h3 : T 27 = S 27) (h : iv_H S) : iv_H T := fun m m0 m1 => by rw [rd_of h3, ff_isHole_of h1 h2]; exact h m m0 m1
theorem iv_H_t {S : mm_S} (hB : iv_B S) (h : iv_H S) {m : Int32} (m0 : 0 ≤ m.toInt) (m1 : m.toInt < 3) (q : 0 ≤ (rd_ S 27 m).toInt) : (rd_ S 27 m).toInt < 120 := by
  rcases h m m0 m1 with z | z
  · rw [z] at q; exact absurd q (by decide)
  · exact (ff_isHole_t hB z).2.2
/-- the ways of the tubes -/
def iv_W (S : mm_S) : Prop := 0 ≤ (fd_ S 62).toInt ∧ (fd_ S 62).toInt ≤ 40 ∧ ∀ i : Int32, 0 ≤ i.toInt → i.toInt < (fd_ S 62).toInt → 0 ≤ (rd_ S 63 i).toInt
theorem iv_W_of {S T : mm_S} (h1 : T 62 = S 62) (h2 : T 63 = S 63) (h : iv_W S) : iv_W T := by
  unfold iv_W
  rw [fd_of h1]
  exact ⟨h.1, h.2.1, fun i i0 i1 => by rw [rd_of h2]; exact h.2.2 i i0 i1⟩
/-! drilling -/
def dr_clr : Nat → mm_S → Int32 → mm_S
  | 0, S, _ => S
  | fu + 1, S, b => if fd_ S 4 ≤ b then S else dr_clr fu (wr_ S 59 b 0) (b + 1)
def dr_do1 (S : mm_S) (m : Int32) : mm_S := wr_ S 11 (rd_ S 27 m) (rd_ S 11 (rd_ S 27 m) + 60)
def dr_do2 (S : mm_S) (m : Int32) : mm_S := wr_ S 59 (rd_ S 27 m) 1
def dr_do3 (S : mm_S) (m : Int32) : mm_S := wr_ S 60 (rd_ S 27 m) (rd_ S 26 m)
def dr_do (S : mm_S) (m : Int32) : mm_S := dr_do3 (dr_do2 (dr_do1 S m) m) m
def dr_m : Nat → mm_S → Int32 → mm_S
  | 0, S, _ => S
  | fu + 1, S, m => if 3 ≤ m then S else if rd_ S 27 m < 0 then dr_m fu S (m + 1) else if rd_ S 28 m < fd_ S 1 then dr_m fu (dr_do S m) (m + 1) else dr_m fu S (m + 1)
def dr_b : Nat → mm_S → Int32 → mm_S
  | 0, S, _ => S
  | fu + 1, S, b => if fd_ S 4 ≤ b then S else if rd_ S 59 b = 0 then dr_b fu S (b + 1) else dr_b fu (ff_bore 61 S b (rd_ S 60 b)) (b + 1)
def dr_cl (S : mm_S) : mm_S := dr_clr 121 S 0
def dr_ms (S : mm_S) : mm_S := dr_m 4 S 0
abbrev dr_say (S : mm_S) : Int32 × mm_S := ff_saysNow (dr_cl S) 2 (-1) 0
def ff_drill (S : mm_S) : mm_S := if (dr_say S).1 = 0 then dr_b 121 (dr_ms (dr_say S).2) 0 else (dr_say S).2
theorem bore_fr (fu : Nat) : ∀ (S : mm_S) (h sp : Int32), fr_ [8, 10, 11, 12, 14] S (ff_bore fu S h sp) := by
  induction fu with
  | zero => intro S h sp; exact fr_.rf S
  | succ fu ih =>
    intro S h sp
    have r3 : fr_ [8, 10, 11, 12, 14] S (fb_S3 S h sp) := by
      have r2 : fr_ [8, 10, 11, 12, 14] S (fb_S2 S h sp) := by
        unfold fb_S2 fb_S1
        exact ((((fr_.rf S).wr (by decide)).wr (by decide)).wr (by decide)).wr (by decide)
      unfold fb_S3
      split
      · exact r2
      · exact r2.wr (by decide)
    unfold ff_bore
    repeat' split
    all_goals first | exact fr_.rf S | exact r3.tr (ih _ _ _)
theorem bore_iv (fu : Nat) : ∀ (S : mm_S) (h sp : Int32), 0 ≤ h.toInt → h.toInt < 120 → iv_T S → iv_T (ff_bore fu S h sp) := by
  induction fu with
  | zero => intro S h sp _ _ hT; exact hT
  | succ fu ih =>
    intro S h sp h0 h1 hT
    unfold ff_bore
    split
    · exact hT
    · rename_i q
      split
      · split
        · exact ih _ _ _ h0 h1 (fb_iv sp hT h0 h1 (ww_nle q))
        · exact hT
      · exact hT
theorem drc_fr (fu : Nat) : ∀ (S : mm_S) (b : Int32), fr_ [59] S (dr_clr fu S b) := by
  induction fu with
  | zero => intro S b; exact fr_.rf S
  | succ fu ih =>
    intro S b
    unfold dr_clr
    split
    · exact fr_.rf S
    · exact (fr_wr (by decide)).tr (ih _ _)
theorem dro_fr (S : mm_S) (m : Int32) : fr_ [11, 59, 60] S (dr_do S m) := by
  unfold dr_do dr_do3 dr_do2 dr_do1
  exact (((fr_.rf S).wr (by decide)).wr (by decide)).wr (by decide)
theorem drm_fr (fu : Nat) : ∀ (S : mm_S) (m : Int32), fr_ [11, 59, 60] S (dr_m fu S m) := by
  induction fu with
  | zero => intro S m; exact fr_.rf S
  | succ fu ih =>
    intro S m
    unfold dr_m
    repeat' split
    all_goals first | exact fr_.rf S | exact ih _ _ | exact (dro_fr S m).tr (ih _ _)
theorem drb_fr (fu : Nat) : ∀ (S : mm_S) (b : Int32), fr_ [8, 10, 11, 12, 14] S (dr_b fu S b) := by
  induction fu with
  | zero => intro S b; exact fr_.rf S
  | succ fu ih =>
    intro S b
    unfold dr_b
    repeat' split
    all_goals first | exact fr_.rf S | exact ih _ _ | exact (bore_fr _ _ _ _).tr (ih _ _)
theorem sayn_fr' (S : mm_S) (w m d : Int32) : fr_ [52, 53] S (ff_saysNow S w m d).2 := fun q hq => sayn_fr S w m d (fun z => hq (by rw [z]; decide)) (fun z => hq (by rw [z]; decide))
theorem drs_fr (S : mm_S) : fr_ [52, 53, 59] S (dr_say S).2 := ((drc_fr 121 S 0).le' (by decide)).tr ((sayn_fr' _ _ _ _).le' (by decide))
theorem drill_fr (S : mm_S) : fr_ [8, 10, 11, 12, 14, 52, 53, 59, 60] S (ff_drill S) := by
  unfold ff_drill
  split
  · exact (((drs_fr S).le' (by decide)).tr ((drm_fr 4 _ 0).le' (by decide))).tr ((drb_fr 121 _ 0).le' (by decide))
  · exact (drs_fr S).le' (by decide)
theorem drb_iv (fu : Nat) : ∀ (S : mm_S) (b : Int32), (fd_ S 4).toInt ≤ 120 → 0 ≤ b.toInt → iv_T S → iv_T (dr_b fu S b) := by
  induction fu with
  | zero => intro S b _ _ hT; exact hT
  | succ fu ih =>
    intro S b hB b0 hT
    unfold dr_b
    split
    · exact hT
    · rename_i q
      have q1 := ww_nle q
      have e : (b + 1).toInt = b.toInt + 1 := ww_inc' (by omega)
      split
      · exact ih _ _ hB (by omega) hT
      · exact ih _ _ (by rw [fd_of (bore_fr 61 S b (rd_ S 60 b) 4 (by decide))]; exact hB) (by omega) (bore_iv _ _ _ _ b0 (by omega) hT)
theorem drill_iv {S : mm_S} (hB : iv_B S) (hT : iv_T S) : iv_T (ff_drill S) := by
  have r1 : fr_ [11, 52, 53, 59, 60] S (dr_ms (dr_say S).2) := ((drs_fr S).le' (by decide)).tr ((drm_fr 4 _ 0).le' (by decide))
  unfold ff_drill
  split
  · exact drb_iv _ _ _ (by rw [fd_of (r1 4 (by decide))]; exact hB.2) (by decide) (iv_T_of (r1 9 (by decide)) (r1 10 (by decide)) hT)
  · exact iv_T_of (drs_fr S 9 (by decide)) (drs_fr S 10 (by decide)) hT
/-! food -/
abbrev ea_t (S : mm_S) (m : Int32) : mm_S := (ff_saysNow S 10 m 1).2
abbrev ea_by (S : mm_S) (m : Int32) : Int32 := if fd_ (ea_t S m) 54 ≤ ff_held (ff_saysNow S 10 m 1).1 0 9 then fd_ (ea_t S m) 54 else ff_held (ff_saysNow S 10 m 1).1 0 9
def ea_1 (T : mm_S) (by_ : Int32) : mm_S := fw_ T 54 (fd_ T 54 - by_)
def ea_2 (T : mm_S) (by_ : Int32) : mm_S := fw_ T 55 (fd_ T 55 + by_)
def ea_3 (T : mm_S) (m by_ : Int32) : mm_S := wr_ T 17 m (ff_held (rd_ T 17 m - 6 + 2 * by_) 0 999)
def ea_S (S : mm_S) (m : Int32) : mm_S := ea_3 (ea_2 (ea_1 (ea_t S m) (ea_by S m)) (ea_by S m)) m (ea_by S m)
def ea_go : Nat → mm_S → Int32 → mm_S
  | 0, S, _ => S
  | fu + 1, S, m => if fd_ S 4 ≤ m then S else if rd_ S 20 m = 0 then ea_go fu S (m + 1) else ea_go fu (ea_S S m) (m + 1)
def ff_eat (S : mm_S) : mm_S := ea_go 121 S 0
theorem eaS_fr (S : mm_S) (m : Int32) : fr_ [17, 52, 53, 54, 55] S (ea_S S m) := by
  unfold ea_S ea_3 ea_2 ea_1 ea_t
  exact ((((sayn_fr' S 10 m 1).le' (by decide)).fw (by decide)).fw (by decide)).wr (by decide)
theorem eag_fr (fu : Nat) : ∀ (S : mm_S) (m : Int32), fr_ [17, 52, 53, 54, 55] S (ea_go fu S m) := by
  induction fu with
  | zero => intro S m; exact fr_.rf S
  | succ fu ih =>
    intro S m
    unfold ea_go
    repeat' split
    all_goals first | exact fr_.rf S | exact ih _ _ | exact (eaS_fr S m).tr (ih _ _)
theorem eat_fr (S : mm_S) : fr_ [17, 52, 53, 54, 55] S (ff_eat S) := eag_fr 121 S 0
/-! what comes down -/
def cd_go : Nat → mm_S → Int32 → Int32 → mm_S
  | 0, S, _, _ => S
  | fu + 1, S, n, w => if fd_ S 62 ≤ w then fw_ S 62 n else if rd_ S 64 w = fd_ S 1 then
      (if jr_ (rd_ S 63 w) 10 = 0 then cd_go fu (fw_ S 54 (fd_ S 54 + rd_ S 63 w / 10)) n (w + 1) else cd_go fu (wr_ S 66 (jr_ (rd_ S 63 w) 10) (rd_ S 66 (jr_ (rd_ S 63 w) 10) + 1)) n (w + 1))
      else cd_go fu (wr_ (wr_ S 63 n (rd_ S 63 w)) 64 n (rd_ (wr_ S 63 n (rd_ S 63 w)) 64 w)) (n + 1) (w + 1)
def ff_comeDown (S : mm_S) : mm_S := cd_go 41 S 0 0
theorem cdg_fr (fu : Nat) : ∀ (S : mm_S) (n w : Int32), fr_ [54, 62, 63, 64, 66] S (cd_go fu S n w) := by
  induction fu with
  | zero => intro S n w; exact fr_.rf S
  | succ fu ih =>
    intro S n w
    unfold cd_go
    repeat' split
    · exact fr_fw (by decide)
    · exact (fr_fw (by decide)).tr (ih _ _ _)
    · exact (fr_wr (by decide)).tr (ih _ _ _)
    · exact ((fr_wr (by decide)).tr (fr_wr (by decide))).tr (ih _ _ _)
theorem comeDown_fr (S : mm_S) : fr_ [54, 62, 63, 64, 66] S (ff_comeDown S) := cdg_fr 41 S 0 0
theorem cd_wr {S : mm_S} {n w : Int32} (hW : ∀ i : Int32, 0 ≤ i.toInt → i.toInt < 40 → i.toInt < (fd_ S 62).toInt → 0 ≤ (rd_ S 63 i).toInt) (n0 : 0 ≤ n.toInt) (w0 : 0 ≤ w.toInt) (w1 : w.toInt < (fd_ S 62).toInt) (w2 : w.toInt < 40) :
    ∀ i : Int32, 0 ≤ i.toInt → i.toInt < 40 → i.toInt < (fd_ S 62).toInt → 0 ≤ (rd_ (wr_ (wr_ S 63 n (rd_ S 63 w)) 64 n (rd_ (wr_ S 63 n (rd_ S 63 w)) 64 w)) 63 i).toInt := by
  intro i i0 i1 i2
  rw [rd_wn (by decide), rd_wa]
  split
  · exact hW w w0 w2 w1
  · exact hW i i0 i1 i2
theorem cdg_iv (fu : Nat) : ∀ (S : mm_S) (n w : Int32), 0 ≤ n.toInt → n.toInt ≤ w.toInt → w.toInt ≤ (fd_ S 62).toInt → (fd_ S 62).toInt ≤ 40 → (fd_ S 62).toInt - w.toInt < fu → (∀ i : Int32, 0 ≤ i.toInt → i.toInt < 40 → i.toInt < (fd_ S 62).toInt → 0 ≤ (rd_ S 63 i).toInt) → iv_W (cd_go fu S n w) := by
  induction fu with
  | zero => intro S n w _ _ _ _ h; exact absurd h (by omega)
  | succ fu ih =>
    intro S n w n0 n1 w1 h40 hm hW
    unfold cd_go
    split
    · refine ⟨by rw [fd_fw]; exact n0, by rw [fd_fw]; omega, fun i i0 i1 => ?_⟩
      rw [fd_fw] at i1
      rw [rd_fn (by decide)]
      exact hW i i0 (by omega) (by omega)
    · rename_i q
      have q1 := ww_nle q
      have ew : (w + 1).toInt = w.toInt + 1 := ww_inc' (by omega)
      have en : (n + 1).toInt = n.toInt + 1 := ww_inc' (by omega)
      split
      · split
        · exact ih _ _ _ n0 (by omega) (by rw [fd_fn (by decide)]; omega) (by rw [fd_fn (by decide)]; exact h40) (by rw [fd_fn (by decide)]; omega) (fun i i0 i1 i2 => by rw [rd_fn (by decide)]; rw [fd_fn (by decide)] at i2; exact hW i i0 i1 i2)
        · exact ih _ _ _ n0 (by omega) (by rw [fd_wn (by decide)]; omega) (by rw [fd_wn (by decide)]; exact h40) (by rw [fd_wn (by decide)]; omega) (fun i i0 i1 i2 => by rw [rd_wn (by decide)]; rw [fd_wn (by decide)] at i2; exact hW i i0 i1 i2)
      · have e62 : fd_ (wr_ (wr_ S 63 n (rd_ S 63 w)) 64 n (rd_ (wr_ S 63 n (rd_ S 63 w)) 64 w)) 62 = fd_ S 62 := by rw [fd_wn (by decide), fd_wn (by decide)]
        exact ih _ _ _ (by omega) (by omega) (by rw [e62]; omega) (by rw [e62]; exact h40) (by rw [e62]; omega) (fun i i0 i1 i2 => by rw [e62] at i2; exact cd_wr hW n0 (by omega) q1 (by omega) i i0 i1 i2)
theorem comeDown_iv {S : mm_S} (h : iv_W S) : iv_W (ff_comeDown S) := cdg_iv 41 S 0 0 (by decide) (by decide) h.1 h.2.1 (by have := h.2.1; show _ - 0 < _; omega) (fun i i0 _ i2 => h.2.2 i i0 i2)
/-! an hour -/
def mv_1 (S : mm_S) (p : Int32) : mm_S := wr_ (wr_ S 3 p 0) 2 p 6
def mv_2 (S : mm_S) (i : Int32) : mm_S := if fd_ S 21 < 0 then S else if jr_ (rd_ S 57 i) 100 = fd_ S 24 then (if ff_in (rd_ S 57 i / 100) (fd_ S 22) (fd_ S 23) = 0 then S else fw_ S 25 1) else S
def mv_S (S : mm_S) (i : Int32) : mm_S := mv_2 (mv_1 S (ff_placeOf (rd_ S 57 i))) i
def mv_go : Nat → mm_S → Int32 → mm_S
  | 0, S, _ => S
  | fu + 1, S, i => if fd_ S 56 ≤ i then S else if rd_ S 58 i = fd_ S 1 then mv_go fu (mv_S S i) (i + 1) else mv_go fu S (i + 1)
def hr_1 (S : mm_S) : mm_S := ff_comeDown (ff_drill (fw_ S 1 (fd_ S 1 + 1)))
def hr_2 (S : mm_S) : mm_S := if jr_ (fd_ S 1) 24 = 0 then ff_eat S else S
def hr_S (S : mm_S) : mm_S := mv_go 61 (hr_2 (hr_1 S)) 0
def hr_go : Nat → mm_S → Int32 → Int32 → Int32 × mm_S
  | 0, S, _, _ => (0, S)
  | fu + 1, S, n, k => if n ≤ k then (fd_ S 1, S) else hr_go fu (hr_S S) n (k + 1)
def ff_hours (S : mm_S) (n : Int32) : Int32 × mm_S := if ff_in n 1 48 = 0 then (-1, S) else if fd_ S 1 + n ≤ 1699 then hr_go 49 S n 0 else (-1, S)
theorem mvS_fr (S : mm_S) (i : Int32) : fr_ [2, 3, 25] S (mv_S S i) := by
  have r1 : ∀ p : Int32, fr_ [2, 3, 25] S (mv_1 S p) := fun p => ((fr_.rf S).wr (by decide)).wr (by decide)
  unfold mv_S mv_2
  repeat' split
  all_goals first | exact r1 _ | exact (r1 _).fw (by decide)
theorem mvg_fr (fu : Nat) : ∀ (S : mm_S) (i : Int32), fr_ [2, 3, 25] S (mv_go fu S i) := by
  induction fu with
  | zero => intro S i; exact fr_.rf S
  | succ fu ih =>
    intro S i
    unfold mv_go
    repeat' split
    all_goals first | exact fr_.rf S | exact ih _ _ | exact (mvS_fr S i).tr (ih _ _)
/-- what an hour needs -/
def iv_h (S : mm_S) : Prop := iv_B S ∧ iv_T S ∧ iv_X S ∧ iv_H S ∧ iv_W S ∧ iv_V S
theorem iv_X_fr {ks : List Nat} {S T : mm_S} (r : fr_ ks S T) (hk : ([38, 42, 43, 44, 45, 46].all fun k => !ks.contains k) = true) (h : iv_X S) : iv_X T := by
  have e : ∀ k : Nat, k ∈ [38, 42, 43, 44, 45, 46] → T k = S k := fun k hk2 => r k (by have := List.all_eq_true.mp hk k hk2; simpa using this)
  exact iv_X_of (e 45 (by decide)) (e 46 (by decide)) (e 42 (by decide)) (e 43 (by decide)) (e 44 (by decide)) (e 38 (by decide)) h
theorem iv_h_fr {ks : List Nat} {S T : mm_S} (r : fr_ ks S T) (hk : ([4, 5, 9, 10, 27, 38, 42, 43, 44, 45, 46, 56, 57, 62, 63].all fun k => !ks.contains k) = true) (h : iv_h S) : iv_h T := by
  have e : ∀ k : Nat, k ∈ [4, 5, 9, 10, 27, 38, 42, 43, 44, 45, 46, 56, 57, 62, 63] → T k = S k := fun k hk2 => r k (by have := List.all_eq_true.mp hk k hk2; simpa using this)
  exact ⟨iv_B_of (e 4 (by decide)) h.1, iv_T_of (e 9 (by decide)) (e 10 (by decide)) h.2.1, iv_X_of (e 45 (by decide)) (e 46 (by decide)) (e 42 (by decide)) (e 43 (by decide)) (e 44 (by decide)) (e 38 (by decide)) h.2.2.1,
    iv_H_of (e 4 (by decide)) (e 5 (by decide)) (e 27 (by decide)) h.2.2.2.1, iv_W_of (e 62 (by decide)) (e 63 (by decide)) h.2.2.2.2.1, iv_V_of (e 56 (by decide)) (e 57 (by decide)) h.2.2.2.2.2⟩
theorem iv_h_drill {S : mm_S} (h : iv_h S) : iv_h (ff_drill S) := by
  have r := drill_fr S
  exact ⟨iv_B_of (r 4 (by decide)) h.1, drill_iv h.1 h.2.1, iv_X_fr r (by decide) h.2.2.1, iv_H_of (r 4 (by decide)) (r 5 (by decide)) (r 27 (by decide)) h.2.2.2.1, iv_W_of (r 62 (by decide)) (r 63 (by decide)) h.2.2.2.2.1, iv_V_of (r 56 (by decide)) (r 57 (by decide)) h.2.2.2.2.2⟩
theorem iv_h_come {S : mm_S} (h : iv_h S) : iv_h (ff_comeDown S) := by
  have r := comeDown_fr S
  exact ⟨iv_B_of (r 4 (by decide)) h.1, iv_T_of (r 9 (by decide)) (r 10 (by decide)) h.2.1, iv_X_fr r (by decide) h.2.2.1, iv_H_of (r 4 (by decide)) (r 5 (by decide)) (r 27 (by decide)) h.2.2.2.1, comeDown_iv h.2.2.2.2.1, iv_V_of (r 56 (by decide)) (r 57 (by decide)) h.2.2.2.2.2⟩
theorem iv_h_1 {S : mm_S} (h : iv_h S) : iv_h (fw_ S 1 (fd_ S 1 + 1)) := iv_h_fr (ks := [1]) (fr_fw (by decide)) (by decide) h
theorem iv_h_eat {S : mm_S} (h : iv_h S) : iv_h (ff_eat S) := iv_h_fr (eat_fr S) (by decide) h
theorem iv_h_mvS {S : mm_S} (i : Int32) (h : iv_h S) : iv_h (mv_S S i) := iv_h_fr (mvS_fr S i) (by decide) h
theorem iv_h_mvg {S : mm_S} (fu : Nat) (i : Int32) (h : iv_h S) : iv_h (mv_go fu S i) := iv_h_fr (mvg_fr fu S i) (by decide) h
theorem iv_h_hr1 {S : mm_S} (h : iv_h S) : iv_h (hr_1 S) := iv_h_come (iv_h_drill (iv_h_1 h))
theorem iv_h_hr {S : mm_S} (h : iv_h S) : iv_h (hr_S S) := by
  have h1 := iv_h_hr1 h
  unfold hr_S hr_2
  split
  · exact iv_h_mvg _ _ (iv_h_eat h1)
  · exact iv_h_mvg _ _ h1
/-! how long they last -/
def tr_go : Nat → mm_S → Int32 → mm_S
  | 0, S, _ => S
  | fu + 1, S, b => if fd_ S 4 ≤ b then S else tr_go fu (wr_ S 61 b (rd_ S 17 b)) (b + 1)
abbrev ld_e (y l : Int32) : Int32 := if l ≤ y then l else y
def ld_S (S : mm_S) (m y l : Int32) : mm_S := wr_ S 61 m (ff_held (rd_ S 61 m - 6 + 2 * ld_e y l) 0 999)
def ld_a (S : mm_S) (m a al : Int32) : Int32 := if al = 0 then 0 else if rd_ S 61 m ≤ a then 0 else 1
def ld_m : Nat → mm_S → Int32 → Int32 → Int32 → Int32 → Int32 → Int32 × Int32 × mm_S
  | 0, S, _, _, l, al, _ => (l, al, S)
  | fu + 1, S, a, y, l, al, m => if fd_ S 4 ≤ m then (l, al, S) else if rd_ S 20 m = 0 then ld_m fu S a y l al (m + 1) else ld_m fu (ld_S S m y l) a y (l - ld_e y l) (ld_a (ld_S S m y l) m a al) (m + 1)
def ld_ms (S : mm_S) (a y l : Int32) : Int32 × Int32 × mm_S := ld_m 121 S a y l 1 0
def ld_d : Nat → mm_S → Int32 → Int32 → Int32 → Int32 → Int32 × mm_S
  | 0, S, _, _, _, _ => (0, S)
  | fu + 1, S, a, y, l, d => if 60 < d then (60, S) else if (ld_ms S a y l).2.1 = 0 then (d - 1, (ld_ms S a y l).2.2) else ld_d fu (ld_ms S a y l).2.2 a y (ld_ms S a y l).1 (d + 1)
def tr_S (S : mm_S) : mm_S := tr_go 121 S 0
def ff_lastsBy (S : mm_S) (a y : Int32) : Int32 × mm_S := ld_d 61 (tr_S S) a y (fd_ (tr_S S) 54) 1
def ff_last (S : mm_S) (s n : Int32) : Int32 × mm_S := if ff_in s 0 999 = 0 then (-1, S) else if ff_in n 0 9 = 0 then (-1, S) else if ff_menBelow S = 0 then (-2, S) else ff_lastsBy S s n
def be_go : Nat → mm_S → Int32 → Int32 → Int32 → Int32 × mm_S
  | 0, S, _, _, _ => (0, S)
  | fu + 1, S, s, b, n => if 10 ≤ n then (b, S) else if (ff_lastsBy S s n).1 ≤ (ff_lastsBy (ff_lastsBy S s n).2 s b).1 then be_go fu (ff_lastsBy (ff_lastsBy S s n).2 s b).2 s b (n + 1) else be_go fu (ff_lastsBy (ff_lastsBy S s n).2 s b).2 s n (n + 1)
def ff_best (S : mm_S) (s : Int32) : Int32 × mm_S := if ff_in s 0 999 = 0 then (-1, S) else if ff_menBelow S = 0 then (-2, S) else be_go 10 S s 0 1
theorem trg_fr (fu : Nat) : ∀ (S : mm_S) (b : Int32), fr_ [61] S (tr_go fu S b) := by
  induction fu with
  | zero => intro S b; exact fr_.rf S
  | succ fu ih =>
    intro S b
    unfold tr_go
    split
    · exact fr_.rf S
    · exact (fr_wr (by decide)).tr (ih _ _)
theorem ldm_fr (fu : Nat) : ∀ (S : mm_S) (a y l al m : Int32), fr_ [61] S (ld_m fu S a y l al m).2.2 := by
  induction fu with
  | zero => intro S a y l al m; exact fr_.rf S
  | succ fu ih =>
    intro S a y l al m
    unfold ld_m
    repeat' split
    all_goals first | exact fr_.rf S | exact ih _ _ _ _ _ _ | exact (fr_wr (by decide)).tr (ih _ _ _ _ _ _)
theorem ldd_fr (fu : Nat) : ∀ (S : mm_S) (a y l d : Int32), fr_ [61] S (ld_d fu S a y l d).2 := by
  induction fu with
  | zero => intro S a y l d; exact fr_.rf S
  | succ fu ih =>
    intro S a y l d
    unfold ld_d
    repeat' split
    all_goals first | exact fr_.rf S | exact ldm_fr _ _ _ _ _ _ _ | exact (ldm_fr _ _ _ _ _ _ _).tr (ih _ _ _ _ _)
theorem lastsBy_fr (S : mm_S) (a y : Int32) : fr_ [61] S (ff_lastsBy S a y).2 := (trg_fr 121 S 0).tr (ldd_fr _ _ _ _ _ _)
/-! tubes -/
def dn_sp (w : Int32) : Int32 := if w ≤ 0 then 0 else if jr_ w 10 = 0 then (if 999 < w / 10 then 0 else 1) else 0
def dn_fr (S : mm_S) (t : Int32) : Int32 := if rd_ S 65 t ≤ fd_ S 1 then fd_ S 1 else rd_ S 65 t
def dn_1 (S : mm_S) (t x : Int32) : mm_S := wr_ S 65 t x
def dn_2 (S : mm_S) (w : Int32) : mm_S := wr_ S 63 (fd_ S 62) w
def dn_3 (S : mm_S) (x : Int32) : mm_S := wr_ S 64 (fd_ S 62) x
def dn_4 (S : mm_S) : mm_S := fw_ S 62 (fd_ S 62 + 1)
def dn_S (S : mm_S) (t w x : Int32) : mm_S := dn_4 (dn_3 (dn_2 (dn_1 S t x) w) x)
def dn_go (S : mm_S) (t w h : Int32) : Int32 × mm_S := if rd_ S 12 t = 0 then (-2, S) else if fd_ S 62 = 40 then (-3, S) else (dn_fr S t + h, dn_S S t w (dn_fr S t + h))
def ff_down (S : mm_S) (t w h : Int32) : Int32 × mm_S :=
  if ff_isBody S t = 0 then (-1, S) else if rd_ S 5 t = 3 then (if ff_in h 1 9 = 0 then (-1, S) else if dn_sp w = 0 then (if ff_in w 11 19 = 0 then (-1, S) else dn_go S t w h) else dn_go S t w h) else (-1, S)
def ff_below (S : mm_S) (s : Int32) : Int32 := if ff_in s 0 9 = 0 then -1 else if s = 0 then fd_ S 54 else rd_ S 66 s
/-! needs -/
def nd_1 (S : mm_S) (w : Int32) : mm_S := wr_ S 68 (fd_ S 67) (w / 100)
def nd_2 (S : mm_S) (w : Int32) : mm_S := wr_ S 69 (fd_ S 67) (jr_ w 100)
def nd_3 (S : mm_S) (b : Int32) : mm_S := wr_ S 70 (fd_ S 67) b
def nd_4 (S : mm_S) : mm_S := fw_ S 67 (fd_ S 67 + 1)
def nd_S (S : mm_S) (w b : Int32) : mm_S := nd_4 (nd_3 (nd_2 (nd_1 S w) w) b)
def ff_need (S : mm_S) (w b : Int32) : Int32 × mm_S :=
  if w < 0 then (-1, S) else if ff_in (w / 100) 1 9 = 0 then (-1, S) else if jr_ w 100 = 0 then (-1, S) else if ff_in b 0 99 = 0 then (-1, S) else if fd_ S 67 = 10 then (-3, S) else (fd_ (nd_S S w b) 67, nd_S S w b)
/-- is k in the set -/
abbrev nb_ (s k : Int32) : Int32 := s >>> (k &&& 31) &&& 1
/-- the set without k -/
abbrev nm_ (s k : Int32) : Int32 := s &&& ((1 : Int32) <<< (k &&& 31) ^^^ -1)
def cn_go : Nat → mm_S → Int32 → Int32 → Int32 → Int32
  | 0, _, _, b, _ => b
  | fu + 1, S, s, b, k => if fd_ S 67 ≤ k then b else cn_go fu S s (b + (if nb_ s k = 0 then rd_ S 68 k else 0)) (k + 1)
def cn_s (S : mm_S) (s : Int32) : Int32 := cn_go 11 S s 0 0
abbrev cn_late (S : mm_S) (k s : Int32) : Int32 := cn_s S s + rd_ S 68 k - rd_ S 70 k
def ff_costNext (S : mm_S) (k s : Int32) : Int32 := if cn_late S k s ≤ 0 then 0 else cn_late S k s * rd_ S 69 k
/-- the needs -/
def iv_N (S : mm_S) : Prop := 0 ≤ (fd_ S 67).toInt ∧ (fd_ S 67).toInt ≤ 10 ∧ ∀ i : Int32, 0 ≤ i.toInt → i.toInt < (fd_ S 67).toInt → 1 ≤ (rd_ S 68 i).toInt ∧ (rd_ S 68 i).toInt ≤ 9 ∧ 0 ≤ (rd_ S 69 i).toInt ∧ (rd_ S 69 i).toInt ≤ 99 ∧ 0 ≤ (rd_ S 70 i).toInt ∧ (rd_ S 70 i).toInt ≤ 99
abbrev on_v (S : mm_S) (s k : Int32) : Int32 := ff_costNext S k s + rd_ S 71 (nm_ s k)
/-- the cheapest of a set: over its needs from k -/
def om_go : Nat → mm_S → Int32 → Int32 → mm_S
  | 0, S, _, _ => S
  | fu + 1, S, s, k => if fd_ S 67 ≤ k then S else if nb_ s k = 0 then om_go fu S s (k + 1) else if rd_ S 71 s ≤ on_v S s k then om_go fu S s (k + 1) else om_go fu (wr_ S 71 s (on_v S s k)) s (k + 1)
def om_S (S : mm_S) (s : Int32) : mm_S := om_go 11 (wr_ S 71 s 2147483647) s 0
def os_go : Nat → mm_S → Int32 → mm_S
  | 0, S, _ => S
  | fu + 1, S, s => if (1 : Int32) <<< (fd_ S 67 &&& 31) ≤ s then S else os_go fu (om_S S s) (s + 1)
/-- the need that comes next -/
def ow_go : Nat → mm_S → Int32 → Int32 → Int32
  | 0, _, _, k => k
  | fu + 1, S, l, k => if nb_ l k = 0 then ow_go fu S l (k + 1) else if on_v S l k = rd_ S 71 l then k else ow_go fu S l (k + 1)
def ow_S (S : mm_S) (l : Int32) : Int32 := ow_go 11 S l 0
def or_go : Nat → mm_S → Int32 → Int32 → mm_S
  | 0, S, _, _ => S
  | fu + 1, S, l, i => if fd_ S 67 ≤ i then fw_ (fw_ S 72 (fd_ S 67)) 67 0 else or_go fu (wr_ S 73 i (ow_S S l)) (nm_ l (ow_S S l)) (i + 1)
def or_full (S : mm_S) : Int32 := (1 : Int32) <<< (fd_ S 67 &&& 31) - 1
def os_S (S : mm_S) : mm_S := os_go 1025 S 1
def or_S (S : mm_S) : mm_S := or_go 11 (os_S S) (or_full (os_S S)) 0
def ff_order (S : mm_S) : Int32 × mm_S := if fd_ S 67 = 0 then (-1, S) else (rd_ (os_S S) 71 (or_full (os_S S)), or_S S)
def ff_ordered (S : mm_S) (i : Int32) : Int32 := if ff_in i 0 (fd_ S 72 - 1) = 0 then -1 else rd_ S 73 i
