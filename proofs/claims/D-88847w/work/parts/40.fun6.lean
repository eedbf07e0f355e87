/-! THE REFERENCE's METHODS AS FUNCTIONS: 6 (watches, aims, races, the capsule, acts, shelves) -/
def wf_go : Nat → mm_S → Int32 → Int32 → Int32 → Int32 × mm_S
  | 0, S, _, _, _ => (0, S)
  | fu + 1, S, p, l, s => if 9 ≤ s then (l, fw_ S 74 p) else wf_go fu (wr_ S 75 s (-2)) p l (s + 1)
def wf_S (S : mm_S) (p l : Int32) : Int32 × mm_S := wf_go 10 S p l l
def wa_go : Nat → mm_S → Int32 → Int32 → Int32 → Int32 → Int32 → Int32 × mm_S
  | 0, S, _, _, _, _, _ => (0, S)
  | fu + 1, S, p, q, l, n, m => if fd_ S 4 ≤ m then wf_S S p l else if 9 ≤ n then wf_S S p l else if rd_ S 20 m = 0 then wa_go fu S p q l n (m + 1) else if q < rd_ S 19 m then wa_go fu S p q l (n + 1) (m + 1) else
      if l = 3 * p then wa_go fu S p q l (n + 1) (m + 1) else wa_go fu (wr_ S 75 l m) p q (l + 1) (n + 1) (m + 1)
def ff_watch (S : mm_S) (p q : Int32) : Int32 × mm_S := if ff_in p 1 3 = 0 then (-1, S) else if ff_in q 0 9 = 0 then (-1, S) else wa_go 121 S p q 0 0 0
def ff_watched (S : mm_S) (s p : Int32) : Int32 := if ff_in s 0 2 = 0 then -1 else if ff_in p 0 (fd_ S 74 - 1) = 0 then -1 else rd_ S 75 (fd_ S 74 * s + p)
theorem ix_9 {w s p : Int32} (w1 : w.toInt ≤ 3) (s0 : 0 ≤ s.toInt) (s1 : s.toInt ≤ 2) (p0 : 0 ≤ p.toInt) (p1 : p.toInt < w.toInt) : vp_in (w * s + p) 9 := by
  have a : 0 ≤ w.toInt * s.toInt := Int.mul_nonneg (by omega) s0
  have b : w.toInt * s.toInt ≤ w.toInt * 2 := Int.mul_le_mul_of_nonneg_left s1 (by omega)
  have e1 := ww_mul w s (by omega) (by omega)
  have e2 := ww_add (w * s) p (by omega) (by omega)
  exact ww_in (by omega) (by omega)
def am_S (S : mm_S) (v : Int32) : mm_S := fw_ (wr_ S 77 (fd_ S 76) v) 76 (fd_ (wr_ S 77 (fd_ S 76) v) 76 + 1)
def ff_aim (S : mm_S) (c v : Int32) : Int32 × mm_S := if ff_in c 0 31 = 0 then (-1, S) else if ff_in v 0 9 = 0 then (-1, S) else if fd_ S 76 = 6 then (-3, S) else (fd_ (am_S S v) 76, am_S S v)
def ff_rock (S : mm_S) (r i v : Int32) : Int32 × mm_S := if ff_in r 0 3 = 0 then (-1, S) else if ff_in i 0 5 = 0 then (-1, S) else if ff_in v 1 9 = 0 then (-1, S) else (rd_ S 78 (6 * r + i), wr_ S 78 (6 * r + i) v)
theorem ix_6 {r i : Int32} (r0 : 0 ≤ r.toInt) (r1 : r.toInt ≤ 3) (i0 : 0 ≤ i.toInt) (i1 : i.toInt ≤ 5) : vp_in (6 * r + i) 24 := by
  have e6 : (6 : Int32).toInt = 6 := by decide
  have e1 : (6 * r).toInt = 6 * r.toInt := by rw [ww_mul, e6] <;> rw [e6] <;> omega
  have e2 := ww_add (6 * r) i (by omega) (by omega)
  exact ww_in (by omega) (by omega)
/-- the aims -/
def iv_A (S : mm_S) : Prop := 0 ≤ (fd_ S 76).toInt ∧ (fd_ S 76).toInt ≤ 6
def ma_v (S : mm_S) (i m y k : Int32) : Int32 := (rd_ S 77 i + 1) * y * rd_ S 26 m * rd_ S 78 (6 * k + i)
def ma_go : Nat → mm_S → Int32 → Int32 → Int32 → Int32 → Int32 → Int32 → Int32
  | 0, _, _, _, _, _, w, _ => w
  | fu + 1, S, i, m, r, y, w, k => if r ≤ k then w else ma_go fu S i m r y (if ma_v S i m y k ≤ w then w else ma_v S i m y k) (k + 1)
def ff_minutesAt (S : mm_S) (i m r y : Int32) : Int32 := ma_go 5 S i m r y 0 0
/-- the best of two machines at two places -/
def ai_w (S : mm_S) (r y k q o : Int32) : Int32 := if k = 2 then ff_minutesAt S q o r y else 0
def ai_v (S : mm_S) (r y k p q m o : Int32) : Int32 := if ai_w S r y k q o ≤ ff_minutesAt S p m r y then ff_minutesAt S p m r y else ai_w S r y k q o
def ai_S (S : mm_S) (p q m o : Int32) : mm_S := wr_ (wr_ (wr_ (wr_ S 80 0 p) 81 0 m) 80 1 q) 81 1 o
def ao_go : Nat → mm_S → Int32 → Int32 → Int32 → Int32 → Int32 → Int32 → Int32 → Int32 → Int32 × mm_S
  | 0, S, _, _, _, _, _, _, l, _ => (l, S)
  | fu + 1, S, r, y, k, p, q, m, l, o => if 3 ≤ o then (l, S) else if ai_v S r y k p q m o < l then ao_go fu (ai_S S p q m o) r y k p q m (ai_v S r y k p q m o) (o + 1) else ao_go fu S r y k p q m l (o + 1)
def ao_s (S : mm_S) (r y k p q m l : Int32) : Int32 × mm_S := ao_go 5 S r y k p q m l (if k = 2 then m + 1 else 2)
def an_go : Nat → mm_S → Int32 → Int32 → Int32 → Int32 → Int32 → Int32 → Int32 → Int32 × mm_S
  | 0, S, _, _, _, _, _, l, _ => (l, S)
  | fu + 1, S, r, y, k, p, q, l, m => if 3 ≤ m then (l, S) else an_go fu (ao_s S r y k p q m l).2 r y k p q (ao_s S r y k p q m l).1 (m + 1)
def an_s (S : mm_S) (r y k p q l : Int32) : Int32 × mm_S := an_go 4 S r y k p q l 0
def aq_go : Nat → mm_S → Int32 → Int32 → Int32 → Int32 → Int32 → Int32 → Int32 × mm_S
  | 0, S, _, _, _, _, l, _ => (l, S)
  | fu + 1, S, r, y, k, p, l, q => if (if k = 2 then fd_ S 76 else 1) ≤ q then (l, S) else if k = 2 then (if q = p then aq_go fu S r y k p l (q + 1) else aq_go fu (an_s S r y k p q l).2 r y k p (an_s S r y k p q l).1 (q + 1))
      else aq_go fu (an_s S r y k p q l).2 r y k p (an_s S r y k p q l).1 (q + 1)
def aq_s (S : mm_S) (r y k p l : Int32) : Int32 × mm_S := aq_go 7 S r y k p l 0
def ap_go : Nat → mm_S → Int32 → Int32 → Int32 → Int32 → Int32 → Int32 × mm_S
  | 0, S, _, _, _, l, _ => (l, S)
  | fu + 1, S, r, y, k, l, p => if fd_ S 76 ≤ p then (l, fw_ (fw_ S 79 k) 76 0) else ap_go fu (aq_s S r y k p l).2 r y k (aq_s S r y k p l).1 (p + 1)
def ap_s (S : mm_S) (r y k : Int32) : Int32 × mm_S := ap_go 7 S r y k 2147483647 0
def ff_aimed (S : mm_S) (r y k : Int32) : Int32 × mm_S :=
  if ff_in r 1 4 = 0 then (-1, S) else if ff_in y 1 60 = 0 then (-1, S) else if ff_in k 1 2 = 0 then (-1, S) else if fd_ S 76 = 0 then (-1, S) else if k = 2 then (if 2 ≤ fd_ S 76 then ap_s S r y k else (-2, S)) else ap_s S r y k
def ff_aimedAt (S : mm_S) (i w : Int32) : Int32 := if ff_in i 0 (fd_ S 79 - 1) = 0 then -1 else if ff_in w 0 1 = 0 then -1 else if w = 0 then rd_ S 80 i else rd_ S 81 i
def ra_m (S : mm_S) (m y k : Int32) : Int32 := (y - rd_ S 10 (rd_ S 27 m)) * rd_ S 26 m * k - rd_ S 11 (rd_ S 27 m)
def ra_h (x : Int32) : Int32 := if 60 < x then (x + 59) / 60 else 1
def ra_f (S : mm_S) (m : Int32) : Int32 := if rd_ S 28 m ≤ fd_ S 1 then fd_ S 1 else rd_ S 28 m
def ff_race (S : mm_S) (m y k : Int32) : Int32 :=
  if ff_isMachine m = 0 then -1 else if ff_in y 1 60 = 0 then -1 else if ff_in k 1 9 = 0 then -1 else if rd_ S 27 m < 0 then -2 else if 0 < rd_ S 12 (rd_ S 27 m) then -2 else if rd_ S 10 (rd_ S 27 m) < y then ff_held (ra_f S m + ra_h (ra_m S m y k)) 0 9999 else -2
/-! the capsule -/
def ci_S (S : mm_S) (p : Int32) : mm_S := wr_ (wr_ S 84 p (rd_ S 84 (p - 1))) 85 p (rd_ (wr_ S 84 p (rd_ S 84 (p - 1))) 85 (p - 1))
def ci_go : Nat → mm_S → Int32 → Int32 → Int32 × mm_S
  | 0, S, _, p => (p, S)
  | fu + 1, S, v, p => if p ≤ 0 then (p, S) else if v ≤ rd_ S 85 (p - 1) then (p, S) else ci_go fu (ci_S S p) v (p + -1)
def ci_s (S : mm_S) (v n : Int32) : Int32 × mm_S := ci_go 122 S v n
abbrev cp_t (S : mm_S) (m : Int32) : Int32 × mm_S := ff_saysNow S 1 m 0
abbrev cp_i (S : mm_S) (n m : Int32) : Int32 × mm_S := ci_s (cp_t S m).2 (cp_t S m).1 n
def cp_S (S : mm_S) (n m : Int32) : mm_S := wr_ (wr_ (cp_i S n m).2 84 (cp_i S n m).1 m) 85 (cp_i S n m).1 (cp_t S m).1
def cp_go : Nat → mm_S → Int32 → Int32 → Int32 × mm_S
  | 0, S, n, _ => (n, S)
  | fu + 1, S, n, m => if fd_ S 4 ≤ m then (n, S) else if rd_ S 20 m = 0 then cp_go fu S n (m + 1) else cp_go fu (cp_S S n m) (n + 1) (m + 1)
def cp_s (S : mm_S) : Int32 × mm_S := cp_go 121 S 0 0
def ch_go : Nat → mm_S → Int32 → Int32 → Int32 → mm_S
  | 0, S, _, _, _ => S
  | fu + 1, S, s, n, i => if n ≤ i then S else ch_go fu (wr_ S 86 i (fd_ S 1 + (i + 1) * (1 + rd_ S 10 s / 20))) s n (i + 1)
def ch_s (S : mm_S) (s n : Int32) : mm_S := ch_go 121 S s n 0
def cf_S (S : mm_S) (n : Int32) : mm_S := fw_ (fw_ S 82 n) 83 (fd_ (fw_ S 82 n) 1)
def ca_S (S : mm_S) (s : Int32) : mm_S := cf_S (ch_s (cp_s S).2 s (cp_s S).1) (cp_s S).1
def cc_fin (S : mm_S) (s : Int32) : Int32 × mm_S := if rd_ S 12 s = 0 then (-2, S) else if ff_menBelow S = 0 then (-2, S) else (rd_ (ca_S S s) 86 ((cp_s S).1 - 1), ca_S S s)
def ff_capsule (S : mm_S) (s : Int32) : Int32 × mm_S := if ff_isBody S s = 0 then (-1, S) else if rd_ S 5 s = 4 then cc_fin S s else if rd_ S 5 s = 5 then cc_fin S s else (-1, S)
def ff_up (S : mm_S) (i w : Int32) : Int32 := if ff_in i 0 (fd_ S 82 - 1) = 0 then -1 else if ff_in w 0 1 = 0 then -1 else if w = 0 then rd_ S 84 i else rd_ S 86 i
def rs_go : Nat → mm_S → Int32 → Int32 → Int32 → Int32 × mm_S
  | 0, S, _, u, _ => (u, S)
  | fu + 1, S, n, u, i => if fd_ S 82 ≤ i then (u, S) else if fd_ S 83 + n < rd_ S 86 i then rs_go fu S n u (i + 1) else if rd_ S 20 (rd_ S 84 i) = 0 then rs_go fu S n u (i + 1) else rs_go fu (wr_ S 20 (rd_ S 84 i) 0) n (u + 1) (i + 1)
def ff_raise (S : mm_S) (n : Int32) : Int32 × mm_S := if ff_in n 0 199 = 0 then (-1, S) else if 0 ≤ fd_ S 82 then rs_go 121 S n 0 0 else (-2, S)
/-- who goes up -/
def iv_U (S : mm_S) : Prop := -1 ≤ (fd_ S 82).toInt ∧ (fd_ S 82).toInt ≤ 120 ∧ ∀ i : Int32, 0 ≤ i.toInt → i.toInt < (fd_ S 82).toInt → 0 ≤ (rd_ S 84 i).toInt ∧ (rd_ S 84 i).toInt < 120
theorem iv_U_of {S T : mm_S} (h1 : T 82 = S 82) (h2 : T 84 = S 84) (h : iv_U S) : iv_U T := by
  unfold iv_U
  rw [fd_of h1]
  exact ⟨h.1, h.2.1, fun i i0 i1 => by rw [rd_of h2]; exact h.2.2 i i0 i1⟩
theorem ciS_fr (S : mm_S) (p : Int32) : fr_ [84, 85] S (ci_S S p) := ((fr_.rf S).wr (by decide)).wr (by decide)
theorem cig_fr (fu : Nat) : ∀ (S : mm_S) (v p : Int32), fr_ [84, 85] S (ci_go fu S v p).2 := by
  induction fu with
  | zero => intro S v p; exact fr_.rf S
  | succ fu ih =>
    intro S v p
    unfold ci_go
    repeat' split
    all_goals first | exact fr_.rf S | exact (ciS_fr S p).tr (ih _ _ _)
theorem cig_t (fu : Nat) : ∀ (S : mm_S) (v p : Int32), 0 ≤ p.toInt → p.toInt ≤ 1000 → 0 ≤ (ci_go fu S v p).1.toInt ∧ (ci_go fu S v p).1.toInt ≤ p.toInt := by
  induction fu with
  | zero => intro S v p p0 _; exact ⟨p0, Int.le_refl _⟩
  | succ fu ih =>
    intro S v p p0 p1
    unfold ci_go
    split
    · exact ⟨p0, Int.le_refl _⟩
    · rename_i q
      have q1 := ww_nle q
      rw [ww_z0] at q1
      have e : (p + -1).toInt = p.toInt - 1 := ww_dec (by omega)
      split
      · exact ⟨p0, Int.le_refl _⟩
      · have r := ih (ci_S S p) v (p + -1) (by omega) (by omega)
        omega
theorem cpS_fr (S : mm_S) (n m : Int32) : fr_ [52, 53, 84, 85] S (cp_S S n m) := by
  unfold cp_S
  exact ((((sayn_fr' S 1 m 0).le' (by decide)).tr ((cig_fr _ _ _ _).le' (by decide))).wr (by decide)).wr (by decide)
theorem cpg_fr (fu : Nat) : ∀ (S : mm_S) (n m : Int32), fr_ [52, 53, 84, 85] S (cp_go fu S n m).2 := by
  induction fu with
  | zero => intro S n m; exact fr_.rf S
  | succ fu ih =>
    intro S n m
    unfold cp_go
    repeat' split
    all_goals first | exact fr_.rf S | exact ih _ _ _ | exact (cpS_fr S n m).tr (ih _ _ _)
theorem chg_fr (fu : Nat) : ∀ (S : mm_S) (s n i : Int32), fr_ [86] S (ch_go fu S s n i) := by
  induction fu with
  | zero => intro S s n i; exact fr_.rf S
  | succ fu ih =>
    intro S s n i
    unfold ch_go
    split
    · exact fr_.rf S
    · exact (fr_wr (by decide)).tr (ih _ _ _ _)
/-! acts -/
def ff_ran (S : mm_S) (b : Int32) : mm_S := if 24 ≤ fd_ S 87 then fw_ S 87 (fd_ S 87 + 1) else fw_ (wr_ S 88 (fd_ S 87) b) 87 (fd_ (wr_ S 88 (fd_ S 87) b) 87 + 1)
def ff_plainBores (S : mm_S) (b x : Int32) : Int32 × mm_S := (x + b, ff_ran S 1)
def ff_wayBores (S : mm_S) (b x : Int32) : Int32 × mm_S := ((ff_plainBores (ff_ran S 20) b x).1 * 2, (ff_plainBores (ff_ran S 20) b x).2)
def ff_shaftBores (S : mm_S) (b x : Int32) : Int32 × mm_S := ff_wayBores (ff_ran S 50) b (x + 1)
def ff_bores (S : mm_S) (b x : Int32) : Int32 × mm_S :=
  if rd_ S 5 b = 5 then ((ff_shaftBores (ff_ran S 61) b x).1 ^^^ 7, (ff_shaftBores (ff_ran S 61) b x).2) else if rd_ S 5 b = 4 then ff_shaftBores S b x else if ff_isUnder (rd_ S 5 b) 1 = 0 then ff_plainBores S b x else ff_wayBores S b x
def ff_plainCarries (S : mm_S) (b x : Int32) : Int32 × mm_S := ((ff_bores (ff_ran S 10) b x).1 - 1, (ff_bores (ff_ran S 10) b x).2)
def ff_carries (S : mm_S) (b x : Int32) : Int32 × mm_S :=
  if ff_isUnder (rd_ S 5 b) 2 = 0 then (if rd_ S 5 b = 7 then ((ff_plainCarries (ff_ran S 80) b x).1 - rd_ (ff_plainCarries (ff_ran S 80) b x).2 17 b, (ff_plainCarries (ff_ran S 80) b x).2) else ff_plainCarries S b x)
  else ((ff_plainCarries (ff_ran S 30) b x).1 + rd_ (ff_plainCarries (ff_ran S 30) b x).2 7 b, (ff_plainCarries (ff_ran S 30) b x).2)
def ff_plainHolds (S : mm_S) (b x : Int32) : Int32 × mm_S := (x ^^^ b, ff_ran S 11)
def ff_holdsBy (S : mm_S) (b x : Int32) : Int32 × mm_S :=
  if rd_ S 5 b = 3 then ((ff_plainHolds (ff_ran S 40) b x).1 - (ff_carries (ff_plainHolds (ff_ran S 40) b x).2 b 1).1, (ff_carries (ff_plainHolds (ff_ran S 40) b x).2 b 1).2)
  else if rd_ S 5 b = 5 then (-(ff_plainHolds (ff_ran S 60) b x).1, (ff_plainHolds (ff_ran S 60) b x).2)
  else if rd_ S 5 b = 6 then ((ff_plainHolds (ff_ran S 70) b x).1 + (ff_plainCarries (ff_plainHolds (ff_ran S 70) b x).2 b x).1, (ff_plainCarries (ff_plainHolds (ff_ran S 70) b x).2 b x).2)
  else ff_plainHolds S b x
def ff_plainTells (S : mm_S) (b x : Int32) : Int32 × mm_S := ((ff_carries (ff_ran S 2) b x).1 + (ff_holdsBy (ff_carries (ff_ran S 2) b x).2 b 1).1, (ff_holdsBy (ff_carries (ff_ran S 2) b x).2 b 1).2)
def ff_tells (S : mm_S) (b x : Int32) : Int32 × mm_S := if ff_isUnder (rd_ S 5 b) 4 = 0 then ff_plainTells S b x else ((ff_plainTells (ff_ran S 51) b x).1 * 3, (ff_plainTells (ff_ran S 51) b x).2)
def ff_act (S : mm_S) (b w x : Int32) : Int32 × mm_S :=
  if ff_isBody (fw_ S 87 0) b = 0 then (0, fw_ S 87 0) else if ff_in w 0 3 = 0 then (0, fw_ S 87 0) else if w = 0 then ff_bores (fw_ S 87 0) b x else if w = 1 then ff_carries (fw_ S 87 0) b x else if w = 2 then ff_holdsBy (fw_ S 87 0) b x else ff_tells (fw_ S 87 0) b x
def ff_trace (S : mm_S) (i : Int32) : Int32 := if i < 0 then -1 else if fd_ S 87 ≤ i then -1 else if 24 ≤ i then -1 else rd_ S 88 i
/-- the traces stay within a number of steps -/
def tr_ (c : Int) (S T : mm_S) : Prop := fr_ [87, 88] S T ∧ (fd_ S 87).toInt ≤ (fd_ T 87).toInt ∧ (fd_ T 87).toInt ≤ (fd_ S 87).toInt + c
theorem tr_.tr {c d : Int} {S T U : mm_S} (h1 : tr_ c S T) (h2 : tr_ d T U) : tr_ (c + d) S U := ⟨h1.1.tr h2.1, Int.le_trans h1.2.1 h2.2.1, by have := h1.2.2; have := h2.2.2; omega⟩
theorem tr_.le {c d : Int} {S T : mm_S} (h : tr_ c S T) (hc : c ≤ d) : tr_ d S T := ⟨h.1, h.2.1, by have := h.2.2; omega⟩
theorem ran_tr {S : mm_S} (b : Int32) (h : (fd_ S 87).toInt < 1000) : tr_ 1 S (ff_ran S b) := by
  have e : (fd_ S 87 + 1).toInt = (fd_ S 87).toInt + 1 := ww_inc' (by omega)
  unfold ff_ran
  split
  · exact ⟨fr_fw (by decide), by rw [fd_fw]; omega, by rw [fd_fw]; omega⟩
  · exact ⟨(fr_wr (by decide)).tr (fr_fw (by decide)), by rw [fd_fw, fd_wn (by decide)]; omega, by rw [fd_fw, fd_wn (by decide)]; omega⟩
theorem wayB_tr {S : mm_S} (b x : Int32) (h : (fd_ S 87).toInt < 999) : tr_ 2 S (ff_wayBores S b x).2 := by
  have r := ran_tr (S := S) 20 (by omega)
  have r2 := r.2.2
  exact r.tr (ran_tr 1 (by omega))
theorem shaftB_tr {S : mm_S} (b x : Int32) (h : (fd_ S 87).toInt < 998) : tr_ 3 S (ff_shaftBores S b x).2 := by
  have r := ran_tr (S := S) 50 (by omega)
  have r2 := r.2.2
  exact r.tr (wayB_tr b (x + 1) (by omega))
theorem bores_tr {S : mm_S} (b x : Int32) (h : (fd_ S 87).toInt < 997) : tr_ 4 S (ff_bores S b x).2 := by
  have r := ran_tr (S := S) 61 (by omega)
  have r2 := r.2.2
  unfold ff_bores
  repeat' split
  all_goals try dsimp only
  · exact r.tr (shaftB_tr b x (by omega))
  · exact (shaftB_tr b x (by omega)).le (by omega)
  · exact (ran_tr 1 (by omega)).le (by omega)
  · exact (wayB_tr b x (by omega)).le (by omega)
theorem plainC_tr {S : mm_S} (b x : Int32) (h : (fd_ S 87).toInt < 996) : tr_ 5 S (ff_plainCarries S b x).2 := by
  have r := ran_tr (S := S) 10 (by omega)
  have r2 := r.2.2
  have z := r.tr (bores_tr b x (by omega))
  unfold ff_plainCarries
  dsimp only
  exact z
theorem carries_tr {S : mm_S} (b x : Int32) (h : (fd_ S 87).toInt < 995) : tr_ 6 S (ff_carries S b x).2 := by
  have r := ran_tr (S := S) 30 (by omega)
  have r2 := r.2.2
  have q := ran_tr (S := S) 80 (by omega)
  have q2 := q.2.2
  unfold ff_carries
  repeat' split
  all_goals try dsimp only
  · exact q.tr (plainC_tr b x (by omega))
  · exact (plainC_tr b x (by omega)).le (by omega)
  · exact r.tr (plainC_tr b x (by omega))
theorem holdsBy_tr {S : mm_S} (b x : Int32) (h : (fd_ S 87).toInt < 990) : tr_ 8 S (ff_holdsBy S b x).2 := by
  have r := ran_tr (S := S) 40 (by omega)
  have r2 := r.2.2
  have q := ran_tr (S := S) 60 (by omega)
  have q2 := q.2.2
  have u := ran_tr (S := S) 70 (by omega)
  have u2 := u.2.2
  have r3 := ran_tr (S := ff_ran S 40) 11 (by omega)
  have r4 := r3.2.2
  have u3 := ran_tr (S := ff_ran S 70) 11 (by omega)
  have u4 := u3.2.2
  unfold ff_holdsBy ff_plainHolds
  repeat' split
  all_goals try dsimp only
  · have z := (r.tr r3).tr (carries_tr (S := ff_ran (ff_ran S 40) 11) b 1 (by omega))
    exact z
  · exact (q.tr (ran_tr 11 (by omega))).le (by omega)
  · have z := (u.tr u3).tr (plainC_tr (S := ff_ran (ff_ran S 70) 11) b x (by omega))
    exact z.le (by omega)
  · exact (ran_tr 11 (by omega)).le (by omega)
theorem plainT_tr {S : mm_S} (b x : Int32) (h : (fd_ S 87).toInt < 980) : tr_ 15 S (ff_plainTells S b x).2 := by
  have r := ran_tr (S := S) 2 (by omega)
  have r2 := r.2.2
  have r3 := carries_tr (S := ff_ran S 2) b x (by omega)
  have r4 := r3.2.2
  have z := (r.tr r3).tr (holdsBy_tr b 1 (by omega))
  unfold ff_plainTells
  dsimp only
  exact z
/-! shelves -/
def ff_cnt1 : Nat → mm_S → Int32 → Int32 → Int32
  | 0, _, n, _ => n
  | fu + 1, S, n, b => if fd_ S 4 ≤ b then n else ff_cnt1 fu S (n + (if ff_isHole S b = 0 then 0 else 1)) (b + 1)
def ff_cnt2 : Nat → mm_S → Int32 → Int32 → Int32
  | 0, _, n, _ => n
  | fu + 1, S, n, b => if fd_ S 4 ≤ b then n else ff_cnt2 fu S (n + (if rd_ S 12 b ≤ 0 then 0 else 1)) (b + 1)
def ff_cnt8 : Nat → mm_S → Int32 → Int32 → Int32
  | 0, _, n, _ => n
  | fu + 1, S, n, b => if fd_ S 4 ≤ b then n else ff_cnt8 fu S (n + rd_ S 10 b) (b + 1)
def ff_c1 (S : mm_S) : Int32 := ff_cnt1 121 S 0 0
def ff_c2 (S : mm_S) : Int32 := ff_cnt2 121 S 0 0
def ff_c8 (S : mm_S) : Int32 := ff_cnt8 121 S 0 0
def ff_count (S : mm_S) (w : Int32) : Int32 := if w = 0 then fd_ S 4 else if w = 1 then ff_c1 S else if w = 2 then ff_c2 S else if w = 3 then ff_menBelow S else if w = 4 then fd_ S 1 else if w = 5 then fd_ S 30 else if w = 6 then fd_ S 38 else if w = 7 then fd_ S 37 else if w = 8 then ff_c8 S else if w = 9 then fd_ S 55 else if w = 10 then fd_ S 62 else if w = 11 then fd_ S 87 else -1
def ff_keep (S : mm_S) (s b : Int32) : Int32 × mm_S := if ff_isShelf s = 0 then (-1, S) else if b = -1 then (1, wr_ S 89 s b) else if ff_isBody S b = 0 then (-1, S) else (1, wr_ S 89 s b)
def rw_go : Nat → mm_S → mm_E → Int32 → Int32 → Int32 × mm_S × mm_E
  | 0, S, E, _, _ => (0, S, E)
  | fu + 1, S, E, s, k => if 60 * s + 60 ≤ k then (1, S, E) else rw_go fu (wr_ S 92 k 0) (we_ E 91 k 0) s (k + 1)
def rw_s (S : mm_S) (E : mm_E) (s : Int32) : Int32 × mm_S × mm_E := rw_go 61 S E s (60 * s)
def ff_row (S : mm_S) (E : mm_E) (s t n : Int32) : Int32 × mm_S × mm_E :=
  if ff_isShelf s = 0 then (-1, S, E) else if ff_in t 0 4 = 0 then (-1, S, E) else if n ≤ 60 then (if 0 ≤ n then rw_s (wr_ (wr_ S 89 s (-2 - t)) 90 s n) E s else (-14, S, E)) else (-1, S, E)
def ff_whyNoPlace (S : mm_S) (s i : Int32) : Int32 := if ff_isShelf s = 0 then -1 else if rd_ S 89 s = -1 then -11 else if rd_ S 89 s < 0 then (if ff_in i 0 (rd_ S 90 s - 1) = 0 then -13 else 0) else -12
def pt_v (t : Int32) (v : Int64) : Int64 := if t = 0 then v.toInt32.toInt8.toInt32.toInt64 else if t = 1 then v &&& 65535 else if t = 2 then v.toInt32.toInt64 else v
def pt_fin (S : mm_S) (E : mm_E) (s i : Int32) (v : Int64) : Int32 × mm_S × mm_E :=
  if 0 ≤ ff_whyNoPlace S s i then (1, wr_ S 92 (60 * s + i) 0, we_ E 91 (60 * s + i) (pt_v (-2 - rd_ S 89 s) v)) else (ff_whyNoPlace S s i, S, E)
def ff_put (S : mm_S) (E : mm_E) (s i : Int32) (v : Int64) : Int32 × mm_S × mm_E :=
  if ff_isShelf s = 0 then (-1, S, E) else if ff_isReals S s = 0 then pt_fin S E s i v else if lg_cmp v (-9999) < 0 then (-1, S, E) else if lg_cmp v 9999 ≤ 0 then pt_fin S E s i v else (-1, S, E)
def ff_blank (S : mm_S) (s i : Int32) : Int32 × mm_S := if ff_isShelf s = 0 then (-1, S) else if rd_ S 89 s = -1 then (-11, S) else if ff_isReals S s = 0 then (-12, S) else if ff_in i 0 (rd_ S 90 s - 1) = 0 then (-13, S) else (1, wr_ S 92 (60 * s + i) 1)
def ff_element (S : mm_S) (E : mm_E) (s i : Int32) : Int64 := if 0 ≤ ff_whyNoPlace S s i then (if rd_ S 92 (60 * s + i) = 0 then re_ E 91 (60 * s + i) else 9223372036854775807) else -9223372036854775808
def sf_1 (S : mm_S) (s i k : Int32) : mm_S := wr_ S 94 k (rd_ S 92 (60 * s + i + k))
def sf_1e (E : mm_E) (s i k : Int32) : mm_E := we_ E 93 k (re_ E 91 (60 * s + i + k))
def sa_go : Nat → mm_S → mm_E → Int32 → Int32 → Int32 → Int32 → mm_S × mm_E
  | 0, S, E, _, _, _, _ => (S, E)
  | fu + 1, S, E, s, i, n, k => if n ≤ k then (S, E) else sa_go fu (sf_1 S s i k) (sf_1e E s i k) s i n (k + 1)
def sa_s (S : mm_S) (E : mm_E) (s i n : Int32) : mm_S × mm_E := sa_go 61 S E s i n 0
def sf_2 (S : mm_S) (o j k : Int32) : mm_S := wr_ S 92 (60 * o + j + k) (rd_ S 94 k)
def sf_2e (E : mm_E) (o j k : Int32) : mm_E := we_ E 91 (60 * o + j + k) (re_ E 93 k)
def sb_go : Nat → mm_S → mm_E → Int32 → Int32 → Int32 → Int32 → Int32 × mm_S × mm_E
  | 0, S, E, _, _, _, _ => (0, S, E)
  | fu + 1, S, E, o, j, n, k => if n ≤ k then (n, S, E) else sb_go fu (sf_2 S o j k) (sf_2e E o j k) o j n (k + 1)
def sb_s (P : mm_S × mm_E) (o j n : Int32) : Int32 × mm_S × mm_E := sb_go 61 P.1 P.2 o j n 0
def ff_shift (S : mm_S) (E : mm_E) (s i o j n : Int32) : Int32 × mm_S × mm_E :=
  if ff_isShelf s = 0 then (-1, S, E) else if ff_isShelf o = 0 then (-1, S, E) else if rd_ S 89 s = -1 then (-11, S, E) else if rd_ S 89 o = -1 then (-11, S, E) else if 0 ≤ rd_ S 89 s then (-12, S, E) else if rd_ S 89 s = rd_ S 89 o then
    (if n < 0 then (-13, S, E) else if i < 0 then (-13, S, E) else if j < 0 then (-13, S, E) else if rd_ S 90 s - n < i then (-13, S, E) else if j ≤ rd_ S 90 o - n then sb_s (sa_s S E s i n) o j n else (-13, S, E)) else (-12, S, E)
def ff_taken (S : mm_S) (s k : Int32) : Int32 := if ff_isShelf s = 0 then -1 else if ff_in k 0 7 = 0 then -1 else if rd_ S 89 s = -1 then -11 else if rd_ S 89 s < 0 then -12 else if ff_isUnder (rd_ S 5 (rd_ S 89 s)) k = 0 then -12 else rd_ S 5 (rd_ S 89 s)
/-- what the shelves hold -/
def iv_S (S : mm_S) : Prop := ∀ s : Int32, 0 ≤ s.toInt → s.toInt < 6 → -6 ≤ (rd_ S 89 s).toInt ∧ (rd_ S 89 s).toInt < (fd_ S 4).toInt
theorem ix_360t {s i : Int32} (s0 : 0 ≤ s.toInt) (s1 : s.toInt ≤ 5) (i0 : 0 ≤ i.toInt) (i1 : i.toInt ≤ 60) : (60 * s + i).toInt = 60 * s.toInt + i.toInt := by
  have e6 : (60 : Int32).toInt = 60 := by decide
  have e1 : (60 * s).toInt = 60 * s.toInt := by rw [ww_mul, e6] <;> rw [e6] <;> omega
  have e2 := ww_add (60 * s) i (by omega) (by omega)
  omega
theorem ix_360 {s i : Int32} (s0 : 0 ≤ s.toInt) (s1 : s.toInt ≤ 5) (i0 : 0 ≤ i.toInt) (i1 : i.toInt < 60) : vp_in (60 * s + i) 360 := by
  have e := ix_360t s0 s1 i0 (by omega)
  exact ww_in (by omega) (by omega)
theorem ix_360k {s i k : Int32} (s0 : 0 ≤ s.toInt) (s1 : s.toInt ≤ 5) (i0 : 0 ≤ i.toInt) (k0 : 0 ≤ k.toInt) (i1 : i.toInt + k.toInt < 60) : vp_in (60 * s + i + k) 360 := by
  have e := ix_360t s0 s1 i0 (by omega)
  have e2 := ww_add (60 * s + i) k (by omega) (by omega)
  exact ww_in (by omega) (by omega)
theorem ff_whyNo_t {S : mm_S} {s i : Int32} (hZ : iv_Z S) (h : 0 ≤ ff_whyNoPlace S s i) : 0 ≤ s.toInt ∧ s.toInt ≤ 5 ∧ 0 ≤ i.toInt ∧ i.toInt < (rd_ S 90 s).toInt ∧ i.toInt < 60 := by
  unfold ff_whyNoPlace at h
  split at h
  · exact absurd h (by decide)
  · rename_i h1
    obtain ⟨s0, s1⟩ := ff_isShelf_t h1
    obtain ⟨z0, z1⟩ := hZ s s0 s1
    split at h
    · exact absurd h (by decide)
    · split at h
      · split at h
        · exact absurd h (by decide)
        · rename_i q
          obtain ⟨i0, i1⟩ := ff_in_t q
          have i0 : 0 ≤ i.toInt := i0
          rw [ww_sub1 (by omega)] at i1
          exact ⟨s0, by omega, i0, by omega, by omega⟩
      · exact absurd h (by decide)
/-- the blanks are 0 or 1 -/
def iv_K (S : mm_S) : Prop := ∀ q : Nat, (S 92 q = 0 ∨ S 92 q = 1) ∧ (S 94 q = 0 ∨ S 94 q = 1)
theorem iv_K_of {S T : mm_S} (h1 : T 92 = S 92) (h2 : T 94 = S 94) (h : iv_K S) : iv_K T := fun q => by rw [h1, h2]; exact h q
theorem iv_K_w {S : mm_S} {k : Nat} {i v : Int32} (h : iv_K S) (hv : v = 0 ∨ v = 1) : iv_K (wr_ S k i v) := by
  intro q
  unfold wr_ mm_up
  refine ⟨?_, ?_⟩
  · split
    · exact hv
    · exact (h q).1
  · split
    · exact hv
    · exact (h q).2
