/-! THE COMPONENT's METHODS AS FUNCTIONS: 4 (food, tubes, needs, watches, aims, the capsule's rows, counts) -/
/-! how long they last -/
def xf_st_1 (X : mm_S) (k : Int32) : mm_S := wr_ X 32 k (if xf_belowOf X k < 0 then 0 else rd_ X 77 (xf_belowOf X k))
def xf_st_go : Nat → mm_S → Int32 → mm_S
  | 0, X, _ => X
  | fu + 1, X, k => if fd_ X 4 ≤ k then X else xf_st_go fu (xf_st_1 X k) (k + 1)
def xf_st (X : mm_S) : mm_S := xf_st_go 121 X 0
def xf_la_1 (X : mm_S) (k y l : Int32) : mm_S := wr_ X 32 k (ff_held (rd_ X 32 k - 6 + 2 * xi_min l y) 0 999)
def xf_la_m : Nat → mm_S → Int32 → Int32 → Int32 → Int32 → Int32 → Int32 × Int32 × mm_S
  | 0, X, _, _, l, al, _ => (l, al, X)
  | fu + 1, X, a, y, l, al, k => if fd_ X 4 ≤ k then (l, al, X) else if xf_belowOf X k < 0 then xf_la_m fu X a y l al (k + 1) else
      xf_la_m fu (xf_la_1 X k y l) a y (l - xi_min l y) (al &&& (if rd_ (xf_la_1 X k y l) 32 k ≤ a then 0 else 1)) (k + 1)
def xf_la_s (X : mm_S) (a y l : Int32) : Int32 × Int32 × mm_S := xf_la_m 121 X a y l 1 0
def xf_la_d : Nat → mm_S → Int32 → Int32 → Int32 → Int32 → Int32 × mm_S
  | 0, X, _, _, _, d => (d, X)
  | fu + 1, X, a, y, l, d => if 60 ≤ d then (60, X) else if (xf_la_s X a y l).2.1 = 0 then (d, (xf_la_s X a y l).2.2) else xf_la_d fu (xf_la_s X a y l).2.2 a y (xf_la_s X a y l).1 (d + 1)
def xf_lasts (X : mm_S) (a y : Int32) : Int32 × mm_S := xf_la_d 61 (xf_st X) a y (fd_ X 26) 0
def xf_last (X : mm_S) (s n : Int32) : Int32 × mm_S := if ff_in s 0 999 = 0 then (-1, X) else if ff_in n 0 9 = 0 then (-1, X) else if xf_belowMany X = 0 then (-2, X) else xf_lasts X s n
def xf_be_go : Nat → mm_S → Int32 → Int32 → Int32 → Int32 × mm_S
  | 0, X, _, b, _ => (b, X)
  | fu + 1, X, s, b, n => if 10 ≤ n then (b, X) else if (xf_lasts X s n).1 ≤ (xf_lasts (xf_lasts X s n).2 s b).1 then xf_be_go fu (xf_lasts (xf_lasts X s n).2 s b).2 s b (n + 1) else xf_be_go fu (xf_lasts (xf_lasts X s n).2 s b).2 s n (n + 1)
def xf_best (X : mm_S) (s : Int32) : Int32 × mm_S := if ff_in s 0 999 = 0 then (-1, X) else if xf_belowMany X = 0 then (-2, X) else xf_be_go 10 X s 0 1
/-! tubes -/
def xf_isThing (w : Int32) : Int32 := if w < 10 then (if ff_in w 11 19 = 0 then 0 else 1) else if 9990 < w then (if ff_in w 11 19 = 0 then 0 else 1) else if jr_ w 10 = 0 then 1 else if ff_in w 11 19 = 0 then 0 else 1
def xf_dn_1 (X : mm_S) (t h : Int32) : mm_S := wr_ X 72 t (xi_max (rd_ X 72 t) (fd_ X 0) + h)
def xf_dn_2 (X : mm_S) (w : Int32) : mm_S := wr_ X 33 (fd_ X 35) w
def xf_dn_3 (X : mm_S) : mm_S := fw_ X 35 (fd_ X 35 + 1)
def xf_dn_4 (X : mm_S) (i t : Int32) : mm_S := wr_ X 34 i (rd_ X 72 t)
def xf_dn_S (X : mm_S) (t w h : Int32) : mm_S := xf_dn_4 (xf_dn_3 (xf_dn_2 (xf_dn_1 X t h) w)) (fd_ (xf_dn_2 (xf_dn_1 X t h) w) 35) t
def xf_down (X : mm_S) (b w h : Int32) : Int32 × mm_S :=
  if xf_holeOf X b < 0 then (-1, X) else if xk_Tube (rd_ X 60 (xf_holeOf X b)) = 0 then (-1, X) else if xf_isThing w = 0 then (-1, X) else if ff_in h 1 9 = 0 then (-1, X) else if xf_isThrough X (xf_holeOf X b) = 0 then (-2, X) else if fd_ X 35 = 40 then (-3, X) else
  (rd_ (xf_dn_S X (xf_holeOf X b) w h) 72 (xf_holeOf X b), xf_dn_S X (xf_holeOf X b) w h)
def xf_below (X : mm_S) (w : Int32) : Int32 := if ff_in w 0 9 = 0 then -1 else if w = 0 then fd_ X 26 else rd_ X 36 w
theorem xtu_of {X : mm_S} {b : Int32} (hb : xb_in X b) (h : ¬ xk_Tube (rd_ X 60 b) = 0) : xtu_in X b := by
  refine ⟨hb, ?_⟩
  unfold xk_Tube at h
  split at h
  · rename_i q
    rw [xb_q, q]
    decide
  · exact absurd rfl h
theorem xh_of_tube {X : mm_S} {b : Int32} (h : xtu_in X b) : xh_in X b := ⟨h.1, by rw [h.2]; decide, by rw [h.2]; decide⟩
/-! needs -/
/-- how many needs -/
def xv_N (X : mm_S) : Prop := 0 ≤ (fd_ X 40).toInt ∧ (fd_ X 40).toInt ≤ 10
def xf_nd_1 (X : mm_S) (w : Int32) : mm_S := wr_ X 37 (fd_ X 40) (w / 100)
def xf_nd_2 (X : mm_S) (w : Int32) : mm_S := wr_ X 38 (fd_ X 40) (jr_ w 100)
def xf_nd_3 (X : mm_S) (b : Int32) : mm_S := wr_ X 39 (fd_ X 40) b
def xf_nd_4 (X : mm_S) : mm_S := fw_ X 40 (fd_ X 40 + 1)
def xf_nd_S (X : mm_S) (w b : Int32) : mm_S := xf_nd_3 (xf_nd_2 (xf_nd_1 X w) w) b
def xf_need (X : mm_S) (w b : Int32) : Int32 × mm_S :=
  if w < 0 then (-1, X) else if ff_in (w / 100) 1 9 = 0 then (-1, X) else if jr_ w 100 = 0 then (-1, X) else if ff_in b 0 99 = 0 then (-1, X) else if fd_ X 40 = 10 then (-3, X) else (fd_ (xf_nd_S X w b) 40 + 1, xf_nd_4 (xf_nd_S X w b))
def xf_ho_go : Nat → mm_S → Int32 → Int32 → Int32 → Int32
  | 0, _, _, n, _ => n
  | fu + 1, X, s, n, i => if fd_ X 40 ≤ i then n else if nb_ s i = 1 then xf_ho_go fu X s (n + rd_ X 37 i) (i + 1) else xf_ho_go fu X s (n + 0) (i + 1)
def xf_hoursOf (X : mm_S) (s : Int32) : Int32 := xf_ho_go 11 X s 0 0
def xf_lateOf (X : mm_S) (i s : Int32) : Int32 := rd_ X 38 i * xi_max 0 (xf_hoursOf X s + rd_ X 37 i - rd_ X 39 i)
def xf_ordered (X : mm_S) (i : Int32) : Int32 := if ff_in i 0 (fd_ X 43 - 1) = 0 then -1 else rd_ X 42 i
/-! watches -/
def xf_wf_go : Nat → mm_S → Int32 → Int32 → Int32 → Int32 × mm_S
  | 0, X, _, n, _ => (n, X)
  | fu + 1, X, p, n, i => if 3 * p ≤ i then (n, X) else xf_wf_go fu (wr_ X 44 i (-2)) p n (i + 1)
def xf_wf_S (X : mm_S) (p n : Int32) : Int32 × mm_S := xf_wf_go 10 X p n n
def xf_wa_go : Nat → mm_S → Int32 → Int32 → Int32 → Int32 → Int32 → Int32 × mm_S
  | 0, X, _, _, _, n, _ => (n, X)
  | fu + 1, X, p, q, z, n, k => if fd_ X 4 ≤ k then xf_wf_S X p n else if 9 ≤ z then xf_wf_S X p n else if xf_belowOf X k < 0 then xf_wa_go fu X p q z n (k + 1) else if q < rd_ X 79 (xf_belowOf X k) then xf_wa_go fu X p q (z + 1) n (k + 1) else
      if n = 3 * p then xf_wa_go fu X p q (z + 1) n (k + 1) else xf_wa_go fu (wr_ X 44 n k) p q (z + 1) (n + 1) (k + 1)
def xf_watch (X : mm_S) (p q : Int32) : Int32 × mm_S := if ff_in p 1 3 = 0 then (-1, X) else if ff_in q 0 9 = 0 then (-1, X) else xf_wa_go 121 (fw_ X 45 p) p q 0 0 0
def xf_watched (X : mm_S) (s p : Int32) : Int32 := if ff_in s 0 2 = 0 then -1 else if ff_in p 0 (fd_ X 45 - 1) = 0 then -1 else rd_ X 44 (s * fd_ X 45 + p)
/-! aims, races -/
def xv_A (X : mm_S) : Prop := 0 ≤ (fd_ X 48).toInt ∧ (fd_ X 48).toInt ≤ 6
def xf_am_1 (X : mm_S) (c : Int32) : mm_S := wr_ X 46 (fd_ X 48) c
def xf_am_2 (X : mm_S) (v : Int32) : mm_S := wr_ X 47 (fd_ X 48) v
def xf_am_3 (X : mm_S) : mm_S := fw_ X 48 (fd_ X 48 + 1)
def xf_aim (X : mm_S) (c v : Int32) : Int32 × mm_S := if ff_in c 0 31 = 0 then (-1, X) else if ff_in v 0 9 = 0 then (-1, X) else if fd_ X 48 = 6 then (-3, X) else (fd_ (xf_am_2 (xf_am_1 X c) v) 48 + 1, xf_am_3 (xf_am_2 (xf_am_1 X c) v))
def xf_rock (X : mm_S) (r i v : Int32) : Int32 × mm_S := if ff_in r 0 3 = 0 then (-1, X) else if ff_in i 0 5 = 0 then (-1, X) else if ff_in v 1 9 = 0 then (-1, X) else (rd_ X 49 (r * 6 + i), wr_ X 49 (r * 6 + i) v)
def xf_tk_go : Nat → mm_S → Int32 → Int32 → Int32 → Int32 → Int32 → Int32 → Int32
  | 0, _, _, _, _, _, w, _ => w
  | fu + 1, X, i, m, r, y, w, k => if r ≤ k then (rd_ X 47 i + 1) * y * rd_ X 8 m * w else xf_tk_go fu X i m r y (xi_max w (rd_ X 49 (k * 6 + i))) (k + 1)
def xf_takes (X : mm_S) (i m r y : Int32) : Int32 := xf_tk_go 5 X i m r y 0 0
/-- minutes of a way with many holes -/
def xf_ai_v (X : mm_S) (r y k p q m u : Int32) : Int32 := if k = 2 then xi_max (xf_takes X p m r y) (xf_takes X q u r y) else xf_takes X p m r y
def xf_ai_S (X : mm_S) (p q m u : Int32) : mm_S := wr_ (wr_ (wr_ (wr_ X 50 0 p) 51 0 m) 50 1 q) 51 1 u
def xf_ao_go : Nat → mm_S → Int32 → Int32 → Int32 → Int32 → Int32 → Int32 → Int32 → Int32 → Int32 × mm_S
  | 0, X, _, _, _, _, _, _, l, _ => (l, X)
  | fu + 1, X, r, y, k, p, q, m, l, u => if (if k = 2 then 3 else m + 2) ≤ u then (l, X) else if xf_ai_v X r y k p q m u < l then xf_ao_go fu (xf_ai_S X p q m u) r y k p q m (xf_ai_v X r y k p q m u) (u + 1) else xf_ao_go fu X r y k p q m l (u + 1)
def xf_ao_s (X : mm_S) (r y k p q m l : Int32) : Int32 × mm_S := xf_ao_go 5 X r y k p q m l (m + 1)
def xf_an_go : Nat → mm_S → Int32 → Int32 → Int32 → Int32 → Int32 → Int32 → Int32 → Int32 × mm_S
  | 0, X, _, _, _, _, _, l, _ => (l, X)
  | fu + 1, X, r, y, k, p, q, l, m => if 3 ≤ m then (l, X) else xf_an_go fu (xf_ao_s X r y k p q m l).2 r y k p q (xf_ao_s X r y k p q m l).1 (m + 1)
def xf_an_s (X : mm_S) (r y k p q l : Int32) : Int32 × mm_S := xf_an_go 4 X r y k p q l 0
def xf_aq_go : Nat → mm_S → Int32 → Int32 → Int32 → Int32 → Int32 → Int32 → Int32 × mm_S
  | 0, X, _, _, _, _, l, _ => (l, X)
  | fu + 1, X, r, y, k, p, l, q => if (if k = 2 then fd_ X 48 else 1) ≤ q then (l, X) else if k = 2 then (if p = q then xf_aq_go fu X r y k p l (q + 1) else xf_aq_go fu (xf_an_s X r y k p q l).2 r y k p (xf_an_s X r y k p q l).1 (q + 1)) else xf_aq_go fu (xf_an_s X r y k p q l).2 r y k p (xf_an_s X r y k p q l).1 (q + 1)
def xf_aq_s (X : mm_S) (r y k p l : Int32) : Int32 × mm_S := xf_aq_go 7 X r y k p l 0
def xf_ap_go : Nat → mm_S → Int32 → Int32 → Int32 → Int32 → Int32 → Int32 × mm_S
  | 0, X, _, _, _, l, _ => (l, X)
  | fu + 1, X, r, y, k, l, p => if fd_ X 48 ≤ p then (l, fw_ (fw_ X 52 k) 48 0) else xf_ap_go fu (xf_aq_s X r y k p l).2 r y k (xf_aq_s X r y k p l).1 (p + 1)
def xf_ap_s (X : mm_S) (r y k : Int32) : Int32 × mm_S := xf_ap_go 7 X r y k 2147483647 0
def xf_aimed (X : mm_S) (r y k : Int32) : Int32 × mm_S := if ff_in r 1 4 = 0 then (-1, X) else if ff_in y 1 60 = 0 then (-1, X) else if ff_in k 1 2 = 0 then (-1, X) else if fd_ X 48 = 0 then (-1, X) else if k ≤ fd_ X 48 then xf_ap_s X r y k else (-2, X)
def xf_aimedAt (X : mm_S) (i w : Int32) : Int32 := if ff_in i 0 (fd_ X 52 - 1) = 0 then -1 else if ff_in w 0 1 = 0 then -1 else if w = 0 then rd_ X 50 i else rd_ X 51 i
def xf_race (X : mm_S) (m y k : Int32) : Int32 :=
  if ff_isMachine m = 0 then -1 else if ff_in y 1 60 = 0 then -1 else if ff_in k 1 9 = 0 then -1 else if rd_ X 9 m < 0 then -2 else if xf_isThrough X (rd_ X 9 m) = 0 then
  (if rd_ X 66 (rd_ X 9 m) < y then xi_min 9999 (xi_max (fd_ X 0) (rd_ X 10 m) + xi_max 1 (((y - rd_ X 66 (rd_ X 9 m)) * rd_ X 8 m * k - rd_ X 68 (rd_ X 9 m) + 59) / 60)) else -2) else -2
theorem ix_6' {r i : Int32} (r0 : 0 ≤ r.toInt) (r1 : r.toInt ≤ 3) (i0 : 0 ≤ i.toInt) (i1 : i.toInt ≤ 5) : vp_in (r * 6 + i) 24 := by rw [Int32.mul_comm]; exact ix_6 r0 r1 i0 i1
theorem ix_9' {w s p : Int32} (w1 : w.toInt ≤ 3) (s0 : 0 ≤ s.toInt) (s1 : s.toInt ≤ 2) (p0 : 0 ≤ p.toInt) (p1 : p.toInt < w.toInt) : vp_in (s * w + p) 9 := by rw [Int32.mul_comm]; exact ix_9 w1 s0 s1 p0 p1
/-! the capsule's rows, counts -/
def xv_U (X : mm_S) : Prop := 0 ≤ (fd_ X 55).toInt ∧ (fd_ X 55).toInt ≤ 120
def xf_up (X : mm_S) (i w : Int32) : Int32 := if ff_in i 0 (fd_ X 55 - 1) = 0 then -1 else if ff_in w 0 1 = 0 then -1 else if w = 0 then rd_ X 53 i else rd_ X 54 i
def xf_rs_go : Nat → mm_S → Int32 → Int32 → Int32 → Int32 × mm_S
  | 0, X, _, u, _ => (u, X)
  | fu + 1, X, n, u, i => if fd_ X 55 ≤ i then (u, X) else if xf_belowOf X (rd_ X 53 i) < 0 then xf_rs_go fu X n u (i + 1) else if rd_ X 54 i ≤ fd_ X 56 + n then xf_rs_go fu (wr_ X 80 (xf_belowOf X (rd_ X 53 i)) 1) n (u + 1) (i + 1) else xf_rs_go fu X n u (i + 1)
def xf_raise (X : mm_S) (n : Int32) : Int32 × mm_S := if ff_in n 0 199 = 0 then (-1, X) else if fd_ X 56 = -1 then (-2, X) else xf_rs_go 121 X n 0 0
def xf_trace (X : mm_S) (i : Int32) : Int32 := if ff_in i 0 (xi_min (fd_ X 7) 24 - 1) = 0 then -1 else rd_ X 6 i
theorem xi_min_t (x y : Int32) : (xi_min x y).toInt = min x.toInt y.toInt := by
  unfold xi_min
  by_cases h : y < x
  · rw [if_pos h]
    have := ww_lt h
    omega
  · rw [if_neg h]
    have := ww_nlt h
    omega
theorem xi_max_t (x y : Int32) : (xi_max x y).toInt = max x.toInt y.toInt := by
  unfold xi_max
  by_cases h : x < y
  · rw [if_pos h]
    have := ww_lt h
    omega
  · rw [if_neg h]
    have := ww_nlt h
    omega
def xf_hz (X : mm_S) (k : Int32) : Int32 := if xf_holeOf X k < 0 then 0 else 1
def xf_hb (X : mm_S) (k : Int32) : Int32 := if xf_holeOf X k < 0 then 0 else rd_ X 66 (xf_holeOf X k)
def xf_ct_go : Nat → mm_S → Int32 → Int32 → Int32 → Int32 × Int32
  | 0, _, a, b, _ => (a, b)
  | fu + 1, X, a, b, k => if fd_ X 4 ≤ k then (a, b) else xf_ct_go fu X (a + xf_bit (xf_hz X k)) (b + xf_hb X k) (k + 1)
def xf_ct (X : mm_S) : Int32 × Int32 := xf_ct_go 121 X 0 0 0
def xf_count (X : mm_S) (w : Int32) : Int32 :=
  if w = 0 then fd_ X 4 else if w = 1 then (xf_ct X).1 else if w = 2 then xf_throughMany X else if w = 3 then xf_belowMany X else if w = 4 then fd_ X 0 else if w = 5 then fd_ X 18 else if w = 6 then fd_ X 25 else if w = 7 then fd_ X 22 else if w = 8 then (xf_ct X).2 else if w = 9 then fd_ X 27 else if w = 10 then fd_ X 35 else if w = 11 then fd_ X 7 else -1
def xf_keep (X : mm_S) (s b : Int32) : Int32 × mm_S := if ff_isShelf s = 0 then (-1, X) else if b = -1 then (1, wr_ X 58 s b) else if xf_isBody X b = 0 then (-1, X) else (1, wr_ X 58 s b)
section XK4
variable {p : Program} {l : Launch} {e : Env} {R : Room} {s : State} {m : MethodId} {args : Array Value} {below : List Frame} {meth : Method} {c : Code} {H : Heap} {locs : List Loc} {cells slots : Nat} {Q : State → Prop}
variable {cc : ByteArray} {pc : Nat} {ls : Array Slot} {rest st0 : List Value} {G : wm_G} {o d0 : Nat} {H0 : Heap} {X : mm_S} {E : mm_E} {D : xg} {nL : Nat}
theorem xk_yObj (hN : xn_T s) : ∀ q, q < 8 → xl_As (xk_C q) "java/lang/Object" s
  | 0, _ => xl_As.of (hN.ca q2456)
  | 1, _ => xl_As.of (hN.ca q2457)
  | 2, _ => xl_As.of (hN.ca q2458)
  | 3, _ => xl_As.of (hN.ca q2459)
  | 4, _ => xl_As.of (hN.ca q2460)
  | 5, _ => xl_As.of (hN.ca q2461)
  | 6, _ => xl_As.of (hN.ca q2462)
  | 7, _ => xl_As.of (hN.ca q2463)
theorem xx_kast (hx : p.tables.exec = Jvm.exec) (hb : c.code = cc) (hK : wm_K G s) (hN : xn_T s) (hW : xx_W G o d0 X E D H) (hS : va_S (xx_F o d0) H0 H locs) {i b : Int32} (hin : vp_in i 6) (hh : b = -1 ∨ xb_in X b) (hd : decode cc pc = .ok (.aastore, 1))
    (kk : ∀ (X1 : mm_S) (H1 : Heap) (locs1 : List Loc), X1 = wr_ X 58 i b → xx_W G o d0 X1 E D H1 → va_S (xx_F o d0) H0 H1 locs1 → W p l e R s m args below meth c H1 locs1 cells slots Q (F0 m (pc + 1) ls rest)) : W p l e R s m args below meth c H locs cells slots Q (F0 m pc ls (va_rf (xx_o D b) :: .int i :: .ref (o + 40) :: rest)) := by
  have hi6 : i.toNatClampNeg < 6 := Nat.not_le.mp fun q => hin (Or.inr q)
  rcases hh with hneg | hi
  · subst hneg
    rw [xx_o_neg (show (-1 : Int32) < 0 by decide)]
    refine wm_aastN hx hb hK (t := 10) rfl hW.shv hS (xx_Fj (by decide)) hin hd fun H1 locs1 hA hz oq hS1 => kk _ H1 locs1 rfl (hW.kput (v := -1) hi6 (by have := hW.cap.1; have e1 : (-1 : Int32).toInt = -1 := (by decide); rw [e1]; omega) (by decide) hA hz oq) hS1
  · have hp := hi.1
    rw [xx_o_pos hp]
    have hv : xx_s D b i.toNatClampNeg = .ref (xb_ D b) := by
      unfold xx_s
      rw [if_neg (fun h => by rw [h] at hp; exact absurd hp (by decide)), if_neg (fun h => by have := ww_l0 h; omega)]
    refine wm_aast hx hb hK (t := 10) rfl hW.shv hS (xx_Fj (by decide)) (xb_recv hK hW hi) (xk_yObj hN _ (xq_lt hW hi)) hin hd fun H1 locs1 hA hz oq hS1 => kk _ H1 locs1 rfl (hW.kput (v := b) hi6 hi.2 (by omega) (by rw [hv]; exact hA) hz oq) hS1
end XK4
