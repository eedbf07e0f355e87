/-! THE COMPONENT's METHODS AS FUNCTIONS: 3 (texts in force, moves, ways) -/
section XF3
variable {p : Program} {l : Launch} {e : Env} {R : Room} {s : State} {m : MethodId} {args : Array Value} {below : List Frame} {meth : Method} {c : Code} {H : Heap} {locs : List Loc} {cells slots : Nat} {Q : State → Prop}
variable {cc : ByteArray} {pc : Nat} {ls : Array Slot} {rest st0 : List Value} {G : wm_G} {o d0 : Nat} {H0 : Heap} {X : mm_S} {E : mm_E} {D : xg} {nL : Nat}
theorem xl_instN (hx : p.tables.exec = Jvm.exec) (hb : c.code = cc) {index : Nat} {v : Int32} (hv : v < 0) (hd : decode cc pc = .ok (.instanceof index, 3)) (kk : W p l e R s m args below meth c H locs cells slots Q (F0 m (pc + 3) ls (.int 0 :: rest))) : W p l e R s m args below meth c H locs cells slots Q (F0 m pc ls (va_rf (xx_o D v) :: rest)) := by
  rw [xx_o_neg hv]
  intro T hT Z
  obtain ⟨t, a1, b1⟩ := kk T hT Z
  exact ⟨t, Z.instanceofNull hx (g := F0 m pc ls (.null :: rest)) rfl rfl (by rw [hb]; exact hd) t a1, b1⟩
/-- a text's numbers -/
theorem xt_geti {own host : String} (hx : p.tables.exec = Jvm.exec) (hb : c.code = cc) (hts : ∀ w ∈ lw_all, w.before args s = true) (hown : s.vm.findClass own = some m.cls) (hK : wm_K G s) (hW : xx_W G o d0 X E D H) {i : Int32} (hin : vp_in i 16) {index : Nat} (k : Nat) (h2 : 2 ≤ k) (h6 : k < 6) (hq : va_Nw (Cond.fieldLinkNest own index RX4 (TX4 k).2.1 (TX4 k).2.2.1 host) s) (hd : decode cc pc = .ok (.getfield index, 3))
    (kk : W p l e R s m args below meth c H locs cells slots Q (F0 m (pc + 3) ls (.int (rd_ X (88 + k) i) :: rest))) : W p l e R s m args below meth c H locs cells slots Q (F0 m pc ls (.ref (xt_ o i) :: rest)) := by
  have hi : i.toNatClampNeg < 16 := Nat.not_le.mp fun q => hin (Or.inr q)
  have hT : (TX4 k).1 = RX4 := by
    have : k = 2 ∨ k = 3 ∨ k = 4 ∨ k = 5 := by omega
    rcases this with z | z | z | z <;> subst z <;> rfl
  refine wm_getN hx hb hts in_X4 hown hK (ci := 3) rfl (hW.txt _ hi) k (by omega) hq (fun _ h => by rw [hT] at h; exact h) (v := .int (rd_ X (88 + k) i)) ?_ hd kk
  rw [if_neg (by omega), if_neg (by omega), if_pos h6]
  rfl
end XF3
/-- the tape, the texts, the moves, the ways -/
def xv_L (X : mm_S) : Prop := 0 ≤ (fd_ X 22).toInt ∧ (fd_ X 22).toInt ≤ 160
def xv_X (X : mm_S) : Prop := 0 ≤ (fd_ X 25).toInt ∧ (fd_ X 25).toInt ≤ 16
def xv_V (X : mm_S) : Prop := 0 ≤ (fd_ X 30).toInt ∧ (fd_ X 30).toInt ≤ 60 ∧ ∀ i : Int32, 0 ≤ i.toInt → i.toInt < (fd_ X 30).toInt → ¬ ff_isCell (rd_ X 28 i) = 0
def xv_Y (X : mm_S) : Prop := 0 ≤ (fd_ X 35).toInt ∧ (fd_ X 35).toInt ≤ 40 ∧ ∀ i : Int32, 0 ≤ i.toInt → i.toInt < (fd_ X 35).toInt → ¬ jr_ (rd_ X 33 i) 10 = 0 → 11 ≤ (rd_ X 33 i).toInt ∧ (rd_ X 33 i).toInt ≤ 19
/-- what is let down: spoons by tens, or a stuff -/
def xv_Yw (z : Int32) : Prop := ¬ jr_ z 10 = 0 → 11 ≤ z.toInt ∧ z.toInt ≤ 19
def xf_fd_1 (X : mm_S) : mm_S := fw_ X 22 (fd_ X 22 + 1)
def xf_fd_2 (X : mm_S) (i v k : Int32) : mm_S := wr_ X 21 i ((v >>> ((8 * k) &&& 31)) &&& 255)
def xf_fd_go : Nat → mm_S → Int32 → Int32 → Int32 → Int32 × mm_S
  | 0, X, _, _, _ => (0, X)
  | fu + 1, X, n, v, k => if n ≤ k then (fd_ X 22, X) else xf_fd_go fu (xf_fd_2 (xf_fd_1 X) (fd_ X 22) v k) n v (k + 1)
def xf_feed (X : mm_S) (n v : Int32) : Int32 × mm_S := if ff_in n 1 4 = 0 then (-1, X) else if fd_ X 22 + n ≤ 160 then xf_fd_go 5 X n v 0 else (-3, X)
def xf_wt_go : Nat → mm_S → Int32 → Int32 → Int32
  | 0, _, _, _ => 0
  | fu + 1, X, k, b => if fd_ X 4 ≤ b then 0 else if xf_holeOf X b < 0 then xf_wt_go fu X k (b + 1) else if xf_isThrough X (xf_holeOf X b) = 0 then xf_wt_go fu X k (b + 1) else if k < rd_ X 69 (xf_holeOf X b) then xf_wt_go fu X k (b + 1) else 1
def xf_wasThroughBy (X : mm_S) (k : Int32) : Int32 := xf_wt_go 121 X k 0
def xf_fo_go : Nat → mm_S → Int32 → Int32 → Int32 → Int32 → Int32 → Int32
  | 0, _, _, _, _, _, i => i
  | fu + 1, X, w, h, k, z, i => if i < 0 then i else if jr_ (rd_ X 91 i) 10 = jr_ w 10 then
      (if rd_ X 91 i / 10 = w / 10 then (if k < rd_ X 93 i then xf_fo_go fu X w h k z (i + -1) else if rd_ X 92 i ≤ h then i else xf_fo_go fu X w h k z (i + -1))
       else if z = 0 then xf_fo_go fu X w h k z (i + -1) else if k < rd_ X 93 i then xf_fo_go fu X w h k z (i + -1) else if rd_ X 92 i ≤ h then i else xf_fo_go fu X w h k z (i + -1))
    else xf_fo_go fu X w h k z (i + -1)
def xf_force (X : mm_S) (w h k : Int32) : Int32 := xf_fo_go 17 X w h k (xf_wasThroughBy X k) (fd_ X 25 - 1)
def xf_inForce (X : mm_S) (w h k : Int32) : Int32 := if xf_isWhat w = 0 then -1 else if ff_in h 0 1699 = 0 then -1 else if ff_in k 0 1699 = 0 then -1 else if xf_force X w h k = -1 then -2 else xf_force X w h k
def xf_bm_go : Nat → mm_S → Int32 → Int32 → Int32
  | 0, _, n, _ => n
  | fu + 1, X, n, k => if fd_ X 4 ≤ k then n else if xf_belowOf X k < 0 then xf_bm_go fu X (n + xf_bit 0) (k + 1) else xf_bm_go fu X (n + xf_bit 1) (k + 1)
def xf_belowMany (X : mm_S) : Int32 := xf_bm_go 121 X 0 0
def xf_tm_go : Nat → mm_S → Int32 → Int32 → Int32
  | 0, _, n, _ => n
  | fu + 1, X, n, k => if fd_ X 4 ≤ k then n else if xf_holeOf X k < 0 then xf_tm_go fu X (n + xf_bit 0) (k + 1) else if xf_isThrough X (xf_holeOf X k) = 0 then xf_tm_go fu X (n + xf_bit 0) (k + 1) else xf_tm_go fu X (n + xf_bit 1) (k + 1)
def xf_throughMany (X : mm_S) : Int32 := xf_tm_go 121 X 0 0
def xf_spoons (X : mm_S) (v : Int32) : Int32 × mm_S := if ff_in v 0 9999 = 0 then (-1, X) else (fd_ X 26, fw_ X 26 v)
def xf_mo_1 (X : mm_S) (c : Int32) : mm_S := wr_ X 28 (fd_ X 30) c
def xf_mo_2 (X : mm_S) (h : Int32) : mm_S := wr_ X 29 (fd_ X 30) h
def xf_mo_3 (X : mm_S) : mm_S := fw_ X 30 (fd_ X 30 + 1)
def xf_move (X : mm_S) (c h : Int32) : Int32 × mm_S := if ff_isCell c = 0 then (-1, X) else if ff_in h (fd_ X 0 + 1) 1699 = 0 then (-1, X) else if fd_ X 30 = 60 then (-3, X) else (fd_ (xf_mo_2 (xf_mo_1 X c) h) 30 + 1, xf_mo_3 (xf_mo_2 (xf_mo_1 X c) h))
def xf_mr_1 (X : mm_S) (c : Int32) : mm_S := wr_ (wr_ X 2 (ff_placeOf c) 0) 1 (ff_placeOf c) 9
def xf_moveRock (X : mm_S) (c : Int32) : mm_S := if xf_isShelterAt (xf_mr_1 X c) (c / 100) (jr_ c 100) = 0 then xf_mr_1 X c else wr_ (xf_mr_1 X c) 76 (fd_ (xf_mr_1 X c) 5) 1
theorem xf_isShelterAt_t {X : mm_S} {x y : Int32} (h : ¬ xf_isShelterAt X x y = 0) : ¬ fd_ X 5 < 0 := by
  unfold xf_isShelterAt at h
  split at h
  · exact absurd rfl h
  · assumption
def xf_ar_1 (X : mm_S) (k : Int32) : mm_S := fw_ X 26 (fd_ X 26 + rd_ X 33 k / 10)
def xf_ar_2 (X : mm_S) (k : Int32) : mm_S := wr_ X 36 (rd_ X 33 k - 10) (rd_ X 36 (rd_ X 33 k - 10) + 1)
def xf_ar_3 (X : mm_S) (n k : Int32) : mm_S := wr_ X 33 n (rd_ X 33 k)
def xf_ar_4 (X : mm_S) (n k : Int32) : mm_S := wr_ X 34 n (rd_ X 34 k)
def xf_ar_go : Nat → mm_S → Int32 → Int32 → mm_S
  | 0, X, _, _ => X
  | fu + 1, X, n, k => if fd_ X 35 ≤ k then fw_ X 35 n else if rd_ X 34 k = fd_ X 0 then (if jr_ (rd_ X 33 k) 10 = 0 then xf_ar_go fu (xf_ar_1 X k) n (k + 1) else xf_ar_go fu (xf_ar_2 X k) n (k + 1)) else xf_ar_go fu (xf_ar_4 (xf_ar_3 X n k) n k) (n + 1) (k + 1)
def xf_arrive (X : mm_S) : mm_S := xf_ar_go 41 X 0 0
/-- an entry set to a later one: what all say stays -/
theorem xv_wr {X : mm_S} {n w k : Int32} {f : Nat} {P : Int32 → Prop} (hW : ∀ i : Int32, 0 ≤ i.toInt → i.toInt < k.toInt → P (rd_ X f i)) (n0 : 0 ≤ n.toInt) (w0 : 0 ≤ w.toInt) (w1 : w.toInt < k.toInt) : ∀ i : Int32, 0 ≤ i.toInt → i.toInt < k.toInt → P (rd_ (wr_ X f n (rd_ X f w)) f i) := by
  intro i q0 q1
  rw [rd_wi]
  split
  · exact hW w w0 w1
  · exact hW i q0 q1
