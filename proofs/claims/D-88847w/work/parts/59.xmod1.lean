set_option maxHeartbeats 4000000 in
theorem xc_min (lQ : Launch) (x : Int32) (y : Int32) : pp_Met lQ yJ3_min (ws_ yJ3_min cJ3_min 2 (some .int)) 0 [.int x, .int y] (some (.int (xi_min x y))) := by
  refine pp_startF (own := RJ3) (by decide +kernel) (Nat.le_of_ble_eq_true rfl) rfl (fun pQ eQ sQ mQ belowQ methQ cQ hx hb hml hr hlocks hts hown ls hl => ?_)
  have hl : lv_has ls 2 [(0, .int x), (1, .int y)] := hl
  refine lv_iload_n hx hb dJ3_min_0 rfl (lv_at hl 0 rfl) ?_
  refine lv_iload_n hx hb dJ3_min_1 rfl (lv_at hl 1 rfl) ?_
  refine lv_icmp_gt (tgt := 9) hx hb dJ3_min_2 (by decide) (fun c2 => ?_) (fun c2 => ?_)
  · have t2 : (y).toInt < (x).toInt := ww_lt c2
    refine lv_iload_n hx hb dJ3_min_9 rfl (lv_at hl 1 rfl) ?_
    refine pp_iret hx hb hr hlocks ?_ dJ3_min_10
    have hres : xi_min x y = y := by simp only [xi_min, if_pos c2]
    rw [hres]
  · have t2 : (x).toInt ≤ (y).toInt := ww_nlt c2
    refine lv_iload_n hx hb dJ3_min_5 rfl (lv_at hl 0 rfl) ?_
    refine lv_goto (tgt := 10) hx hb dJ3_min_6 (by decide) ?_
    refine pp_iret hx hb hr hlocks ?_ dJ3_min_10
    have hres : xi_min x y = x := by simp only [xi_min, if_neg c2]
    rw [hres]

set_option maxHeartbeats 4000000 in
theorem xc_max (lQ : Launch) (x : Int32) (y : Int32) : pp_Met lQ yJ3_max (ws_ yJ3_max cJ3_max 2 (some .int)) 0 [.int x, .int y] (some (.int (xi_max x y))) := by
  refine pp_startF (own := RJ3) (by decide +kernel) (Nat.le_of_ble_eq_true rfl) rfl (fun pQ eQ sQ mQ belowQ methQ cQ hx hb hml hr hlocks hts hown ls hl => ?_)
  have hl : lv_has ls 2 [(0, .int x), (1, .int y)] := hl
  refine lv_iload_n hx hb dJ3_max_0 rfl (lv_at hl 0 rfl) ?_
  refine lv_iload_n hx hb dJ3_max_1 rfl (lv_at hl 1 rfl) ?_
  refine lv_icmp_lt (tgt := 9) hx hb dJ3_max_2 (by decide) (fun c2 => ?_) (fun c2 => ?_)
  · have t2 : (x).toInt < (y).toInt := ww_lt c2
    refine lv_iload_n hx hb dJ3_max_9 rfl (lv_at hl 1 rfl) ?_
    refine pp_iret hx hb hr hlocks ?_ dJ3_max_10
    have hres : xi_max x y = y := by simp only [xi_max, if_pos c2]
    rw [hres]
  · have t2 : (y).toInt ≤ (x).toInt := ww_nlt c2
    refine lv_iload_n hx hb dJ3_max_5 rfl (lv_at hl 0 rfl) ?_
    refine lv_goto (tgt := 10) hx hb dJ3_max_6 (by decide) ?_
    refine pp_iret hx hb hr hlocks ?_ dJ3_max_10
    have hres : xi_max x y = x := by simp only [xi_max, if_neg c2]
    rw [hres]

set_option maxHeartbeats 4000000 in
theorem xc_floorDiv (lQ : Launch) (x : Int32) (y : Int32) (hne : ¬ y = 0) : pp_Met lQ yJ3_floorDiv (ws_ yJ3_floorDiv cJ3_floorDiv 3 (some .int)) 0 [.int x, .int y] (some (.int (xi_fd x y))) := by
  refine pp_startF (own := RJ3) (by decide +kernel) (Nat.le_of_ble_eq_true rfl) rfl (fun pQ eQ sQ mQ belowQ methQ cQ hx hb hml hr hlocks hts hown ls hl => ?_)
  have hl : lv_has ls 3 [(0, .int x), (1, .int y)] := hl
  refine lv_iload_n hx hb dJ3_floorDiv_0 rfl (lv_at hl 0 rfl) ?_
  refine lv_iload_n hx hb dJ3_floorDiv_1 rfl (lv_at hl 1 rfl) ?_
  refine nv_idiv hx hb dJ3_floorDiv_2 hne (fun v2 e2 => ?_)
  refine lv_istore_n (lv' := [(2, .int v2), (0, .int x), (1, .int y)]) hx hb dJ3_floorDiv_3 rfl hl (by decide) rfl (fun ls hl => ?_)
  refine lv_iload_n hx hb dJ3_floorDiv_4 rfl (lv_at hl 1 rfl) ?_
  refine lv_iload_n hx hb dJ3_floorDiv_5 rfl (lv_at hl 2 rfl) ?_
  refine nv_ixor hx hb dJ3_floorDiv_6 (fun v6 e6 => ?_)
  refine lv_if_ge (tgt := 21) hx hb dJ3_floorDiv_7 (by decide) (fun c7 => ?_) (fun c7 => ?_)
  · have t7 : 0 ≤ (v6).toInt := ww_le c7
    refine lv_iload_n hx hb dJ3_floorDiv_21 rfl (lv_at hl 0 rfl) ?_
    refine pp_iret hx hb hr hlocks ?_ dJ3_floorDiv_22
    have hres : xi_fd x y = v2 := by subst e2 e6; simp only [xi_fd, if_pos c7]
    rw [hres]
  · have t7 : (v6).toInt < 0 := ww_nle c7
    refine lv_iload_n hx hb dJ3_floorDiv_10 rfl (lv_at hl 0 rfl) ?_
    refine lv_iload_n hx hb dJ3_floorDiv_11 rfl (lv_at hl 2 rfl) ?_
    refine nv_imul hx hb dJ3_floorDiv_12 (fun v12 e12 => ?_)
    refine lv_iload_n hx hb dJ3_floorDiv_13 rfl (lv_at hl 1 rfl) ?_
    refine lv_icmp_eq (tgt := 21) hx hb dJ3_floorDiv_14 (by decide) (fun c14 => ?_) (fun c14 => ?_)
    · skip
      refine lv_iload_n hx hb dJ3_floorDiv_21 rfl (lv_at hl 0 rfl) ?_
      refine pp_iret hx hb hr hlocks ?_ dJ3_floorDiv_22
      have hres : xi_fd x y = v2 := by subst e2 e6 e12; simp only [xi_fd, if_neg c7, if_pos c14]
      rw [hres]
    · skip
      refine lv_iload_n hx hb dJ3_floorDiv_17 rfl (lv_at hl 0 rfl) ?_
      refine lv_iconst (v := 1) hx hb dJ3_floorDiv_18 (by decide) ?_
      refine nv_isub hx hb dJ3_floorDiv_19 (fun v19 e19 => ?_)
      refine pp_iret hx hb hr hlocks ?_ dJ3_floorDiv_20
      have hres : xi_fd x y = v19 := by subst e2 e6 e12 e19; simp only [xi_fd, if_neg c7, if_neg c14]
      rw [hres]

set_option maxHeartbeats 4000000 in
theorem xc_within (lQ : Launch) (v : Int64) (a : Int64) (b : Int64) : pp_Met lQ yX0_within (ws_ yX0_within cX0_within 6 (some .boolean)) 0 [.long v, .long a, .long b] (some (.int (xf_within v a b))) := by
  refine pp_start (own := RX0) (by decide +kernel) (Nat.le_of_ble_eq_true rfl) rfl (fun pQ eQ sQ mQ belowQ methQ cQ hx hb hml hr hlocks hts hown ls hl => ?_)
  have hl : lv_has ls 6 [(0, .long v), (2, .long a), (4, .long b)] := hl
  refine lv_lload_n hx hb dX0_within_0 rfl (lv_at hl 0 rfl) ?_
  refine lv_lload_n hx hb dX0_within_1 rfl (lv_at hl 1 rfl) ?_
  refine W.lcmp hx hb dX0_within_2 ?_
  refine lv_if_lt (tgt := 17) hx hb dX0_within_3 (by decide) (fun c3 => ?_) (fun c3 => ?_)
  · have t3 : ((lg_cmp v a)).toInt < 0 := ww_lt c3
    refine lv_iconst (v := 0) hx hb dX0_within_17 (by decide) ?_
    refine pp_zret hx hb hr hlocks rfl ?_ dX0_within_18
    have hres : xf_within v a b = 0 := by simp only [xf_within, if_pos c3]
    rw [hres]
  · have t3 : 0 ≤ ((lg_cmp v a)).toInt := ww_nlt c3
    refine lv_lload_n hx hb dX0_within_6 rfl (lv_at hl 0 rfl) ?_
    refine lv_lload hx hb dX0_within_7 (lv_at hl 2 rfl) ?_
    refine W.lcmp hx hb dX0_within_9 ?_
    refine lv_if_gt (tgt := 17) hx hb dX0_within_10 (by decide) (fun c10 => ?_) (fun c10 => ?_)
    · have t10 : 0 < ((lg_cmp v b)).toInt := ww_lt c10
      refine lv_iconst (v := 0) hx hb dX0_within_17 (by decide) ?_
      refine pp_zret hx hb hr hlocks rfl ?_ dX0_within_18
      have hres : xf_within v a b = 0 := by simp only [xf_within, if_neg c3, if_pos c10]
      rw [hres]
    · have t10 : ((lg_cmp v b)).toInt ≤ 0 := ww_nlt c10
      refine lv_iconst (v := 1) hx hb dX0_within_13 (by decide) ?_
      refine lv_goto (tgt := 18) hx hb dX0_within_14 (by decide) ?_
      refine pp_zret hx hb hr hlocks rfl ?_ dX0_within_18
      have hres : xf_within v a b = 1 := by simp only [xf_within, if_neg c3, if_neg c10]
      rw [hres]

section XCW
variable {p : Program} {l : Launch} {e : Env} {R : Room} {s : State} {m : MethodId} {args : Array Value} {below : List Frame} {meth : Method} {c : Code} {H : Heap} {locs : List Loc} {cells slots : Nat} {Q : State → Prop}
variable {cc : ByteArray} {pc : Nat} {ls : Array Slot} {rest : List Value}
theorem xx_within {nL index : Nat} {As st0 : List Value} {x y z : Int64} (v a b : Int32) (F : CallFix p m c cc nL s args lw_all RX0) (hx : x = v.toInt64) (hy : y = a.toInt64) (hz : z = b.toInt64) (hq : Cond.methodLink RX0 index yX0_within ∈ lw_all) (hsz : ls.size = nL) (hAs : As = [.long x, .long y, .long z] := by rfl) (hst : st0 = As.reverse ++ rest) (hrest : (rest.map fun v => v.category).sum ≤ 8) (h1 : Nat.ble 1 R.frames = true) (h2 : Nat.ble 25 R.locals = true) (hroom : cells ≤ R.cells ∧ slots ≤ R.slots) (hd : decode cc pc = .ok (.invokestatic index, 3))
    (kk : ∀ v2 : Int32, v2 = ff_in v a b → W p l e R s m args below meth c H locs cells slots Q (F0 m (pc + 3) ls (.int v2 :: rest))) : W p l e R s m args below meth c H locs cells slots Q (F0 m pc ls st0) := by
  subst hAs hx hy hz
  refine pp_calli (As := [.long v.toInt64, .long a.toInt64, .long b.toInt64]) (rest := rest) (n := 3) F (xc_within l v.toInt64 a.toInt64 b.toInt64) (lw_S hq q460 q84 q461) (by decide +kernel) rfl ⟨Nat.le_of_ble_eq_true h1, Nat.le_of_ble_eq_true h2⟩ hsz hst hrest hd hroom (fun v2 e2 => kk v2 (by rw [e2, xf_within_in]))
end XCW
set_option maxHeartbeats 4000000 in
theorem xc_held (lQ : Launch) (v : Int32) (a : Int32) (b : Int32) (hab : a.toInt ≤ b.toInt) : pp_Met lQ yX0_held (ws_ yX0_held cX0_held 3 (some .int)) 1 [.int v, .int a, .int b] (some (.int (ff_held v a b))) := by
  refine pp_start (own := RX0) (by decide +kernel) (Nat.le_of_ble_eq_true rfl) rfl (fun pQ eQ sQ mQ belowQ methQ cQ hx hb hml hr hlocks hts hown ls hl => ?_)
  have hl : lv_has ls 3 [(0, .int v), (1, .int a), (2, .int b)] := hl
  refine lv_iload_n hx hb dX0_held_0 rfl (lv_at hl 1 rfl) ?_
  refine lv_iload_n hx hb dX0_held_1 rfl (lv_at hl 2 rfl) ?_
  refine lv_iload_n hx hb dX0_held_2 rfl (lv_at hl 0 rfl) ?_
  refine pp_calli (As := [.int b, .int v]) (rest := [.int a]) (n := 2) ⟨hx, hb, hml, hown, hts⟩ (xc_min lQ b v) (lw_S q863 q864 q101 q865) (by decide +kernel) rfl ⟨Nat.le_of_ble_eq_true rfl, Nat.le_of_ble_eq_true rfl⟩ hl.1 rfl (Nat.le_of_ble_eq_true rfl) dX0_held_3 ⟨Nat.le_of_ble_eq_true rfl, Nat.le_of_ble_eq_true rfl⟩ (fun v3 e3 => ?_)
  refine pp_calli (As := [.int a, .int v3]) (rest := []) (n := 2) ⟨hx, hb, hml, hown, hts⟩ (xc_max lQ a v3) (lw_S q866 q867 q101 q868) (by decide +kernel) rfl ⟨Nat.le_of_ble_eq_true rfl, Nat.le_of_ble_eq_true rfl⟩ hl.1 rfl (Nat.le_of_ble_eq_true rfl) dX0_held_6 ⟨Nat.le_of_ble_eq_true rfl, Nat.le_of_ble_eq_true rfl⟩ (fun v6 e6 => ?_)
  refine pp_iret hx hb hr hlocks ?_ dX0_held_9
  have hres : ff_held v a b = v6 := by subst e3 e6; exact (xf_held hab).symm
  rw [hres]

set_option maxHeartbeats 4000000 in
theorem xc_at (lQ : Launch) (x : Int32) (y : Int32) : pp_Met lQ yX0_at (ws_ yX0_at cX0_at 2 (some .int)) 0 [.int x, .int y] (some (.int (x * 61 + y))) := by
  refine pp_start (own := RX0) (by decide +kernel) (Nat.le_of_ble_eq_true rfl) rfl (fun pQ eQ sQ mQ belowQ methQ cQ hx hb hml hr hlocks hts hown ls hl => ?_)
  have hl : lv_has ls 2 [(0, .int x), (1, .int y)] := hl
  refine lv_iload_n hx hb dX0_at_0 rfl (lv_at hl 0 rfl) ?_
  refine lv_bipush (v := 61) hx hb dX0_at_1 (by decide) ?_
  refine nv_imul hx hb dX0_at_3 (fun v3 e3 => ?_)
  refine lv_iload_n hx hb dX0_at_4 rfl (lv_at hl 1 rfl) ?_
  refine nv_iadd hx hb dX0_at_5 (fun v5 e5 => ?_)
  refine pp_iret hx hb hr hlocks ?_ dX0_at_6
  have hres : x * 61 + y = v5 := by subst e3 e5; rfl
  rw [hres]

set_option maxHeartbeats 4000000 in
theorem xc_isCell (lQ : Launch) (c : Int32) : pp_Met lQ yX0_isCell (ws_ yX0_isCell cX0_isCell 1 (some .boolean)) 1 [.int c] (some (.int (ff_isCell c))) := by
  refine pp_start (own := RX0) (by decide +kernel) (Nat.le_of_ble_eq_true rfl) rfl (fun pQ eQ sQ mQ belowQ methQ cQ hx hb hml hr hlocks hts hown ls hl => ?_)
  have hl : lv_has ls 1 [(0, .int c)] := hl
  refine lv_iload_n hx hb dX0_isCell_0 rfl (lv_at hl 0 rfl) ?_
  refine lv_if_lt (tgt := 32) hx hb dX0_isCell_1 (by decide) (fun c1 => ?_) (fun c1 => ?_)
  · have t1 : (c).toInt < 0 := ww_lt c1
    refine lv_iconst (v := 0) hx hb dX0_isCell_32 (by decide) ?_
    refine pp_zret hx hb hr hlocks rfl ?_ dX0_isCell_33
    have hres : ff_isCell c = 0 := by simp only [ff_isCell, if_pos c1]
    rw [hres]
  · have t1 : 0 ≤ (c).toInt := ww_nlt c1
    refine lv_iload_n hx hb dX0_isCell_4 rfl (lv_at hl 0 rfl) ?_
    refine lv_bipush (v := 100) hx hb dX0_isCell_5 (by decide) ?_
    refine nv_idiv hx hb dX0_isCell_7 (by decide) (fun v7 e7 => ?_)
    refine lv_bipush (v := 32) hx hb dX0_isCell_8 (by decide) ?_
    refine lv_icmp_ge (tgt := 32) hx hb dX0_isCell_10 (by decide) (fun c10 => ?_) (fun c10 => ?_)
    · have t10 : 32 ≤ (v7).toInt := ww_le c10
      refine lv_iconst (v := 0) hx hb dX0_isCell_32 (by decide) ?_
      refine pp_zret hx hb hr hlocks rfl ?_ dX0_isCell_33
      have hres : ff_isCell c = 0 := by subst e7; simp only [ff_isCell, if_neg c1, if_pos c10]
      rw [hres]
    · have t10 : (v7).toInt < 32 := ww_nle c10
      refine lv_iload_n hx hb dX0_isCell_13 rfl (lv_at hl 0 rfl) ?_
      refine lv_bipush (v := 100) hx hb dX0_isCell_14 (by decide) ?_
      refine nv_irem hx hb dX0_isCell_16 (by decide) (fun v16 e16 => ?_)
      refine lv_i2l (v := (v16).toInt64) hx hb dX0_isCell_17 rfl ?_
      refine lv_lconst (v := 1) hx hb dX0_isCell_18 (by decide) ?_
      refine lv_ldc2 (v := 60) hx hb hown (hts _ q458) dX0_isCell_19 ?_
      refine xx_within (rest := []) v16 1 60 ⟨hx, hb, hml, hown, hts⟩ rfl (by decide) (by decide) q459 hl.1 rfl rfl (Nat.le_of_ble_eq_true rfl) rfl rfl ⟨Nat.le_of_ble_eq_true rfl, Nat.le_of_ble_eq_true rfl⟩ dX0_isCell_22 (fun v22 e22 => ?_)
      refine lv_if_eq (tgt := 32) hx hb dX0_isCell_25 (by decide) (fun c25 => ?_) (fun c25 => ?_)
      · skip
        refine lv_iconst (v := 0) hx hb dX0_isCell_32 (by decide) ?_
        refine pp_zret hx hb hr hlocks rfl ?_ dX0_isCell_33
        have hres : ff_isCell c = 0 := by subst e7 e16 e22; simp only [ff_isCell, if_neg c1, if_neg c10, if_pos c25]
        rw [hres]
      · skip
        refine lv_iconst (v := 1) hx hb dX0_isCell_28 (by decide) ?_
        refine lv_goto (tgt := 33) hx hb dX0_isCell_29 (by decide) ?_
        refine pp_zret hx hb hr hlocks rfl ?_ dX0_isCell_33
        have hres : ff_isCell c = 1 := by subst e7 e16 e22; simp only [ff_isCell, if_neg c1, if_neg c10, if_neg c25]
        rw [hres]

set_option maxHeartbeats 4000000 in
theorem xc_cellAt (lQ : Launch) (c : Int32) : pp_Met lQ yX0_cellAt (ws_ yX0_cellAt cX0_cellAt 1 (some .int)) 1 [.int c] (some (.int (ff_placeOf c))) := by
  refine pp_start (own := RX0) (by decide +kernel) (Nat.le_of_ble_eq_true rfl) rfl (fun pQ eQ sQ mQ belowQ methQ cQ hx hb hml hr hlocks hts hown ls hl => ?_)
  have hl : lv_has ls 1 [(0, .int c)] := hl
  refine lv_iload_n hx hb dX0_cellAt_0 rfl (lv_at hl 0 rfl) ?_
  refine lv_bipush (v := 100) hx hb dX0_cellAt_1 (by decide) ?_
  refine nv_idiv hx hb dX0_cellAt_3 (by decide) (fun v3 e3 => ?_)
  refine lv_iload_n hx hb dX0_cellAt_4 rfl (lv_at hl 0 rfl) ?_
  refine lv_bipush (v := 100) hx hb dX0_cellAt_5 (by decide) ?_
  refine nv_irem hx hb dX0_cellAt_7 (by decide) (fun v7 e7 => ?_)
  refine pp_calli (As := [.int v3, .int v7]) (rest := []) (n := 2) ⟨hx, hb, hml, hown, hts⟩ (xc_at lQ v3 v7) (lw_S q466 q467 q84 q468) (by decide +kernel) rfl ⟨Nat.le_of_ble_eq_true rfl, Nat.le_of_ble_eq_true rfl⟩ hl.1 rfl (Nat.le_of_ble_eq_true rfl) dX0_cellAt_8 ⟨Nat.le_of_ble_eq_true rfl, Nat.le_of_ble_eq_true rfl⟩ (fun v8 e8 => ?_)
  refine pp_iret hx hb hr hlocks ?_ dX0_cellAt_11
  have hres : ff_placeOf c = v8 := by subst e3 e7 e8; unfold ff_placeOf; rw [Int32.mul_comm]
  rw [hres]

set_option maxHeartbeats 4000000 in
theorem xc_isSpan (lQ : Launch) (s : Int32) : pp_Met lQ yX0_isSpan (ws_ yX0_isSpan cX0_isSpan 1 (some .boolean)) 0 [.int s] (some (.int (ff_isSpan s))) := by
  refine pp_start (own := RX0) (by decide +kernel) (Nat.le_of_ble_eq_true rfl) rfl (fun pQ eQ sQ mQ belowQ methQ cQ hx hb hml hr hlocks hts hown ls hl => ?_)
  have hl : lv_has ls 1 [(0, .int s)] := hl
  refine lv_iload_n hx hb dX0_isSpan_0 rfl (lv_at hl 0 rfl) ?_
  refine lv_if_lt (tgt := 28) hx hb dX0_isSpan_1 (by decide) (fun c1 => ?_) (fun c1 => ?_)
  · have t1 : (s).toInt < 0 := ww_lt c1
    refine lv_iconst (v := 0) hx hb dX0_isSpan_28 (by decide) ?_
    refine pp_zret hx hb hr hlocks rfl ?_ dX0_isSpan_29
    have hres : ff_isSpan s = 0 := by simp only [ff_isSpan, if_pos c1]
    rw [hres]
  · have t1 : 0 ≤ (s).toInt := ww_nlt c1
    refine lv_iload_n hx hb dX0_isSpan_4 rfl (lv_at hl 0 rfl) ?_
    refine lv_bipush (v := 100) hx hb dX0_isSpan_5 (by decide) ?_
    refine nv_idiv hx hb dX0_isSpan_7 (by decide) (fun v7 e7 => ?_)
    refine lv_iload_n hx hb dX0_isSpan_8 rfl (lv_at hl 0 rfl) ?_
    refine lv_bipush (v := 100) hx hb dX0_isSpan_9 (by decide) ?_
    refine nv_irem hx hb dX0_isSpan_11 (by decide) (fun v11 e11 => ?_)
    refine lv_icmp_gt (tgt := 28) hx hb dX0_isSpan_12 (by decide) (fun c12 => ?_) (fun c12 => ?_)
    · have t12 : (v11).toInt < (v7).toInt := ww_lt c12
      refine lv_iconst (v := 0) hx hb dX0_isSpan_28 (by decide) ?_
      refine pp_zret hx hb hr hlocks rfl ?_ dX0_isSpan_29
      have hres : ff_isSpan s = 0 := by subst e7 e11; simp only [ff_isSpan, if_neg c1, if_pos c12]
      rw [hres]
    · have t12 : (v7).toInt ≤ (v11).toInt := ww_nlt c12
      refine lv_iload_n hx hb dX0_isSpan_15 rfl (lv_at hl 0 rfl) ?_
      refine lv_bipush (v := 100) hx hb dX0_isSpan_16 (by decide) ?_
      refine nv_irem hx hb dX0_isSpan_18 (by decide) (fun v18 e18 => ?_)
      refine lv_bipush (v := 32) hx hb dX0_isSpan_19 (by decide) ?_
      refine lv_icmp_ge (tgt := 28) hx hb dX0_isSpan_21 (by decide) (fun c21 => ?_) (fun c21 => ?_)
      · have t21 : 32 ≤ (v18).toInt := ww_le c21
        refine lv_iconst (v := 0) hx hb dX0_isSpan_28 (by decide) ?_
        refine pp_zret hx hb hr hlocks rfl ?_ dX0_isSpan_29
        have hres : ff_isSpan s = 0 := by subst e7 e11 e18; simp only [ff_isSpan, if_neg c1, if_neg c12, if_pos c21]
        rw [hres]
      · have t21 : (v18).toInt < 32 := ww_nle c21
        refine lv_iconst (v := 1) hx hb dX0_isSpan_24 (by decide) ?_
        refine lv_goto (tgt := 29) hx hb dX0_isSpan_25 (by decide) ?_
        refine pp_zret hx hb hr hlocks rfl ?_ dX0_isSpan_29
        have hres : ff_isSpan s = 1 := by subst e7 e11 e18; simp only [ff_isSpan, if_neg c1, if_neg c12, if_neg c21]
        rw [hres]

set_option maxHeartbeats 4000000 in
theorem xc_bit (lQ : Launch) (z : Int32) : pp_Met lQ yX0_bit (ws_ yX0_bit cX0_bit 1 (some .int)) 0 [.int z] (some (.int (xf_bit z))) := by
  refine pp_start (own := RX0) (by decide +kernel) (Nat.le_of_ble_eq_true rfl) rfl (fun pQ eQ sQ mQ belowQ methQ cQ hx hb hml hr hlocks hts hown ls hl => ?_)
  have hl : lv_has ls 1 [(0, .int z)] := hl
  refine lv_iload_n hx hb dX0_bit_0 rfl (lv_at hl 0 rfl) ?_
  refine lv_if_eq (tgt := 8) hx hb dX0_bit_1 (by decide) (fun c1 => ?_) (fun c1 => ?_)
  · skip
    refine lv_iconst (v := 0) hx hb dX0_bit_8 (by decide) ?_
    refine pp_iret hx hb hr hlocks ?_ dX0_bit_9
    have hres : xf_bit z = 0 := by simp only [xf_bit, if_pos c1]
    rw [hres]
  · skip
    refine lv_iconst (v := 1) hx hb dX0_bit_4 (by decide) ?_
    refine lv_goto (tgt := 9) hx hb dX0_bit_5 (by decide) ?_
    refine pp_iret hx hb hr hlocks ?_ dX0_bit_9
    have hres : xf_bit z = 1 := by simp only [xf_bit, if_neg c1]
    rw [hres]

set_option maxHeartbeats 4000000 in
theorem xc_isMachine (lQ : Launch) (m : Int32) : pp_Met lQ yX0_isMachine (ws_ yX0_isMachine cX0_isMachine 1 (some .boolean)) 1 [.int m] (some (.int (ff_isMachine m))) := by
  refine pp_start (own := RX0) (by decide +kernel) (Nat.le_of_ble_eq_true rfl) rfl (fun pQ eQ sQ mQ belowQ methQ cQ hx hb hml hr hlocks hts hown ls hl => ?_)
  have hl : lv_has ls 1 [(0, .int m)] := hl
  refine lv_iload_n hx hb dX0_isMachine_0 rfl (lv_at hl 0 rfl) ?_
  refine lv_i2l (v := (m).toInt64) hx hb dX0_isMachine_1 rfl ?_
  refine lv_lconst (v := 0) hx hb dX0_isMachine_2 (by decide) ?_
  refine lv_ldc2 (v := 2) hx hb hown (hts _ q514) dX0_isMachine_3 ?_
  refine xx_within (rest := []) m 0 2 ⟨hx, hb, hml, hown, hts⟩ rfl (by decide) (by decide) q459 hl.1 rfl rfl (Nat.le_of_ble_eq_true rfl) rfl rfl ⟨Nat.le_of_ble_eq_true rfl, Nat.le_of_ble_eq_true rfl⟩ dX0_isMachine_6 (fun v6 e6 => ?_)
  refine pp_zret hx hb hr hlocks (by rw [e6]; exact nz_ (ff_in_b _ _ _)) ?_ dX0_isMachine_9
  have hres : ff_isMachine m = v6 := by subst e6; simp only [ff_isMachine]
  rw [hres]

set_option maxHeartbeats 4000000 in
theorem xc_isShelf (lQ : Launch) (m : Int32) : pp_Met lQ yX0_isShelf (ws_ yX0_isShelf cX0_isShelf 1 (some .boolean)) 1 [.int m] (some (.int (ff_isShelf m))) := by
  refine pp_start (own := RX0) (by decide +kernel) (Nat.le_of_ble_eq_true rfl) rfl (fun pQ eQ sQ mQ belowQ methQ cQ hx hb hml hr hlocks hts hown ls hl => ?_)
  have hl : lv_has ls 1 [(0, .int m)] := hl
  refine lv_iload_n hx hb dX0_isShelf_0 rfl (lv_at hl 0 rfl) ?_
  refine lv_i2l (v := (m).toInt64) hx hb dX0_isShelf_1 rfl ?_
  refine lv_lconst (v := 0) hx hb dX0_isShelf_2 (by decide) ?_
  refine lv_ldc2 (v := 5) hx hb hown (hts _ q515) dX0_isShelf_3 ?_
  refine xx_within (rest := []) m 0 5 ⟨hx, hb, hml, hown, hts⟩ rfl (by decide) (by decide) q459 hl.1 rfl rfl (Nat.le_of_ble_eq_true rfl) rfl rfl ⟨Nat.le_of_ble_eq_true rfl, Nat.le_of_ble_eq_true rfl⟩ dX0_isShelf_6 (fun v6 e6 => ?_)
  refine pp_zret hx hb hr hlocks (by rw [e6]; exact nz_ (ff_in_b _ _ _)) ?_ dX0_isShelf_9
  have hres : ff_isShelf m = v6 := by subst e6; simp only [ff_isShelf]
  rw [hres]

set_option maxHeartbeats 4000000 in
theorem xc_oldAt (lQ : Launch) (m : Int32) (x : Int32) (y : Int32) : pp_Met lQ yX0_oldAt (ws_ yX0_oldAt cX0_oldAt 3 (some .int)) 1 [.int m, .int x, .int y] (some (.int (xf_oldAt m x y))) := by
  refine pp_start (own := RX0) (by decide +kernel) (Nat.le_of_ble_eq_true rfl) rfl (fun pQ eQ sQ mQ belowQ methQ cQ hx hb hml hr hlocks hts hown ls hl => ?_)
  have hl : lv_has ls 3 [(0, .int m), (1, .int x), (2, .int y)] := hl
  refine lv_iload_n hx hb dX0_oldAt_0 rfl (lv_at hl 0 rfl) ?_
  refine lv_bipush (v := 32) hx hb dX0_oldAt_1 (by decide) ?_
  refine nv_imul hx hb dX0_oldAt_3 (fun v3 e3 => ?_)
  refine lv_bipush (v := 61) hx hb dX0_oldAt_4 (by decide) ?_
  refine nv_imul hx hb dX0_oldAt_6 (fun v6 e6 => ?_)
  refine lv_iload_n hx hb dX0_oldAt_7 rfl (lv_at hl 1 rfl) ?_
  refine lv_iload_n hx hb dX0_oldAt_8 rfl (lv_at hl 2 rfl) ?_
  refine pp_calli (As := [.int x, .int y]) (rest := [.int v6]) (n := 2) ⟨hx, hb, hml, hown, hts⟩ (xc_at lQ x y) (lw_S q466 q467 q84 q468) (by decide +kernel) rfl ⟨Nat.le_of_ble_eq_true rfl, Nat.le_of_ble_eq_true rfl⟩ hl.1 rfl (Nat.le_of_ble_eq_true rfl) dX0_oldAt_9 ⟨Nat.le_of_ble_eq_true rfl, Nat.le_of_ble_eq_true rfl⟩ (fun v9 e9 => ?_)
  refine nv_iadd hx hb dX0_oldAt_12 (fun v12 e12 => ?_)
  refine pp_iret hx hb hr hlocks ?_ dX0_oldAt_13
  have hres : xf_oldAt m x y = v12 := by subst e3 e6 e9 e12; simp only [xf_oldAt]
  rw [hres]

set_option maxHeartbeats 4000000 in
theorem xc_isWhat (lQ : Launch) (w : Int32) : pp_Met lQ yX0_isWhat (ws_ yX0_isWhat cX0_isWhat 1 (some .boolean)) 0 [.int w] (some (.int (xf_isWhat w))) := by
  refine pp_start (own := RX0) (by decide +kernel) (Nat.le_of_ble_eq_true rfl) rfl (fun pQ eQ sQ mQ belowQ methQ cQ hx hb hml hr hlocks hts hown ls hl => ?_)
  have hl : lv_has ls 1 [(0, .int w)] := hl
  refine lv_iload_n hx hb dX0_isWhat_0 rfl (lv_at hl 0 rfl) ?_
  refine lv_if_lt (tgt := 24) hx hb dX0_isWhat_1 (by decide) (fun c1 => ?_) (fun c1 => ?_)
  · have t1 : (w).toInt < 0 := ww_lt c1
    refine lv_iconst (v := 0) hx hb dX0_isWhat_24 (by decide) ?_
    refine pp_zret hx hb hr hlocks rfl ?_ dX0_isWhat_25
    have hres : xf_isWhat w = 0 := by simp only [xf_isWhat, if_pos c1]
    rw [hres]
  · have t1 : 0 ≤ (w).toInt := ww_nlt c1
    refine lv_iload_n hx hb dX0_isWhat_4 rfl (lv_at hl 0 rfl) ?_
    refine lv_bipush (v := 10) hx hb dX0_isWhat_5 (by decide) ?_
    refine nv_idiv hx hb dX0_isWhat_7 (by decide) (fun v7 e7 => ?_)
    refine lv_iconst (v := 1) hx hb dX0_isWhat_8 (by decide) ?_
    refine lv_icmp_gt (tgt := 24) hx hb dX0_isWhat_9 (by decide) (fun c9 => ?_) (fun c9 => ?_)
    · have t9 : 1 < (v7).toInt := ww_lt c9
      refine lv_iconst (v := 0) hx hb dX0_isWhat_24 (by decide) ?_
      refine pp_zret hx hb hr hlocks rfl ?_ dX0_isWhat_25
      have hres : xf_isWhat w = 0 := by subst e7; simp only [xf_isWhat, if_neg c1, if_pos c9]
      rw [hres]
    · have t9 : (v7).toInt ≤ 1 := ww_nlt c9
      refine lv_iload_n hx hb dX0_isWhat_12 rfl (lv_at hl 0 rfl) ?_
      refine lv_bipush (v := 10) hx hb dX0_isWhat_13 (by decide) ?_
      refine nv_irem hx hb dX0_isWhat_15 (by decide) (fun v15 e15 => ?_)
      refine lv_iconst (v := 2) hx hb dX0_isWhat_16 (by decide) ?_
      refine lv_icmp_gt (tgt := 24) hx hb dX0_isWhat_17 (by decide) (fun c17 => ?_) (fun c17 => ?_)
      · have t17 : 2 < (v15).toInt := ww_lt c17
        refine lv_iconst (v := 0) hx hb dX0_isWhat_24 (by decide) ?_
        refine pp_zret hx hb hr hlocks rfl ?_ dX0_isWhat_25
        have hres : xf_isWhat w = 0 := by subst e7 e15; simp only [xf_isWhat, if_neg c1, if_neg c9, if_pos c17]
        rw [hres]
      · have t17 : (v15).toInt ≤ 2 := ww_nlt c17
        refine lv_iconst (v := 1) hx hb dX0_isWhat_20 (by decide) ?_
        refine lv_goto (tgt := 25) hx hb dX0_isWhat_21 (by decide) ?_
        refine pp_zret hx hb hr hlocks rfl ?_ dX0_isWhat_25
        have hres : xf_isWhat w = 1 := by subst e7 e15; simp only [xf_isWhat, if_neg c1, if_neg c9, if_neg c17]
        rw [hres]

set_option maxHeartbeats 4000000 in
theorem xc_least (lQ : Launch) (q : Int32) : pp_Met lQ yX0_least (ws_ yX0_least cX0_least 1 (some .int)) 2 [.int q] (some (.int (xf_least q))) := by
  refine pp_start (own := RX0) (by decide +kernel) (Nat.le_of_ble_eq_true rfl) rfl (fun pQ eQ sQ mQ belowQ methQ cQ hx hb hml hr hlocks hts hown ls hl => ?_)
  have hl : lv_has ls 1 [(0, .int q)] := hl
  refine lv_iload_n hx hb dX0_least_0 rfl (lv_at hl 0 rfl) ?_
  refine lv_iconst (v := 4) hx hb dX0_least_1 (by decide) ?_
  refine pp_calli (As := [.int q, .int 4]) (rest := []) (n := 2) ⟨hx, hb, hml, hown, hts⟩ (xc_floorDiv lQ q 4 (by decide)) (lw_S q857 q858 q101 q859) (by decide +kernel) rfl ⟨Nat.le_of_ble_eq_true rfl, Nat.le_of_ble_eq_true rfl⟩ hl.1 rfl (Nat.le_of_ble_eq_true rfl) dX0_least_2 ⟨Nat.le_of_ble_eq_true rfl, Nat.le_of_ble_eq_true rfl⟩ (fun v2 e2 => ?_)
  refine lv_iconst (v := 0) hx hb dX0_least_5 (by decide) ?_
  refine lv_bipush (v := 31) hx hb dX0_least_6 (by decide) ?_
  refine pp_calli (As := [.int v2, .int 0, .int 31]) (rest := []) (n := 3) ⟨hx, hb, hml, hown, hts⟩ (xc_held lQ v2 0 31 (by decide)) (lw_S q860 q861 q84 q862) (by decide +kernel) rfl ⟨Nat.le_of_ble_eq_true rfl, Nat.le_of_ble_eq_true rfl⟩ hl.1 rfl (Nat.le_of_ble_eq_true rfl) dX0_least_8 ⟨Nat.le_of_ble_eq_true rfl, Nat.le_of_ble_eq_true rfl⟩ (fun v8 e8 => ?_)
  refine pp_iret hx hb hr hlocks ?_ dX0_least_11
  have hres : xf_least q = v8 := by subst e2 e8; simp only [xf_least]
  rw [hres]

set_option maxHeartbeats 4000000 in
theorem xc_most (lQ : Launch) (q : Int32) : pp_Met lQ yX0_most (ws_ yX0_most cX0_most 1 (some .int)) 2 [.int q] (some (.int (xf_most q))) := by
  refine pp_start (own := RX0) (by decide +kernel) (Nat.le_of_ble_eq_true rfl) rfl (fun pQ eQ sQ mQ belowQ methQ cQ hx hb hml hr hlocks hts hown ls hl => ?_)
  have hl : lv_has ls 1 [(0, .int q)] := hl
  refine lv_iload_n hx hb dX0_most_0 rfl (lv_at hl 0 rfl) ?_
  refine nv_ineg hx hb dX0_most_1 (fun v1 e1 => ?_)
  refine lv_iconst (v := 4) hx hb dX0_most_2 (by decide) ?_
  refine pp_calli (As := [.int v1, .int 4]) (rest := []) (n := 2) ⟨hx, hb, hml, hown, hts⟩ (xc_floorDiv lQ v1 4 (by decide)) (lw_S q857 q858 q101 q859) (by decide +kernel) rfl ⟨Nat.le_of_ble_eq_true rfl, Nat.le_of_ble_eq_true rfl⟩ hl.1 rfl (Nat.le_of_ble_eq_true rfl) dX0_most_3 ⟨Nat.le_of_ble_eq_true rfl, Nat.le_of_ble_eq_true rfl⟩ (fun v3 e3 => ?_)
  refine nv_ineg hx hb dX0_most_6 (fun v6 e6 => ?_)
  refine lv_iconst (v := 0) hx hb dX0_most_7 (by decide) ?_
  refine lv_bipush (v := 31) hx hb dX0_most_8 (by decide) ?_
  refine pp_calli (As := [.int v6, .int 0, .int 31]) (rest := []) (n := 3) ⟨hx, hb, hml, hown, hts⟩ (xc_held lQ v6 0 31 (by decide)) (lw_S q860 q861 q84 q862) (by decide +kernel) rfl ⟨Nat.le_of_ble_eq_true rfl, Nat.le_of_ble_eq_true rfl⟩ hl.1 rfl (Nat.le_of_ble_eq_true rfl) dX0_most_10 ⟨Nat.le_of_ble_eq_true rfl, Nat.le_of_ble_eq_true rfl⟩ (fun v10 e10 => ?_)
  refine pp_iret hx hb hr hlocks ?_ dX0_most_13
  have hres : xf_most q = v10 := by subst e1 e3 e6 e10; simp only [xf_most]
  rw [hres]
