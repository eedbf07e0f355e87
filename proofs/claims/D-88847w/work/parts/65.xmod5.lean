set_option maxHeartbeats 4000000 in
theorem xc_feed (lQ : Launch) (G : wm_G) (o d0 : Nat) (X : mm_S) (E : mm_E) (D : xg) (n : Int32) (v : Int32) (hL : xv_L X) : xw_Met lQ G o d0 yX0_feed (ws_ yX0_feed cX0_feed 4 (some .int)) 1 X E D [Value.ref o, .int n, .int v] (some (.int (xf_feed X n v).1)) (xf_feed X n v).2 E := by
  refine xw_start (own := RX0) (by decide +kernel) (Nat.le_of_ble_eq_true rfl) rfl (fun pQ eQ sQ mQ belowQ methQ cQ hx hb hml hr hlocks hts hown hK hN H hW hS ls hl => ?_)
  have hl : lv_has ls 4 [(0, .ref o), (1, .int n), (2, .int v)] := hl
  generalize hlc : ([] : List Loc) = locs at hS ⊢
  refine lv_iload_n hx hb dX0_feed_0 rfl (lv_at hl 1 rfl) ?_
  refine lv_i2l (v := (n).toInt64) hx hb dX0_feed_1 rfl ?_
  refine lv_lconst (v := 1) hx hb dX0_feed_2 (by decide) ?_
  refine lv_ldc2 (v := 4) hx hb hown (hts _ q912) dX0_feed_3 ?_
  refine xx_within (rest := []) n 1 4 ⟨hx, hb, hml, hown, hts⟩ rfl (by decide) (by decide) q459 hl.1 rfl rfl (Nat.le_of_ble_eq_true rfl) rfl rfl ⟨Nat.le_of_ble_eq_true rfl, Nat.le_of_ble_eq_true rfl⟩ dX0_feed_6 (fun v6 e6 => ?_)
  refine lv_if_ne (tgt := 14) hx hb dX0_feed_9 (by decide) (fun c9 => ?_) (fun c9 => ?_)
  · skip
    obtain ⟨n0, n1⟩ := ff_in_t (v := n) (a := 1) (b := 4) (by rw [← e6]; exact c9)
    have n0 : 1 ≤ n.toInt := n0
    have n1 : n.toInt ≤ 4 := n1
    obtain ⟨l0, l1⟩ := hL
    refine lv_aload_n hx hb dX0_feed_14 rfl (lv_at hl 0 rfl) ?_
    refine xx_geti hx hb hts hown hK hW 22 rfl rfl (by decide) (by decide) q295 dX0_feed_15 ?_
    refine lv_iload_n hx hb dX0_feed_18 rfl (lv_at hl 1 rfl) ?_
    refine nv_iadd hx hb dX0_feed_19 (fun v19 e19 => ?_)
    refine lv_sipush (v := 160) hx hb dX0_feed_20 (by decide) ?_
    refine lv_icmp_le (tgt := 29) hx hb dX0_feed_23 (by decide) (fun c23 => ?_) (fun c23 => ?_)
    · have t23 : (v19).toInt ≤ 160 := ww_le c23
      have ta : v19.toInt = (fd_ X 22).toInt + n.toInt := by rw [e19, ww_add] <;> omega
      refine lv_iconst (v := 0) hx hb dX0_feed_29 (by decide) ?_
      refine lv_istore_n (lv' := [(3, .int 0), (0, .ref o), (1, .int n), (2, .int v)]) hx hb dX0_feed_30 rfl hl (by decide) rfl (fun ls hl => ?_)
      have L31 : ∀ (fu31 : Nat) (k : Int32) (X1 : mm_S) (H : Heap) (locs : List Loc), (n.toInt - k.toInt < fu31) → (0 ≤ k.toInt) → (k.toInt ≤ n.toInt) → ((fd_ X1 22).toInt = (fd_ X 22).toInt + k.toInt) → (xf_fd_go fu31 X1 n v k = xf_feed X n v) → xx_W G o d0 X1 E D H → va_S (xx_F o d0) sQ.heap H locs → ∀ ls : Array Slot, lv_has ls 4 [(3, .int k), (0, .ref o), (1, .int n), (2, .int v)] → W pQ lQ eQ (wm_rm 1) sQ mQ ([Value.ref o, .int n, .int v] : List Value).toArray belowQ methQ cQ H locs 0 0 (MQ belowQ (wm_Q (fun vQ HQ => vQ = some (.int (xf_feed X n v).1) ∧ xx_W G o d0 (xf_feed X n v).2 E D HQ) (xx_F o d0)) ([Value.ref o, .int n, .int v] : List Value).toArray sQ 0 0 (xx_F o d0)) (F0 mQ 31 ls []) := by
        intro fu31
        induction fu31 with
        | zero =>
          intro k X1 H locs hm31 i031 i131 i231 hgo31 hW hS ls hl
          exact absurd hm31 (by omega)
        | succ fu31 ih31 =>
          intro k X1 H locs hm31 i031 i131 i231 hgo31 hW hS ls hl
          refine lv_iload_n hx hb dX0_feed_31 rfl (lv_at hl 0 rfl) ?_
          refine lv_iload_n hx hb dX0_feed_32 rfl (lv_at hl 2 rfl) ?_
          refine lv_icmp_ge (tgt := 68) hx hb dX0_feed_33 (by decide) (fun c33 => ?_) (fun c33 => ?_)
          · have t33 : (n).toInt ≤ (k).toInt := ww_le c33
            refine lv_aload_n hx hb dX0_feed_68 rfl (lv_at hl 1 rfl) ?_
            refine xx_geti hx hb hts hown hK hW 22 rfl rfl (by decide) (by decide) q295 dX0_feed_69 ?_
            refine xw_iret hx hb hr hlocks hW hS ?_ dX0_feed_72
            have hres : xf_feed X n v = ((fd_ X1 22), X1) := by rw [← hgo31]; simp only [xf_fd_go, if_pos c33]
            exact ⟨by rw [hres], by rw [hres], rfl⟩
          · have t33 : (k).toInt < (n).toInt := ww_nle c33
            refine lv_aload_n hx hb dX0_feed_36 rfl (lv_at hl 1 rfl) ?_
            refine xx_geta hx hb hts hown hK hW 21 rfl q293 dX0_feed_37 ?_
            refine lv_aload_n hx hb dX0_feed_40 rfl (lv_at hl 1 rfl) ?_
            refine lv_dup hx hb dX0_feed_41 rfl ?_
            refine xx_geti hx hb hts hown hK hW 22 rfl rfl (by decide) (by decide) q295 dX0_feed_42 ?_
            refine lv_dup_x1 hx hb dX0_feed_45 rfl rfl ?_
            refine lv_iconst (v := 1) hx hb dX0_feed_46 (by decide) ?_
            refine nv_iadd hx hb dX0_feed_47 (fun v47 e47 => ?_)
            refine xx_puti hx hb hts hown hK hW hS 22 rfl rfl (by decide) (by decide) (by decide) rfl rfl rfl q295 dX0_feed_48 (fun X48 H locs f48 hW hS => ?_)
            refine lv_iload_n hx hb dX0_feed_51 rfl (lv_at hl 3 rfl) ?_
            refine lv_bipush (v := 8) hx hb dX0_feed_52 (by decide) ?_
            refine lv_iload_n hx hb dX0_feed_54 rfl (lv_at hl 0 rfl) ?_
            refine nv_imul hx hb dX0_feed_55 (fun v55 e55 => ?_)
            refine nv_ishr hx hb dX0_feed_56 (fun v56 e56 => ?_)
            refine lv_sipush (v := 255) hx hb dX0_feed_57 (by decide) ?_
            refine nv_iand hx hb dX0_feed_60 (fun v60 e60 => ?_)
            refine xx_iast hx hb hK hW hS 21 rfl (ww_in (by omega) (by omega)) dX0_feed_61 (fun X61 H locs f61 hW hS => ?_)
            obtain ⟨v62, e62⟩ : ∃ yQ : Int32, yQ = k + 1 := ⟨_, rfl⟩
            refine lv_iinc (v := v62) (lv' := [(3, .int v62), (0, .ref o), (1, .int n), (2, .int v)]) hx hb dX0_feed_62 hl (k := 0) rfl (by rw [e62]; rfl) (by decide) rfl (fun ls hl => ?_)
            refine lv_goto (tgt := 31) hx hb dX0_feed_65 (by decide) ?_
            have tb : v62.toInt = k.toInt + 1 := by rw [e62]; exact ww_inc t33
            have tc : (fd_ X1 22 + 1).toInt = (fd_ X1 22).toInt + 1 := ww_inc' (by omega)
            exact ih31 v62 X61 H locs (by omega) (by omega) (by omega) (by rw [f61, fd_wn (by decide), f48, fd_fw, e47]; omega) (by rw [e62]; have z : X61 = xf_fd_2 (xf_fd_1 X1) (fd_ X1 22) v k := (by rw [f61, f48, e47, e60, e56, e55]; rfl); rw [z]; rw [xf_fd_go, if_neg c33] at hgo31; exact hgo31) hW hS ls (lv_sub hl [0, 1, 2, 3] rfl)
      exact L31 5 0 X H locs (by show _ - 0 < (5 : Int); omega) (by decide) (by show 0 ≤ _; omega) (by show _ = _ + (0 : Int); omega) (by subst e6 e19; simp only [xf_feed, if_neg c9, if_pos c23]) hW hS ls (lv_sub hl [0, 1, 2, 3] rfl)
    · have t23 : 160 < (v19).toInt := ww_nle c23
      refine lv_bipush (v := (-3)) hx hb dX0_feed_26 (by decide) ?_
      refine xw_iret hx hb hr hlocks hW hS ?_ dX0_feed_28
      have hres : xf_feed X n v = ((-3), X) := by subst e6 e19; simp only [xf_feed, if_neg c9, if_neg c23]
      exact ⟨by rw [hres], by rw [hres], rfl⟩
  · skip
    refine lv_iconst (v := (-1)) hx hb dX0_feed_12 (by decide) ?_
    refine xw_iret hx hb hr hlocks hW hS ?_ dX0_feed_13
    have hres : xf_feed X n v = ((-1), X) := by subst e6; simp only [xf_feed, if_pos c9]
    exact ⟨by rw [hres], by rw [hres], rfl⟩

set_option maxHeartbeats 4000000 in
theorem xc_wasThroughBy (lQ : Launch) (G : wm_G) (o d0 : Nat) (X : mm_S) (E : mm_E) (D : xg) (k : Int32) : xw_Met lQ G o d0 yX0_wasThroughBy (ws_ yX0_wasThroughBy cX0_wasThroughBy 3 (some .boolean)) 3 X E D [Value.ref o, .int k] (some (.int (xf_wasThroughBy X k))) X E := by
  refine xw_start (own := RX0) (by decide +kernel) (Nat.le_of_ble_eq_true rfl) rfl (fun pQ eQ sQ mQ belowQ methQ cQ hx hb hml hr hlocks hts hown hK hN H hW hS ls hl => ?_)
  have hl : lv_has ls 3 [(0, .ref o), (1, .int k)] := hl
  generalize hlc : ([] : List Loc) = locs at hS ⊢
  refine lv_iconst (v := 0) hx hb dX0_wasThroughBy_0 (by decide) ?_
  refine lv_istore_n (lv' := [(2, .int 0), (0, .ref o), (1, .int k)]) hx hb dX0_wasThroughBy_1 rfl hl (by decide) rfl (fun ls hl => ?_)
  have L2 : ∀ (fu2 : Nat) (b : Int32) (H : Heap) (locs : List Loc), ((fd_ X 4).toInt - b.toInt < fu2) → (0 ≤ b.toInt) → (b.toInt ≤ (fd_ X 4).toInt) → (xf_wt_go fu2 X k b = xf_wasThroughBy X k) → xx_W G o d0 X E D H → va_S (xx_F o d0) sQ.heap H locs → ∀ ls : Array Slot, lv_has ls 3 [(2, .int b), (0, .ref o), (1, .int k)] → W pQ lQ eQ (wm_rm 3) sQ mQ ([Value.ref o, .int k] : List Value).toArray belowQ methQ cQ H locs 0 0 (MQ belowQ (wm_Q (fun vQ HQ => vQ = some (.int (xf_wasThroughBy X k)) ∧ xx_W G o d0 X E D HQ) (xx_F o d0)) ([Value.ref o, .int k] : List Value).toArray sQ 0 0 (xx_F o d0)) (F0 mQ 2 ls []) := by
    intro fu2
    induction fu2 with
    | zero =>
      intro b H locs hm2 i02 i12 hgo2 hW hS ls hl
      exact absurd hm2 (by omega)
    | succ fu2 ih2 =>
      intro b H locs hm2 i02 i12 hgo2 hW hS ls hl
      refine lv_iload_n hx hb dX0_wasThroughBy_2 rfl (lv_at hl 0 rfl) ?_
      refine lv_aload_n hx hb dX0_wasThroughBy_3 rfl (lv_at hl 1 rfl) ?_
      refine xx_geti hx hb hts hown hK hW 4 rfl rfl (by decide) (by decide) q271 dX0_wasThroughBy_4 ?_
      refine lv_icmp_ge (tgt := 49) hx hb dX0_wasThroughBy_7 (by decide) (fun c7 => ?_) (fun c7 => ?_)
      · have t7 : ((fd_ X 4)).toInt ≤ (b).toInt := ww_le c7
        refine lv_iconst (v := 0) hx hb dX0_wasThroughBy_49 (by decide) ?_
        refine xw_zret hx hb hr hlocks hW hS rfl ?_ dX0_wasThroughBy_50
        have hres : xf_wasThroughBy X k = 0 := by rw [← hgo2]; simp only [xf_wt_go, if_pos c7]
        exact ⟨by rw [hres], rfl, rfl⟩
      · have t7 : (b).toInt < ((fd_ X 4)).toInt := ww_nle c7
        refine lv_aload_n hx hb dX0_wasThroughBy_10 rfl (lv_at hl 1 rfl) ?_
        refine lv_iload_n hx hb dX0_wasThroughBy_11 rfl (lv_at hl 0 rfl) ?_
        refine xw_b (xw_rV (As := [.int b]) (rest := []) (n := 1) ⟨hx, hb, hml, hown, hts⟩ hK hN hW (xc_holeOf lQ G o d0 X E D b) (lw_V q754 q756 qs3 q84 q757) (xr_main hK hW) (by decide +kernel) rfl ⟨Nat.le_of_ble_eq_true rfl, Nat.le_of_ble_eq_true rfl⟩ hl.1 rfl (Nat.le_of_ble_eq_true rfl) dX0_wasThroughBy_12 ⟨Nat.le_of_ble_eq_true rfl, Nat.le_of_ble_eq_true rfl⟩) hS (fun v12 H locs e12 hW hS => ?_)
        refine xl_ifnull (tgt := 43) hx hb dX0_wasThroughBy_15 (by decide) (fun c15 => ?_) (fun c15 => ?_)
        · have t15 : (v12).toInt < 0 := ww_lt c15
          obtain ⟨v43, e43⟩ : ∃ yQ : Int32, yQ = b + 1 := ⟨_, rfl⟩
          refine lv_iinc (v := v43) (lv' := [(2, .int v43), (0, .ref o), (1, .int k)]) hx hb dX0_wasThroughBy_43 hl (k := 0) rfl (by rw [e43]; rfl) (by decide) rfl (fun ls hl => ?_)
          refine lv_goto (tgt := 2) hx hb dX0_wasThroughBy_46 (by decide) ?_
          have tb : v43.toInt = b.toInt + 1 := by rw [e43]; exact ww_inc t7
          exact ih2 v43 H locs (by omega) (by omega) (by omega) (by subst e12 e43; simp only [xf_wt_go, if_neg c7, if_pos c15] at hgo2; exact hgo2) hW hS ls (lv_sub hl [0, 1, 2] rfl)
        · have t15 : 0 ≤ (v12).toInt := ww_nlt c15
          have hi15 : xh_in X (xf_holeOf X b) := xf_holeOf_q (xv_W hW) (by rw [← e12]; exact c15)
          refine lv_aload_n hx hb dX0_wasThroughBy_18 rfl (lv_at hl 1 rfl) ?_
          refine lv_iload_n hx hb dX0_wasThroughBy_19 rfl (lv_at hl 0 rfl) ?_
          refine xw_b (xw_rV (As := [.int b]) (rest := []) (n := 1) ⟨hx, hb, hml, hown, hts⟩ hK hN hW (xc_holeOf lQ G o d0 X E D b) (lw_V q754 q756 qs3 q84 q757) (xr_main hK hW) (by decide +kernel) rfl ⟨Nat.le_of_ble_eq_true rfl, Nat.le_of_ble_eq_true rfl⟩ hl.1 rfl (Nat.le_of_ble_eq_true rfl) dX0_wasThroughBy_20 ⟨Nat.le_of_ble_eq_true rfl, Nat.le_of_ble_eq_true rfl⟩) hS (fun v20 H locs e20 hW hS => ?_)
          refine xw_p (xd_isThrough_X0 (rest := []) lQ ⟨hx, hb, hml, hown, hts⟩ hK hN hW (show xh_in X v20 from by rw [e20]; exact hi15) ⟨Nat.le_of_ble_eq_true rfl, Nat.le_of_ble_eq_true rfl⟩ hl.1 (by rw [xx_o_pos (show xh_in X v20 from by rw [e20]; exact hi15).1.1]; rfl) (Nat.le_of_ble_eq_true rfl) dX0_wasThroughBy_23 ⟨Nat.le_of_ble_eq_true rfl, Nat.le_of_ble_eq_true rfl⟩) hS (fun v23 H locs e23 hW hS => ?_)
          refine lv_if_eq (tgt := 43) hx hb dX0_wasThroughBy_26 (by decide) (fun c26 => ?_) (fun c26 => ?_)
          · skip
            obtain ⟨v43, e43⟩ : ∃ yQ : Int32, yQ = b + 1 := ⟨_, rfl⟩
            refine lv_iinc (v := v43) (lv' := [(2, .int v43), (0, .ref o), (1, .int k)]) hx hb dX0_wasThroughBy_43 hl (k := 0) rfl (by rw [e43]; rfl) (by decide) rfl (fun ls hl => ?_)
            refine lv_goto (tgt := 2) hx hb dX0_wasThroughBy_46 (by decide) ?_
            have tb : v43.toInt = b.toInt + 1 := by rw [e43]; exact ww_inc t7
            exact ih2 v43 H locs (by omega) (by omega) (by omega) (by subst e12 e20 e23 e43; simp only [xf_wt_go, if_neg c7, if_neg c15, if_pos c26] at hgo2; exact hgo2) hW hS ls (lv_sub hl [0, 1, 2] rfl)
          · skip
            refine lv_aload_n hx hb dX0_wasThroughBy_29 rfl (lv_at hl 1 rfl) ?_
            refine lv_iload_n hx hb dX0_wasThroughBy_30 rfl (lv_at hl 0 rfl) ?_
            refine xw_b (xw_rV (As := [.int b]) (rest := []) (n := 1) ⟨hx, hb, hml, hown, hts⟩ hK hN hW (xc_holeOf lQ G o d0 X E D b) (lw_V q754 q756 qs3 q84 q757) (xr_main hK hW) (by decide +kernel) rfl ⟨Nat.le_of_ble_eq_true rfl, Nat.le_of_ble_eq_true rfl⟩ hl.1 rfl (Nat.le_of_ble_eq_true rfl) dX0_wasThroughBy_31 ⟨Nat.le_of_ble_eq_true rfl, Nat.le_of_ble_eq_true rfl⟩) hS (fun v31 H locs e31 hW hS => ?_)
            refine xl_top (show xh_in X v31 from by rw [e31]; exact hi15).1.1 ?_
            refine xb_getN hx hb hts hown hK hW (show xh_in X v31 from by rw [e31]; exact hi15).1 (k := 11) (xf_hole (show xh_in X v31 from by rw [e31]; exact hi15).2 (k := 11) (by decide)) (hN.nf q538) rfl (xb_vi (f := 69) (xf_hole (show xh_in X v31 from by rw [e31]; exact hi15).2 (k := 11) (by decide)) (by decide)) dX0_wasThroughBy_34 ?_
            refine lv_iload_n hx hb dX0_wasThroughBy_37 rfl (lv_at hl 2 rfl) ?_
            refine lv_icmp_gt (tgt := 43) hx hb dX0_wasThroughBy_38 (by decide) (fun c38 => ?_) (fun c38 => ?_)
            · have t38 : (k).toInt < ((rd_ X 69 v31)).toInt := ww_lt c38
              obtain ⟨v43, e43⟩ : ∃ yQ : Int32, yQ = b + 1 := ⟨_, rfl⟩
              refine lv_iinc (v := v43) (lv' := [(2, .int v43), (0, .ref o), (1, .int k)]) hx hb dX0_wasThroughBy_43 hl (k := 0) rfl (by rw [e43]; rfl) (by decide) rfl (fun ls hl => ?_)
              refine lv_goto (tgt := 2) hx hb dX0_wasThroughBy_46 (by decide) ?_
              have tb : v43.toInt = b.toInt + 1 := by rw [e43]; exact ww_inc t7
              exact ih2 v43 H locs (by omega) (by omega) (by omega) (by subst e12 e20 e23 e31 e43; simp only [xf_wt_go, if_neg c7, if_neg c15, if_neg c26, if_pos c38] at hgo2; exact hgo2) hW hS ls (lv_sub hl [0, 1, 2] rfl)
            · have t38 : ((rd_ X 69 v31)).toInt ≤ (k).toInt := ww_nlt c38
              refine lv_iconst (v := 1) hx hb dX0_wasThroughBy_41 (by decide) ?_
              refine xw_zret hx hb hr hlocks hW hS rfl ?_ dX0_wasThroughBy_42
              have hres : xf_wasThroughBy X k = 1 := by rw [← hgo2]; subst e12 e20 e23 e31; simp only [xf_wt_go, if_neg c7, if_neg c15, if_neg c26, if_neg c38]
              exact ⟨by rw [hres], rfl, rfl⟩
  exact L2 121 0 H locs (by have := (xv_W hW).2; show _ - 0 < _; omega) (by decide) (xv_W hW).1 (rfl) hW hS ls (lv_sub hl [0, 1, 2] rfl)

set_option maxHeartbeats 4000000 in
theorem xc_force (lQ : Launch) (G : wm_G) (o d0 : Nat) (X : mm_S) (E : mm_E) (D : xg) (w : Int32) (h : Int32) (k : Int32) (hX : xv_X X) : xw_Met lQ G o d0 yX0_force (ws_ yX0_force cX0_force 6 (some .int)) 4 X E D [Value.ref o, .int w, .int h, .int k] (some (.int (xf_force X w h k))) X E := by
  refine xw_start (own := RX0) (by decide +kernel) (Nat.le_of_ble_eq_true rfl) rfl (fun pQ eQ sQ mQ belowQ methQ cQ hx hb hml hr hlocks hts hown hK hN H hW hS ls hl => ?_)
  have hl : lv_has ls 6 [(0, .ref o), (1, .int w), (2, .int h), (3, .int k)] := hl
  generalize hlc : ([] : List Loc) = locs at hS ⊢
  refine lv_aload_n hx hb dX0_force_0 rfl (lv_at hl 0 rfl) ?_
  refine lv_iload_n hx hb dX0_force_1 rfl (lv_at hl 3 rfl) ?_
  obtain ⟨l0, l1⟩ := hX
  refine xw_p (xw_rV (As := [.int k]) (rest := []) (n := 1) ⟨hx, hb, hml, hown, hts⟩ hK hN hW (xc_wasThroughBy lQ G o d0 X E D k) (lw_V q1129 q1131 qs21 q84 q1132) (xr_main hK hW) (by decide +kernel) rfl ⟨Nat.le_of_ble_eq_true rfl, Nat.le_of_ble_eq_true rfl⟩ hl.1 rfl (Nat.le_of_ble_eq_true rfl) dX0_force_2 ⟨Nat.le_of_ble_eq_true rfl, Nat.le_of_ble_eq_true rfl⟩) hS (fun v2 H locs e2 hW hS => ?_)
  refine lv_istore (lv' := [(4, .int v2), (0, .ref o), (1, .int w), (2, .int h), (3, .int k)]) hx hb dX0_force_5 hl (by decide) rfl (fun ls hl => ?_)
  refine lv_aload_n hx hb dX0_force_7 rfl (lv_at hl 1 rfl) ?_
  refine xx_geti hx hb hts hown hK hW 25 rfl rfl (by decide) (by decide) q298 dX0_force_8 ?_
  refine lv_iconst (v := 1) hx hb dX0_force_11 (by decide) ?_
  refine nv_isub hx hb dX0_force_12 (fun v12 e12 => ?_)
  refine lv_istore (lv' := [(5, .int v12), (4, .int v2), (0, .ref o), (1, .int w), (2, .int h), (3, .int k)]) hx hb dX0_force_13 hl (by decide) rfl (fun ls hl => ?_)
  have L15 : ∀ (fu15 : Nat) (i : Int32) (H : Heap) (locs : List Loc), (i.toInt + 1 < fu15) → (-1 ≤ i.toInt) → (i.toInt < 16) → (xf_fo_go fu15 X w h k v2 i = xf_force X w h k) → xx_W G o d0 X E D H → va_S (xx_F o d0) sQ.heap H locs → ∀ ls : Array Slot, lv_has ls 6 [(5, .int i), (4, .int v2), (0, .ref o), (1, .int w), (2, .int h), (3, .int k)] → W pQ lQ eQ (wm_rm 4) sQ mQ ([Value.ref o, .int w, .int h, .int k] : List Value).toArray belowQ methQ cQ H locs 0 0 (MQ belowQ (wm_Q (fun vQ HQ => vQ = some (.int (xf_force X w h k)) ∧ xx_W G o d0 X E D HQ) (xx_F o d0)) ([Value.ref o, .int w, .int h, .int k] : List Value).toArray sQ 0 0 (xx_F o d0)) (F0 mQ 15 ls []) := by
    intro fu15
    induction fu15 with
    | zero =>
      intro i H locs hm15 i015 i115 hgo15 hW hS ls hl
      exact absurd hm15 (by omega)
    | succ fu15 ih15 =>
      intro i H locs hm15 i015 i115 hgo15 hW hS ls hl
      refine lv_iload hx hb dX0_force_15 (lv_at hl 0 rfl) ?_
      refine lv_if_lt (tgt := 99) hx hb dX0_force_17 (by decide) (fun c17 => ?_) (fun c17 => ?_)
      · have t17 : (i).toInt < 0 := ww_lt c17
        refine lv_iload hx hb dX0_force_99 (lv_at hl 0 rfl) ?_
        refine xw_iret hx hb hr hlocks hW hS ?_ dX0_force_101
        have hres : xf_force X w h k = i := by rw [← hgo15]; simp only [xf_fo_go, if_pos c17]
        exact ⟨by rw [hres], rfl, rfl⟩
      · have t17 : 0 ≤ (i).toInt := ww_nlt c17
        refine lv_aload_n hx hb dX0_force_20 rfl (lv_at hl 2 rfl) ?_
        refine xx_getr hx hb hts hown hK hW 24 rfl rfl (by decide) (by decide) q297 dX0_force_21 ?_
        refine lv_iload hx hb dX0_force_24 (lv_at hl 0 rfl) ?_
        refine xx_tald hx hb hK hW (ww_in (by omega) (by omega)) dX0_force_26 ?_
        refine xt_geti hx hb hts hown hK hW (ww_in (by omega) (by omega)) 3 (by decide) (by decide) (hN.nf q245) dX0_force_27 ?_
        refine lv_bipush (v := 10) hx hb dX0_force_30 (by decide) ?_
        refine nv_irem hx hb dX0_force_32 (by decide) (fun v32 e32 => ?_)
        refine lv_iload_n hx hb dX0_force_33 rfl (lv_at hl 3 rfl) ?_
        refine lv_bipush (v := 10) hx hb dX0_force_34 (by decide) ?_
        refine nv_irem hx hb dX0_force_36 (by decide) (fun v36 e36 => ?_)
        refine lv_icmp_ne (tgt := 93) hx hb dX0_force_37 (by decide) (fun c37 => ?_) (fun c37 => ?_)
        · skip
          obtain ⟨v93, e93⟩ : ∃ yQ : Int32, yQ = i + (-1) := ⟨_, rfl⟩
          refine lv_iinc (v := v93) (lv' := [(5, .int v93), (4, .int v2), (0, .ref o), (1, .int w), (2, .int h), (3, .int k)]) hx hb dX0_force_93 hl (k := 0) rfl (by rw [e93]; rfl) (by decide) rfl (fun ls hl => ?_)
          refine lv_goto (tgt := 15) hx hb dX0_force_96 (by decide) ?_
          have tb : v93.toInt = i.toInt - 1 := by rw [e93]; exact ww_dec (by omega)
          exact ih15 v93 H locs (by omega) (by omega) (by omega) (by subst e32 e36 e93; simp only [xf_fo_go, if_neg c17, if_neg c37] at hgo15; exact hgo15) hW hS ls (lv_sub hl [0, 1, 2, 3, 4, 5] rfl)
        · skip
          refine lv_aload_n hx hb dX0_force_40 rfl (lv_at hl 2 rfl) ?_
          refine xx_getr hx hb hts hown hK hW 24 rfl rfl (by decide) (by decide) q297 dX0_force_41 ?_
          refine lv_iload hx hb dX0_force_44 (lv_at hl 0 rfl) ?_
          refine xx_tald hx hb hK hW (ww_in (by omega) (by omega)) dX0_force_46 ?_
          refine xt_geti hx hb hts hown hK hW (ww_in (by omega) (by omega)) 3 (by decide) (by decide) (hN.nf q245) dX0_force_47 ?_
          refine lv_bipush (v := 10) hx hb dX0_force_50 (by decide) ?_
          refine nv_idiv hx hb dX0_force_52 (by decide) (fun v52 e52 => ?_)
          refine lv_iload_n hx hb dX0_force_53 rfl (lv_at hl 3 rfl) ?_
          refine lv_bipush (v := 10) hx hb dX0_force_54 (by decide) ?_
          refine nv_idiv hx hb dX0_force_56 (by decide) (fun v56 e56 => ?_)
          refine lv_icmp_eq (tgt := 65) hx hb dX0_force_57 (by decide) (fun c57 => ?_) (fun c57 => ?_)
          · skip
            refine lv_aload_n hx hb dX0_force_65 rfl (lv_at hl 2 rfl) ?_
            refine xx_getr hx hb hts hown hK hW 24 rfl rfl (by decide) (by decide) q297 dX0_force_66 ?_
            refine lv_iload hx hb dX0_force_69 (lv_at hl 0 rfl) ?_
            refine xx_tald hx hb hK hW (ww_in (by omega) (by omega)) dX0_force_71 ?_
            refine xt_geti hx hb hts hown hK hW (ww_in (by omega) (by omega)) 5 (by decide) (by decide) (hN.nf q247) dX0_force_72 ?_
            refine lv_iload_n hx hb dX0_force_75 rfl (lv_at hl 5 rfl) ?_
            refine lv_icmp_gt (tgt := 93) hx hb dX0_force_76 (by decide) (fun c76 => ?_) (fun c76 => ?_)
            · have t76 : (k).toInt < ((rd_ X 93 i)).toInt := ww_lt c76
              obtain ⟨v93, e93⟩ : ∃ yQ : Int32, yQ = i + (-1) := ⟨_, rfl⟩
              refine lv_iinc (v := v93) (lv' := [(5, .int v93), (4, .int v2), (0, .ref o), (1, .int w), (2, .int h), (3, .int k)]) hx hb dX0_force_93 hl (k := 0) rfl (by rw [e93]; rfl) (by decide) rfl (fun ls hl => ?_)
              refine lv_goto (tgt := 15) hx hb dX0_force_96 (by decide) ?_
              have tb : v93.toInt = i.toInt - 1 := by rw [e93]; exact ww_dec (by omega)
              exact ih15 v93 H locs (by omega) (by omega) (by omega) (by subst e32 e36 e52 e56 e93; simp only [xf_fo_go, if_neg c17, if_pos c37, if_pos c57, if_pos c76] at hgo15; exact hgo15) hW hS ls (lv_sub hl [0, 1, 2, 3, 4, 5] rfl)
            · have t76 : ((rd_ X 93 i)).toInt ≤ (k).toInt := ww_nlt c76
              refine lv_aload_n hx hb dX0_force_79 rfl (lv_at hl 2 rfl) ?_
              refine xx_getr hx hb hts hown hK hW 24 rfl rfl (by decide) (by decide) q297 dX0_force_80 ?_
              refine lv_iload hx hb dX0_force_83 (lv_at hl 0 rfl) ?_
              refine xx_tald hx hb hK hW (ww_in (by omega) (by omega)) dX0_force_85 ?_
              refine xt_geti hx hb hts hown hK hW (ww_in (by omega) (by omega)) 4 (by decide) (by decide) (hN.nf q246) dX0_force_86 ?_
              refine lv_iload_n hx hb dX0_force_89 rfl (lv_at hl 4 rfl) ?_
              refine lv_icmp_le (tgt := 99) hx hb dX0_force_90 (by decide) (fun c90 => ?_) (fun c90 => ?_)
              · have t90 : ((rd_ X 92 i)).toInt ≤ (h).toInt := ww_le c90
                refine lv_iload hx hb dX0_force_99 (lv_at hl 0 rfl) ?_
                refine xw_iret hx hb hr hlocks hW hS ?_ dX0_force_101
                have hres : xf_force X w h k = i := by rw [← hgo15]; subst e32 e36 e52 e56; simp only [xf_fo_go, if_neg c17, if_pos c37, if_pos c57, if_neg c76, if_pos c90]
                exact ⟨by rw [hres], rfl, rfl⟩
              · have t90 : (h).toInt < ((rd_ X 92 i)).toInt := ww_nle c90
                obtain ⟨v93, e93⟩ : ∃ yQ : Int32, yQ = i + (-1) := ⟨_, rfl⟩
                refine lv_iinc (v := v93) (lv' := [(5, .int v93), (4, .int v2), (0, .ref o), (1, .int w), (2, .int h), (3, .int k)]) hx hb dX0_force_93 hl (k := 0) rfl (by rw [e93]; rfl) (by decide) rfl (fun ls hl => ?_)
                refine lv_goto (tgt := 15) hx hb dX0_force_96 (by decide) ?_
                have tb : v93.toInt = i.toInt - 1 := by rw [e93]; exact ww_dec (by omega)
                exact ih15 v93 H locs (by omega) (by omega) (by omega) (by subst e32 e36 e52 e56 e93; simp only [xf_fo_go, if_neg c17, if_pos c37, if_pos c57, if_neg c76, if_neg c90] at hgo15; exact hgo15) hW hS ls (lv_sub hl [0, 1, 2, 3, 4, 5] rfl)
          · skip
            refine lv_iload hx hb dX0_force_60 (lv_at hl 1 rfl) ?_
            refine lv_if_eq (tgt := 93) hx hb dX0_force_62 (by decide) (fun c62 => ?_) (fun c62 => ?_)
            · skip
              obtain ⟨v93, e93⟩ : ∃ yQ : Int32, yQ = i + (-1) := ⟨_, rfl⟩
              refine lv_iinc (v := v93) (lv' := [(5, .int v93), (4, .int v2), (0, .ref o), (1, .int w), (2, .int h), (3, .int k)]) hx hb dX0_force_93 hl (k := 0) rfl (by rw [e93]; rfl) (by decide) rfl (fun ls hl => ?_)
              refine lv_goto (tgt := 15) hx hb dX0_force_96 (by decide) ?_
              have tb : v93.toInt = i.toInt - 1 := by rw [e93]; exact ww_dec (by omega)
              exact ih15 v93 H locs (by omega) (by omega) (by omega) (by subst e32 e36 e52 e56 e93; simp only [xf_fo_go, if_neg c17, if_pos c37, if_neg c57, if_pos c62] at hgo15; exact hgo15) hW hS ls (lv_sub hl [0, 1, 2, 3, 4, 5] rfl)
            · skip
              refine lv_aload_n hx hb dX0_force_65 rfl (lv_at hl 2 rfl) ?_
              refine xx_getr hx hb hts hown hK hW 24 rfl rfl (by decide) (by decide) q297 dX0_force_66 ?_
              refine lv_iload hx hb dX0_force_69 (lv_at hl 0 rfl) ?_
              refine xx_tald hx hb hK hW (ww_in (by omega) (by omega)) dX0_force_71 ?_
              refine xt_geti hx hb hts hown hK hW (ww_in (by omega) (by omega)) 5 (by decide) (by decide) (hN.nf q247) dX0_force_72 ?_
              refine lv_iload_n hx hb dX0_force_75 rfl (lv_at hl 5 rfl) ?_
              refine lv_icmp_gt (tgt := 93) hx hb dX0_force_76 (by decide) (fun c76 => ?_) (fun c76 => ?_)
              · have t76 : (k).toInt < ((rd_ X 93 i)).toInt := ww_lt c76
                obtain ⟨v93, e93⟩ : ∃ yQ : Int32, yQ = i + (-1) := ⟨_, rfl⟩
                refine lv_iinc (v := v93) (lv' := [(5, .int v93), (4, .int v2), (0, .ref o), (1, .int w), (2, .int h), (3, .int k)]) hx hb dX0_force_93 hl (k := 0) rfl (by rw [e93]; rfl) (by decide) rfl (fun ls hl => ?_)
                refine lv_goto (tgt := 15) hx hb dX0_force_96 (by decide) ?_
                have tb : v93.toInt = i.toInt - 1 := by rw [e93]; exact ww_dec (by omega)
                exact ih15 v93 H locs (by omega) (by omega) (by omega) (by subst e32 e36 e52 e56 e93; simp only [xf_fo_go, if_neg c17, if_pos c37, if_neg c57, if_neg c62, if_pos c76] at hgo15; exact hgo15) hW hS ls (lv_sub hl [0, 1, 2, 3, 4, 5] rfl)
              · have t76 : ((rd_ X 93 i)).toInt ≤ (k).toInt := ww_nlt c76
                refine lv_aload_n hx hb dX0_force_79 rfl (lv_at hl 2 rfl) ?_
                refine xx_getr hx hb hts hown hK hW 24 rfl rfl (by decide) (by decide) q297 dX0_force_80 ?_
                refine lv_iload hx hb dX0_force_83 (lv_at hl 0 rfl) ?_
                refine xx_tald hx hb hK hW (ww_in (by omega) (by omega)) dX0_force_85 ?_
                refine xt_geti hx hb hts hown hK hW (ww_in (by omega) (by omega)) 4 (by decide) (by decide) (hN.nf q246) dX0_force_86 ?_
                refine lv_iload_n hx hb dX0_force_89 rfl (lv_at hl 4 rfl) ?_
                refine lv_icmp_le (tgt := 99) hx hb dX0_force_90 (by decide) (fun c90 => ?_) (fun c90 => ?_)
                · have t90 : ((rd_ X 92 i)).toInt ≤ (h).toInt := ww_le c90
                  refine lv_iload hx hb dX0_force_99 (lv_at hl 0 rfl) ?_
                  refine xw_iret hx hb hr hlocks hW hS ?_ dX0_force_101
                  have hres : xf_force X w h k = i := by rw [← hgo15]; subst e32 e36 e52 e56; simp only [xf_fo_go, if_neg c17, if_pos c37, if_neg c57, if_neg c62, if_neg c76, if_pos c90]
                  exact ⟨by rw [hres], rfl, rfl⟩
                · have t90 : (h).toInt < ((rd_ X 92 i)).toInt := ww_nle c90
                  obtain ⟨v93, e93⟩ : ∃ yQ : Int32, yQ = i + (-1) := ⟨_, rfl⟩
                  refine lv_iinc (v := v93) (lv' := [(5, .int v93), (4, .int v2), (0, .ref o), (1, .int w), (2, .int h), (3, .int k)]) hx hb dX0_force_93 hl (k := 0) rfl (by rw [e93]; rfl) (by decide) rfl (fun ls hl => ?_)
                  refine lv_goto (tgt := 15) hx hb dX0_force_96 (by decide) ?_
                  have tb : v93.toInt = i.toInt - 1 := by rw [e93]; exact ww_dec (by omega)
                  exact ih15 v93 H locs (by omega) (by omega) (by omega) (by subst e32 e36 e52 e56 e93; simp only [xf_fo_go, if_neg c17, if_pos c37, if_neg c57, if_neg c62, if_neg c76, if_neg c90] at hgo15; exact hgo15) hW hS ls (lv_sub hl [0, 1, 2, 3, 4, 5] rfl)
  exact L15 17 v12 H locs (by rw [e12, ww_sub1 (by omega)]; show _ < (17 : Int); omega) (by rw [e12, ww_sub1 (by omega)]; omega) (by rw [e12, ww_sub1 (by omega)]; omega) (by rw [e12, e2]; rfl) hW hS ls (lv_sub hl [0, 1, 2, 3, 4, 5] rfl)

set_option maxHeartbeats 4000000 in
theorem xc_inForce (lQ : Launch) (G : wm_G) (o d0 : Nat) (X : mm_S) (E : mm_E) (D : xg) (w : Int32) (h : Int32) (k : Int32) (hX : xv_X X) : xw_Met lQ G o d0 yX0_inForce (ws_ yX0_inForce cX0_inForce 5 (some .int)) 5 X E D [Value.ref o, .int w, .int h, .int k] (some (.int (xf_inForce X w h k))) X E := by
  refine xw_start (own := RX0) (by decide +kernel) (Nat.le_of_ble_eq_true rfl) rfl (fun pQ eQ sQ mQ belowQ methQ cQ hx hb hml hr hlocks hts hown hK hN H hW hS ls hl => ?_)
  have hl : lv_has ls 5 [(0, .ref o), (1, .int w), (2, .int h), (3, .int k)] := hl
  generalize hlc : ([] : List Loc) = locs at hS ⊢
  refine lv_iload_n hx hb dX0_inForce_0 rfl (lv_at hl 1 rfl) ?_
  refine pp_calli (As := [.int w]) (rest := []) (n := 1) ⟨hx, hb, hml, hown, hts⟩ (xc_isWhat lQ w) (lw_S q917 q918 q84 q919) (by decide +kernel) rfl ⟨Nat.le_of_ble_eq_true rfl, Nat.le_of_ble_eq_true rfl⟩ hl.1 rfl (Nat.le_of_ble_eq_true rfl) dX0_inForce_1 ⟨Nat.le_of_ble_eq_true rfl, Nat.le_of_ble_eq_true rfl⟩ (fun v1 e1 => ?_)
  refine lv_if_eq (tgt := 31) hx hb dX0_inForce_4 (by decide) (fun c4 => ?_) (fun c4 => ?_)
  · skip
    refine lv_iconst (v := (-1)) hx hb dX0_inForce_31 (by decide) ?_
    refine xw_iret hx hb hr hlocks hW hS ?_ dX0_inForce_32
    have hres : xf_inForce X w h k = (-1) := by subst e1; simp only [xf_inForce, if_pos c4]
    exact ⟨by rw [hres], rfl, rfl⟩
  · skip
    refine lv_iload_n hx hb dX0_inForce_7 rfl (lv_at hl 2 rfl) ?_
    refine lv_i2l (v := (h).toInt64) hx hb dX0_inForce_8 rfl ?_
    refine lv_lconst (v := 0) hx hb dX0_inForce_9 (by decide) ?_
    refine lv_ldc2 (v := 1699) hx hb hown (hts _ q799) dX0_inForce_10 ?_
    refine xx_within (rest := []) h 0 1699 ⟨hx, hb, hml, hown, hts⟩ rfl (by decide) (by decide) q459 hl.1 rfl rfl (Nat.le_of_ble_eq_true rfl) rfl rfl ⟨Nat.le_of_ble_eq_true rfl, Nat.le_of_ble_eq_true rfl⟩ dX0_inForce_13 (fun v13 e13 => ?_)
    refine lv_if_eq (tgt := 31) hx hb dX0_inForce_16 (by decide) (fun c16 => ?_) (fun c16 => ?_)
    · skip
      refine lv_iconst (v := (-1)) hx hb dX0_inForce_31 (by decide) ?_
      refine xw_iret hx hb hr hlocks hW hS ?_ dX0_inForce_32
      have hres : xf_inForce X w h k = (-1) := by subst e1 e13; simp only [xf_inForce, if_neg c4, if_pos c16]
      exact ⟨by rw [hres], rfl, rfl⟩
    · skip
      refine lv_iload_n hx hb dX0_inForce_19 rfl (lv_at hl 3 rfl) ?_
      refine lv_i2l (v := (k).toInt64) hx hb dX0_inForce_20 rfl ?_
      refine lv_lconst (v := 0) hx hb dX0_inForce_21 (by decide) ?_
      refine lv_ldc2 (v := 1699) hx hb hown (hts _ q799) dX0_inForce_22 ?_
      refine xx_within (rest := []) k 0 1699 ⟨hx, hb, hml, hown, hts⟩ rfl (by decide) (by decide) q459 hl.1 rfl rfl (Nat.le_of_ble_eq_true rfl) rfl rfl ⟨Nat.le_of_ble_eq_true rfl, Nat.le_of_ble_eq_true rfl⟩ dX0_inForce_25 (fun v25 e25 => ?_)
      refine lv_if_ne (tgt := 33) hx hb dX0_inForce_28 (by decide) (fun c28 => ?_) (fun c28 => ?_)
      · skip
        refine lv_aload_n hx hb dX0_inForce_33 rfl (lv_at hl 0 rfl) ?_
        refine lv_iload_n hx hb dX0_inForce_34 rfl (lv_at hl 1 rfl) ?_
        refine lv_iload_n hx hb dX0_inForce_35 rfl (lv_at hl 2 rfl) ?_
        refine lv_iload_n hx hb dX0_inForce_36 rfl (lv_at hl 3 rfl) ?_
        refine xw_p (xw_rV (As := [.int w, .int h, .int k]) (rest := []) (n := 3) ⟨hx, hb, hml, hown, hts⟩ hK hN hW (xc_force lQ G o d0 X E D w h k hX) (lw_V q1125 q1127 qs20 q84 q1128) (xr_main hK hW) (by decide +kernel) rfl ⟨Nat.le_of_ble_eq_true rfl, Nat.le_of_ble_eq_true rfl⟩ hl.1 rfl (Nat.le_of_ble_eq_true rfl) dX0_inForce_37 ⟨Nat.le_of_ble_eq_true rfl, Nat.le_of_ble_eq_true rfl⟩) hS (fun v37 H locs e37 hW hS => ?_)
        refine lv_istore (lv' := [(4, .int v37), (0, .ref o), (1, .int w), (2, .int h), (3, .int k)]) hx hb dX0_inForce_40 hl (by decide) rfl (fun ls hl => ?_)
        refine lv_iload hx hb dX0_inForce_42 (lv_at hl 0 rfl) ?_
        refine lv_iconst (v := (-1)) hx hb dX0_inForce_44 (by decide) ?_
        refine lv_icmp_ne (tgt := 53) hx hb dX0_inForce_45 (by decide) (fun c45 => ?_) (fun c45 => ?_)
        · skip
          refine lv_iload hx hb dX0_inForce_53 (lv_at hl 0 rfl) ?_
          refine xw_iret hx hb hr hlocks hW hS ?_ dX0_inForce_55
          have hres : xf_inForce X w h k = v37 := by subst e1 e13 e25 e37; simp only [xf_inForce, if_neg c4, if_neg c16, if_neg c28, if_neg c45]
          exact ⟨by rw [hres], rfl, rfl⟩
        · skip
          refine lv_bipush (v := (-2)) hx hb dX0_inForce_48 (by decide) ?_
          refine lv_goto (tgt := 55) hx hb dX0_inForce_50 (by decide) ?_
          refine xw_iret hx hb hr hlocks hW hS ?_ dX0_inForce_55
          have hres : xf_inForce X w h k = (-2) := by subst e1 e13 e25 e37; simp only [xf_inForce, if_neg c4, if_neg c16, if_neg c28, if_pos c45]
          exact ⟨by rw [hres], rfl, rfl⟩
      · skip
        refine lv_iconst (v := (-1)) hx hb dX0_inForce_31 (by decide) ?_
        refine xw_iret hx hb hr hlocks hW hS ?_ dX0_inForce_32
        have hres : xf_inForce X w h k = (-1) := by subst e1 e13 e25; simp only [xf_inForce, if_neg c4, if_neg c16, if_pos c28]
        exact ⟨by rw [hres], rfl, rfl⟩

set_option maxHeartbeats 4000000 in
theorem xc_belowMany (lQ : Launch) (G : wm_G) (o d0 : Nat) (X : mm_S) (E : mm_E) (D : xg) : xw_Met lQ G o d0 yX0_belowMany (ws_ yX0_belowMany cX0_belowMany 3 (some .int)) 4 X E D [Value.ref o] (some (.int (xf_belowMany X))) X E := by
  refine xw_start (own := RX0) (by decide +kernel) (Nat.le_of_ble_eq_true rfl) rfl (fun pQ eQ sQ mQ belowQ methQ cQ hx hb hml hr hlocks hts hown hK hN H hW hS ls hl => ?_)
  have hl : lv_has ls 3 [(0, .ref o)] := hl
  generalize hlc : ([] : List Loc) = locs at hS ⊢
  refine lv_iconst (v := 0) hx hb dX0_belowMany_0 (by decide) ?_
  refine lv_istore_n (lv' := [(1, .int 0), (0, .ref o)]) hx hb dX0_belowMany_1 rfl hl (by decide) rfl (fun ls hl => ?_)
  refine lv_iconst (v := 0) hx hb dX0_belowMany_2 (by decide) ?_
  refine lv_istore_n (lv' := [(2, .int 0), (1, .int 0), (0, .ref o)]) hx hb dX0_belowMany_3 rfl hl (by decide) rfl (fun ls hl => ?_)
  have L4 : ∀ (fu4 : Nat) (n : Int32) (k : Int32) (H : Heap) (locs : List Loc), ((fd_ X 4).toInt - k.toInt < fu4) → (0 ≤ k.toInt) → (k.toInt ≤ (fd_ X 4).toInt) → (xf_bm_go fu4 X n k = xf_belowMany X) → xx_W G o d0 X E D H → va_S (xx_F o d0) sQ.heap H locs → ∀ ls : Array Slot, lv_has ls 3 [(2, .int k), (1, .int n), (0, .ref o)] → W pQ lQ eQ (wm_rm 4) sQ mQ ([Value.ref o] : List Value).toArray belowQ methQ cQ H locs 0 0 (MQ belowQ (wm_Q (fun vQ HQ => vQ = some (.int (xf_belowMany X)) ∧ xx_W G o d0 X E D HQ) (xx_F o d0)) ([Value.ref o] : List Value).toArray sQ 0 0 (xx_F o d0)) (F0 mQ 4 ls []) := by
    intro fu4
    induction fu4 with
    | zero =>
      intro n k H locs hm4 i04 i14 hgo4 hW hS ls hl
      exact absurd hm4 (by omega)
    | succ fu4 ih4 =>
      intro n k H locs hm4 i04 i14 hgo4 hW hS ls hl
      refine lv_iload_n hx hb dX0_belowMany_4 rfl (lv_at hl 0 rfl) ?_
      refine lv_aload_n hx hb dX0_belowMany_5 rfl (lv_at hl 2 rfl) ?_
      refine xx_geti hx hb hts hown hK hW 4 rfl rfl (by decide) (by decide) q271 dX0_belowMany_6 ?_
      refine lv_icmp_ge (tgt := 37) hx hb dX0_belowMany_9 (by decide) (fun c9 => ?_) (fun c9 => ?_)
      · have t9 : ((fd_ X 4)).toInt ≤ (k).toInt := ww_le c9
        refine lv_iload_n hx hb dX0_belowMany_37 rfl (lv_at hl 1 rfl) ?_
        refine xw_iret hx hb hr hlocks hW hS ?_ dX0_belowMany_38
        have hres : xf_belowMany X = n := by rw [← hgo4]; simp only [xf_bm_go, if_pos c9]
        exact ⟨by rw [hres], rfl, rfl⟩
      · have t9 : (k).toInt < ((fd_ X 4)).toInt := ww_nle c9
        refine lv_iload_n hx hb dX0_belowMany_12 rfl (lv_at hl 1 rfl) ?_
        refine lv_aload_n hx hb dX0_belowMany_13 rfl (lv_at hl 2 rfl) ?_
        refine lv_iload_n hx hb dX0_belowMany_14 rfl (lv_at hl 0 rfl) ?_
        refine xw_b (xw_rV (As := [.int k]) (rest := [.int n]) (n := 1) ⟨hx, hb, hml, hown, hts⟩ hK hN hW (xc_belowOf lQ G o d0 X E D k) (lw_V q1145 q1147 qs24 q84 q1148) (xr_main hK hW) (by decide +kernel) rfl ⟨Nat.le_of_ble_eq_true rfl, Nat.le_of_ble_eq_true rfl⟩ hl.1 rfl (Nat.le_of_ble_eq_true rfl) dX0_belowMany_15 ⟨Nat.le_of_ble_eq_true rfl, Nat.le_of_ble_eq_true rfl⟩) hS (fun v15 H locs e15 hW hS => ?_)
        refine xl_ifnull (tgt := 25) hx hb dX0_belowMany_18 (by decide) (fun c18 => ?_) (fun c18 => ?_)
        · have t18 : (v15).toInt < 0 := ww_lt c18
          refine lv_iconst (v := 0) hx hb dX0_belowMany_25 (by decide) ?_
          refine pp_calli (As := [.int 0]) (rest := [.int n]) (n := 1) ⟨hx, hb, hml, hown, hts⟩ (xc_bit lQ 0) (lw_S q769 q770 q84 q771) (by decide +kernel) rfl ⟨Nat.le_of_ble_eq_true rfl, Nat.le_of_ble_eq_true rfl⟩ hl.1 rfl (Nat.le_of_ble_eq_true rfl) dX0_belowMany_26 ⟨Nat.le_of_ble_eq_true rfl, Nat.le_of_ble_eq_true rfl⟩ (fun v26 e26 => ?_)
          refine nv_iadd hx hb dX0_belowMany_29 (fun v29 e29 => ?_)
          refine lv_istore_n (lv' := [(1, .int v29), (2, .int k), (0, .ref o)]) hx hb dX0_belowMany_30 rfl hl (by decide) rfl (fun ls hl => ?_)
          obtain ⟨v31, e31⟩ : ∃ yQ : Int32, yQ = k + 1 := ⟨_, rfl⟩
          refine lv_iinc (v := v31) (lv' := [(2, .int v31), (1, .int v29), (0, .ref o)]) hx hb dX0_belowMany_31 hl (k := 1) rfl (by rw [e31]; rfl) (by decide) rfl (fun ls hl => ?_)
          refine lv_goto (tgt := 4) hx hb dX0_belowMany_34 (by decide) ?_
          have tb : v31.toInt = k.toInt + 1 := by rw [e31]; exact ww_inc t9
          exact ih4 v29 v31 H locs (by omega) (by omega) (by omega) (by subst e15 e26 e29 e31; simp only [xf_bm_go, if_neg c9, if_pos c18] at hgo4; exact hgo4) hW hS ls (lv_sub hl [0, 1, 2] rfl)
        · have t18 : 0 ≤ (v15).toInt := ww_nlt c18
          have hi18 : xm_in X (xf_belowOf X k) := xf_belowOf_q (xv_W hW) (by rw [← e15]; exact c18)
          refine lv_iconst (v := 1) hx hb dX0_belowMany_21 (by decide) ?_
          refine lv_goto (tgt := 26) hx hb dX0_belowMany_22 (by decide) ?_
          refine pp_calli (As := [.int 1]) (rest := [.int n]) (n := 1) ⟨hx, hb, hml, hown, hts⟩ (xc_bit lQ 1) (lw_S q769 q770 q84 q771) (by decide +kernel) rfl ⟨Nat.le_of_ble_eq_true rfl, Nat.le_of_ble_eq_true rfl⟩ hl.1 rfl (Nat.le_of_ble_eq_true rfl) dX0_belowMany_26 ⟨Nat.le_of_ble_eq_true rfl, Nat.le_of_ble_eq_true rfl⟩ (fun v26 e26 => ?_)
          refine nv_iadd hx hb dX0_belowMany_29 (fun v29 e29 => ?_)
          refine lv_istore_n (lv' := [(1, .int v29), (2, .int k), (0, .ref o)]) hx hb dX0_belowMany_30 rfl hl (by decide) rfl (fun ls hl => ?_)
          obtain ⟨v31, e31⟩ : ∃ yQ : Int32, yQ = k + 1 := ⟨_, rfl⟩
          refine lv_iinc (v := v31) (lv' := [(2, .int v31), (1, .int v29), (0, .ref o)]) hx hb dX0_belowMany_31 hl (k := 1) rfl (by rw [e31]; rfl) (by decide) rfl (fun ls hl => ?_)
          refine lv_goto (tgt := 4) hx hb dX0_belowMany_34 (by decide) ?_
          have tb : v31.toInt = k.toInt + 1 := by rw [e31]; exact ww_inc t9
          exact ih4 v29 v31 H locs (by omega) (by omega) (by omega) (by subst e15 e26 e29 e31; simp only [xf_bm_go, if_neg c9, if_neg c18] at hgo4; exact hgo4) hW hS ls (lv_sub hl [0, 1, 2] rfl)
  exact L4 121 0 0 H locs (by have := (xv_W hW).2; show _ - 0 < _; omega) (by decide) (xv_W hW).1 (rfl) hW hS ls (lv_sub hl [0, 1, 2] rfl)

set_option maxHeartbeats 4000000 in
theorem xc_throughMany (lQ : Launch) (G : wm_G) (o d0 : Nat) (X : mm_S) (E : mm_E) (D : xg) : xw_Met lQ G o d0 yX0_throughMany (ws_ yX0_throughMany cX0_throughMany 3 (some .int)) 3 X E D [Value.ref o] (some (.int (xf_throughMany X))) X E := by
  refine xw_start (own := RX0) (by decide +kernel) (Nat.le_of_ble_eq_true rfl) rfl (fun pQ eQ sQ mQ belowQ methQ cQ hx hb hml hr hlocks hts hown hK hN H hW hS ls hl => ?_)
  have hl : lv_has ls 3 [(0, .ref o)] := hl
  generalize hlc : ([] : List Loc) = locs at hS ⊢
  refine lv_iconst (v := 0) hx hb dX0_throughMany_0 (by decide) ?_
  refine lv_istore_n (lv' := [(1, .int 0), (0, .ref o)]) hx hb dX0_throughMany_1 rfl hl (by decide) rfl (fun ls hl => ?_)
  refine lv_iconst (v := 0) hx hb dX0_throughMany_2 (by decide) ?_
  refine lv_istore_n (lv' := [(2, .int 0), (1, .int 0), (0, .ref o)]) hx hb dX0_throughMany_3 rfl hl (by decide) rfl (fun ls hl => ?_)
  have L4 : ∀ (fu4 : Nat) (n : Int32) (k : Int32) (H : Heap) (locs : List Loc), ((fd_ X 4).toInt - k.toInt < fu4) → (0 ≤ k.toInt) → (k.toInt ≤ (fd_ X 4).toInt) → (xf_tm_go fu4 X n k = xf_throughMany X) → xx_W G o d0 X E D H → va_S (xx_F o d0) sQ.heap H locs → ∀ ls : Array Slot, lv_has ls 3 [(2, .int k), (1, .int n), (0, .ref o)] → W pQ lQ eQ (wm_rm 3) sQ mQ ([Value.ref o] : List Value).toArray belowQ methQ cQ H locs 0 0 (MQ belowQ (wm_Q (fun vQ HQ => vQ = some (.int (xf_throughMany X)) ∧ xx_W G o d0 X E D HQ) (xx_F o d0)) ([Value.ref o] : List Value).toArray sQ 0 0 (xx_F o d0)) (F0 mQ 4 ls []) := by
    intro fu4
    induction fu4 with
    | zero =>
      intro n k H locs hm4 i04 i14 hgo4 hW hS ls hl
      exact absurd hm4 (by omega)
    | succ fu4 ih4 =>
      intro n k H locs hm4 i04 i14 hgo4 hW hS ls hl
      refine lv_iload_n hx hb dX0_throughMany_4 rfl (lv_at hl 0 rfl) ?_
      refine lv_aload_n hx hb dX0_throughMany_5 rfl (lv_at hl 2 rfl) ?_
      refine xx_geti hx hb hts hown hK hW 4 rfl rfl (by decide) (by decide) q271 dX0_throughMany_6 ?_
      refine lv_icmp_ge (tgt := 48) hx hb dX0_throughMany_9 (by decide) (fun c9 => ?_) (fun c9 => ?_)
      · have t9 : ((fd_ X 4)).toInt ≤ (k).toInt := ww_le c9
        refine lv_iload_n hx hb dX0_throughMany_48 rfl (lv_at hl 1 rfl) ?_
        refine xw_iret hx hb hr hlocks hW hS ?_ dX0_throughMany_49
        have hres : xf_throughMany X = n := by rw [← hgo4]; simp only [xf_tm_go, if_pos c9]
        exact ⟨by rw [hres], rfl, rfl⟩
      · have t9 : (k).toInt < ((fd_ X 4)).toInt := ww_nle c9
        refine lv_iload_n hx hb dX0_throughMany_12 rfl (lv_at hl 1 rfl) ?_
        refine lv_aload_n hx hb dX0_throughMany_13 rfl (lv_at hl 2 rfl) ?_
        refine lv_iload_n hx hb dX0_throughMany_14 rfl (lv_at hl 0 rfl) ?_
        refine xw_b (xw_rV (As := [.int k]) (rest := [.int n]) (n := 1) ⟨hx, hb, hml, hown, hts⟩ hK hN hW (xc_holeOf lQ G o d0 X E D k) (lw_V q754 q756 qs3 q84 q757) (xr_main hK hW) (by decide +kernel) rfl ⟨Nat.le_of_ble_eq_true rfl, Nat.le_of_ble_eq_true rfl⟩ hl.1 rfl (Nat.le_of_ble_eq_true rfl) dX0_throughMany_15 ⟨Nat.le_of_ble_eq_true rfl, Nat.le_of_ble_eq_true rfl⟩) hS (fun v15 H locs e15 hW hS => ?_)
        refine xl_ifnull (tgt := 36) hx hb dX0_throughMany_18 (by decide) (fun c18 => ?_) (fun c18 => ?_)
        · have t18 : (v15).toInt < 0 := ww_lt c18
          refine lv_iconst (v := 0) hx hb dX0_throughMany_36 (by decide) ?_
          refine pp_calli (As := [.int 0]) (rest := [.int n]) (n := 1) ⟨hx, hb, hml, hown, hts⟩ (xc_bit lQ 0) (lw_S q769 q770 q84 q771) (by decide +kernel) rfl ⟨Nat.le_of_ble_eq_true rfl, Nat.le_of_ble_eq_true rfl⟩ hl.1 rfl (Nat.le_of_ble_eq_true rfl) dX0_throughMany_37 ⟨Nat.le_of_ble_eq_true rfl, Nat.le_of_ble_eq_true rfl⟩ (fun v37 e37 => ?_)
          refine nv_iadd hx hb dX0_throughMany_40 (fun v40 e40 => ?_)
          refine lv_istore_n (lv' := [(1, .int v40), (2, .int k), (0, .ref o)]) hx hb dX0_throughMany_41 rfl hl (by decide) rfl (fun ls hl => ?_)
          obtain ⟨v42, e42⟩ : ∃ yQ : Int32, yQ = k + 1 := ⟨_, rfl⟩
          refine lv_iinc (v := v42) (lv' := [(2, .int v42), (1, .int v40), (0, .ref o)]) hx hb dX0_throughMany_42 hl (k := 1) rfl (by rw [e42]; rfl) (by decide) rfl (fun ls hl => ?_)
          refine lv_goto (tgt := 4) hx hb dX0_throughMany_45 (by decide) ?_
          have tb : v42.toInt = k.toInt + 1 := by rw [e42]; exact ww_inc t9
          exact ih4 v40 v42 H locs (by omega) (by omega) (by omega) (by subst e15 e37 e40 e42; simp only [xf_tm_go, if_neg c9, if_pos c18] at hgo4; exact hgo4) hW hS ls (lv_sub hl [0, 1, 2] rfl)
        · have t18 : 0 ≤ (v15).toInt := ww_nlt c18
          have hi18 : xh_in X (xf_holeOf X k) := xf_holeOf_q (xv_W hW) (by rw [← e15]; exact c18)
          refine lv_aload_n hx hb dX0_throughMany_21 rfl (lv_at hl 2 rfl) ?_
          refine lv_iload_n hx hb dX0_throughMany_22 rfl (lv_at hl 0 rfl) ?_
          refine xw_b (xw_rV (As := [.int k]) (rest := [.int n]) (n := 1) ⟨hx, hb, hml, hown, hts⟩ hK hN hW (xc_holeOf lQ G o d0 X E D k) (lw_V q754 q756 qs3 q84 q757) (xr_main hK hW) (by decide +kernel) rfl ⟨Nat.le_of_ble_eq_true rfl, Nat.le_of_ble_eq_true rfl⟩ hl.1 rfl (Nat.le_of_ble_eq_true rfl) dX0_throughMany_23 ⟨Nat.le_of_ble_eq_true rfl, Nat.le_of_ble_eq_true rfl⟩) hS (fun v23 H locs e23 hW hS => ?_)
          refine xw_p (xd_isThrough_X0 (rest := [.int n]) lQ ⟨hx, hb, hml, hown, hts⟩ hK hN hW (show xh_in X v23 from by rw [e23]; exact hi18) ⟨Nat.le_of_ble_eq_true rfl, Nat.le_of_ble_eq_true rfl⟩ hl.1 (by rw [xx_o_pos (show xh_in X v23 from by rw [e23]; exact hi18).1.1]; rfl) (Nat.le_of_ble_eq_true rfl) dX0_throughMany_26 ⟨Nat.le_of_ble_eq_true rfl, Nat.le_of_ble_eq_true rfl⟩) hS (fun v26 H locs e26 hW hS => ?_)
          refine lv_if_eq (tgt := 36) hx hb dX0_throughMany_29 (by decide) (fun c29 => ?_) (fun c29 => ?_)
          · skip
            refine lv_iconst (v := 0) hx hb dX0_throughMany_36 (by decide) ?_
            refine pp_calli (As := [.int 0]) (rest := [.int n]) (n := 1) ⟨hx, hb, hml, hown, hts⟩ (xc_bit lQ 0) (lw_S q769 q770 q84 q771) (by decide +kernel) rfl ⟨Nat.le_of_ble_eq_true rfl, Nat.le_of_ble_eq_true rfl⟩ hl.1 rfl (Nat.le_of_ble_eq_true rfl) dX0_throughMany_37 ⟨Nat.le_of_ble_eq_true rfl, Nat.le_of_ble_eq_true rfl⟩ (fun v37 e37 => ?_)
            refine nv_iadd hx hb dX0_throughMany_40 (fun v40 e40 => ?_)
            refine lv_istore_n (lv' := [(1, .int v40), (2, .int k), (0, .ref o)]) hx hb dX0_throughMany_41 rfl hl (by decide) rfl (fun ls hl => ?_)
            obtain ⟨v42, e42⟩ : ∃ yQ : Int32, yQ = k + 1 := ⟨_, rfl⟩
            refine lv_iinc (v := v42) (lv' := [(2, .int v42), (1, .int v40), (0, .ref o)]) hx hb dX0_throughMany_42 hl (k := 1) rfl (by rw [e42]; rfl) (by decide) rfl (fun ls hl => ?_)
            refine lv_goto (tgt := 4) hx hb dX0_throughMany_45 (by decide) ?_
            have tb : v42.toInt = k.toInt + 1 := by rw [e42]; exact ww_inc t9
            exact ih4 v40 v42 H locs (by omega) (by omega) (by omega) (by subst e15 e23 e26 e37 e40 e42; simp only [xf_tm_go, if_neg c9, if_neg c18, if_pos c29] at hgo4; exact hgo4) hW hS ls (lv_sub hl [0, 1, 2] rfl)
          · skip
            refine lv_iconst (v := 1) hx hb dX0_throughMany_32 (by decide) ?_
            refine lv_goto (tgt := 37) hx hb dX0_throughMany_33 (by decide) ?_
            refine pp_calli (As := [.int 1]) (rest := [.int n]) (n := 1) ⟨hx, hb, hml, hown, hts⟩ (xc_bit lQ 1) (lw_S q769 q770 q84 q771) (by decide +kernel) rfl ⟨Nat.le_of_ble_eq_true rfl, Nat.le_of_ble_eq_true rfl⟩ hl.1 rfl (Nat.le_of_ble_eq_true rfl) dX0_throughMany_37 ⟨Nat.le_of_ble_eq_true rfl, Nat.le_of_ble_eq_true rfl⟩ (fun v37 e37 => ?_)
            refine nv_iadd hx hb dX0_throughMany_40 (fun v40 e40 => ?_)
            refine lv_istore_n (lv' := [(1, .int v40), (2, .int k), (0, .ref o)]) hx hb dX0_throughMany_41 rfl hl (by decide) rfl (fun ls hl => ?_)
            obtain ⟨v42, e42⟩ : ∃ yQ : Int32, yQ = k + 1 := ⟨_, rfl⟩
            refine lv_iinc (v := v42) (lv' := [(2, .int v42), (1, .int v40), (0, .ref o)]) hx hb dX0_throughMany_42 hl (k := 1) rfl (by rw [e42]; rfl) (by decide) rfl (fun ls hl => ?_)
            refine lv_goto (tgt := 4) hx hb dX0_throughMany_45 (by decide) ?_
            have tb : v42.toInt = k.toInt + 1 := by rw [e42]; exact ww_inc t9
            exact ih4 v40 v42 H locs (by omega) (by omega) (by omega) (by subst e15 e23 e26 e37 e40 e42; simp only [xf_tm_go, if_neg c9, if_neg c18, if_neg c29] at hgo4; exact hgo4) hW hS ls (lv_sub hl [0, 1, 2] rfl)
  exact L4 121 0 0 H locs (by have := (xv_W hW).2; show _ - 0 < _; omega) (by decide) (xv_W hW).1 (rfl) hW hS ls (lv_sub hl [0, 1, 2] rfl)

set_option maxHeartbeats 4000000 in
theorem xc_spoons (lQ : Launch) (G : wm_G) (o d0 : Nat) (X : mm_S) (E : mm_E) (D : xg) (v : Int32) : xw_Met lQ G o d0 yX0_spoons (ws_ yX0_spoons cX0_spoons 3 (some .int)) 1 X E D [Value.ref o, .int v] (some (.int (xf_spoons X v).1)) (xf_spoons X v).2 E := by
  refine xw_start (own := RX0) (by decide +kernel) (Nat.le_of_ble_eq_true rfl) rfl (fun pQ eQ sQ mQ belowQ methQ cQ hx hb hml hr hlocks hts hown hK hN H hW hS ls hl => ?_)
  have hl : lv_has ls 3 [(0, .ref o), (1, .int v)] := hl
  generalize hlc : ([] : List Loc) = locs at hS ⊢
  refine lv_iload_n hx hb dX0_spoons_0 rfl (lv_at hl 1 rfl) ?_
  refine lv_i2l (v := (v).toInt64) hx hb dX0_spoons_1 rfl ?_
  refine lv_lconst (v := 0) hx hb dX0_spoons_2 (by decide) ?_
  refine lv_ldc2 (v := 9999) hx hb hown (hts _ q1215) dX0_spoons_3 ?_
  refine xx_within (rest := []) v 0 9999 ⟨hx, hb, hml, hown, hts⟩ rfl (by decide) (by decide) q459 hl.1 rfl rfl (Nat.le_of_ble_eq_true rfl) rfl rfl ⟨Nat.le_of_ble_eq_true rfl, Nat.le_of_ble_eq_true rfl⟩ dX0_spoons_6 (fun v6 e6 => ?_)
  refine lv_if_ne (tgt := 14) hx hb dX0_spoons_9 (by decide) (fun c9 => ?_) (fun c9 => ?_)
  · skip
    refine lv_aload_n hx hb dX0_spoons_14 rfl (lv_at hl 0 rfl) ?_
    refine xx_geti hx hb hts hown hK hW 26 rfl rfl (by decide) (by decide) q299 dX0_spoons_15 ?_
    refine lv_istore_n (lv' := [(2, .int (fd_ X 26)), (0, .ref o), (1, .int v)]) hx hb dX0_spoons_18 rfl hl (by decide) rfl (fun ls hl => ?_)
    refine lv_aload_n hx hb dX0_spoons_19 rfl (lv_at hl 1 rfl) ?_
    refine lv_iload_n hx hb dX0_spoons_20 rfl (lv_at hl 2 rfl) ?_
    refine xx_puti hx hb hts hown hK hW hS 26 rfl rfl (by decide) (by decide) (by decide) rfl rfl rfl q299 dX0_spoons_21 (fun X21 H locs f21 hW hS => ?_)
    refine lv_iload_n hx hb dX0_spoons_24 rfl (lv_at hl 0 rfl) ?_
    refine xw_iret hx hb hr hlocks hW hS ?_ dX0_spoons_25
    have hres : xf_spoons X v = ((fd_ X 26), X21) := by subst e6 f21; simp only [xf_spoons, if_neg c9]
    exact ⟨by rw [hres], by rw [hres], rfl⟩
  · skip
    refine lv_iconst (v := (-1)) hx hb dX0_spoons_12 (by decide) ?_
    refine xw_iret hx hb hr hlocks hW hS ?_ dX0_spoons_13
    have hres : xf_spoons X v = ((-1), X) := by subst e6; simp only [xf_spoons, if_pos c9]
    exact ⟨by rw [hres], by rw [hres], rfl⟩

set_option maxHeartbeats 4000000 in
theorem xc_move (lQ : Launch) (G : wm_G) (o d0 : Nat) (X : mm_S) (E : mm_E) (D : xg) (c : Int32) (h : Int32) (hV : xv_V X) : xw_Met lQ G o d0 yX0_move (ws_ yX0_move cX0_move 3 (some .int)) 2 X E D [Value.ref o, .int c, .int h] (some (.int (xf_move X c h).1)) (xf_move X c h).2 E := by
  refine xw_start (own := RX0) (by decide +kernel) (Nat.le_of_ble_eq_true rfl) rfl (fun pQ eQ sQ mQ belowQ methQ cQ hx hb hml hr hlocks hts hown hK hN H hW hS ls hl => ?_)
  have hl : lv_has ls 3 [(0, .ref o), (1, .int c), (2, .int h)] := hl
  generalize hlc : ([] : List Loc) = locs at hS ⊢
  refine lv_iload_n hx hb dX0_move_0 rfl (lv_at hl 1 rfl) ?_
  refine pp_calli (As := [.int c]) (rest := []) (n := 1) ⟨hx, hb, hml, hown, hts⟩ (xc_isCell lQ c) (lw_S q455 q456 q84 q457) (by decide +kernel) rfl ⟨Nat.le_of_ble_eq_true rfl, Nat.le_of_ble_eq_true rfl⟩ hl.1 rfl (Nat.le_of_ble_eq_true rfl) dX0_move_1 ⟨Nat.le_of_ble_eq_true rfl, Nat.le_of_ble_eq_true rfl⟩ (fun v1 e1 => ?_)
  refine lv_if_eq (tgt := 25) hx hb dX0_move_4 (by decide) (fun c4 => ?_) (fun c4 => ?_)
  · skip
    refine lv_iconst (v := (-1)) hx hb dX0_move_25 (by decide) ?_
    refine xw_iret hx hb hr hlocks hW hS ?_ dX0_move_26
    have hres : xf_move X c h = ((-1), X) := by subst e1; simp only [xf_move, xf_mo_1, xf_mo_2, xf_mo_3, if_pos c4]
    exact ⟨by rw [hres], by rw [hres], rfl⟩
  · skip
    refine lv_iload_n hx hb dX0_move_7 rfl (lv_at hl 2 rfl) ?_
    refine lv_i2l (v := (h).toInt64) hx hb dX0_move_8 rfl ?_
    refine lv_aload_n hx hb dX0_move_9 rfl (lv_at hl 0 rfl) ?_
    refine xx_geti hx hb hts hown hK hW 0 rfl rfl (by decide) (by decide) q265 dX0_move_10 ?_
    refine lv_iconst (v := 1) hx hb dX0_move_13 (by decide) ?_
    refine nv_iadd hx hb dX0_move_14 (fun v14 e14 => ?_)
    refine lv_i2l (v := (v14).toInt64) hx hb dX0_move_15 rfl ?_
    refine lv_ldc2 (v := 1699) hx hb hown (hts _ q799) dX0_move_16 ?_
    refine xx_within (rest := []) h v14 1699 ⟨hx, hb, hml, hown, hts⟩ rfl rfl (by decide) q459 hl.1 rfl rfl (Nat.le_of_ble_eq_true rfl) rfl rfl ⟨Nat.le_of_ble_eq_true rfl, Nat.le_of_ble_eq_true rfl⟩ dX0_move_19 (fun v19 e19 => ?_)
    refine lv_if_ne (tgt := 27) hx hb dX0_move_22 (by decide) (fun c22 => ?_) (fun c22 => ?_)
    · skip
      refine lv_aload_n hx hb dX0_move_27 rfl (lv_at hl 0 rfl) ?_
      refine xx_geti hx hb hts hown hK hW 30 rfl rfl (by decide) (by decide) q303 dX0_move_28 ?_
      refine lv_bipush (v := 60) hx hb dX0_move_31 (by decide) ?_
      refine lv_icmp_ne (tgt := 39) hx hb dX0_move_33 (by decide) (fun c33 => ?_) (fun c33 => ?_)
      · skip
        have hlt : (fd_ X 30).toInt < 60 := by
          have q1 := ww_ne c33
          have q2 := hV.2.1
          have q3 : (60 : Int32).toInt = 60 := by decide
          omega
        have hge := hV.1
        refine lv_aload_n hx hb dX0_move_39 rfl (lv_at hl 0 rfl) ?_
        refine xx_geta hx hb hts hown hK hW 28 rfl q301 dX0_move_40 ?_
        refine lv_aload_n hx hb dX0_move_43 rfl (lv_at hl 0 rfl) ?_
        refine xx_geti hx hb hts hown hK hW 30 rfl rfl (by decide) (by decide) q303 dX0_move_44 ?_
        refine lv_iload_n hx hb dX0_move_47 rfl (lv_at hl 1 rfl) ?_
        refine xx_iast hx hb hK hW hS 28 rfl (ww_in (by omega) (by omega)) dX0_move_48 (fun X48 H locs f48 hW hS => ?_)
        refine lv_aload_n hx hb dX0_move_49 rfl (lv_at hl 0 rfl) ?_
        refine xx_geta hx hb hts hown hK hW 29 rfl q302 dX0_move_50 ?_
        refine lv_aload_n hx hb dX0_move_53 rfl (lv_at hl 0 rfl) ?_
        refine xx_geti hx hb hts hown hK hW 30 rfl rfl (by decide) (by decide) q303 dX0_move_54 ?_
        refine lv_iload_n hx hb dX0_move_57 rfl (lv_at hl 2 rfl) ?_
        refine xx_iast hx hb hK hW hS 29 rfl (by rw [f48, fd_wn (by decide)]; exact ww_in hge hlt) dX0_move_58 (fun X58 H locs f58 hW hS => ?_)
        refine lv_aload_n hx hb dX0_move_59 rfl (lv_at hl 0 rfl) ?_
        refine lv_dup hx hb dX0_move_60 rfl ?_
        refine xx_geti hx hb hts hown hK hW 30 rfl rfl (by decide) (by decide) q303 dX0_move_61 ?_
        refine lv_iconst (v := 1) hx hb dX0_move_64 (by decide) ?_
        refine nv_iadd hx hb dX0_move_65 (fun v65 e65 => ?_)
        refine lv_dup_x1 hx hb dX0_move_66 rfl rfl ?_
        refine xx_puti hx hb hts hown hK hW hS 30 rfl rfl (by decide) (by decide) (by decide) rfl rfl rfl q303 dX0_move_67 (fun X67 H locs f67 hW hS => ?_)
        refine xw_iret hx hb hr hlocks hW hS ?_ dX0_move_70
        have hres : xf_move X c h = (v65, X67) := by subst e1 e14 e19 f48 f58 e65 f67; simp only [xf_move, xf_mo_1, xf_mo_2, xf_mo_3, if_neg c4, if_neg c22, if_neg c33]
        exact ⟨by rw [hres], by rw [hres], rfl⟩
      · skip
        refine lv_bipush (v := (-3)) hx hb dX0_move_36 (by decide) ?_
        refine xw_iret hx hb hr hlocks hW hS ?_ dX0_move_38
        have hres : xf_move X c h = ((-3), X) := by subst e1 e14 e19; simp only [xf_move, xf_mo_1, xf_mo_2, xf_mo_3, if_neg c4, if_neg c22, if_pos c33]
        exact ⟨by rw [hres], by rw [hres], rfl⟩
    · skip
      refine lv_iconst (v := (-1)) hx hb dX0_move_25 (by decide) ?_
      refine xw_iret hx hb hr hlocks hW hS ?_ dX0_move_26
      have hres : xf_move X c h = ((-1), X) := by subst e1 e14 e19; simp only [xf_move, xf_mo_1, xf_mo_2, xf_mo_3, if_neg c4, if_pos c22]
      exact ⟨by rw [hres], by rw [hres], rfl⟩

set_option maxHeartbeats 4000000 in
theorem xc_moveRock (lQ : Launch) (G : wm_G) (o d0 : Nat) (X : mm_S) (E : mm_E) (D : xg) (c : Int32) (hJ : xj_s X) (hc : ¬ ff_isCell c = 0) : xw_Met lQ G o d0 yX0_moveRock (ws_ yX0_moveRock cX0_moveRock 2 none) 2 X E D [Value.ref o, .int c] (none) (xf_moveRock X c) E := by
  refine xw_start (own := RX0) (by decide +kernel) (Nat.le_of_ble_eq_true rfl) rfl (fun pQ eQ sQ mQ belowQ methQ cQ hx hb hml hr hlocks hts hown hK hN H hW hS ls hl => ?_)
  have hl : lv_has ls 2 [(0, .ref o), (1, .int c)] := hl
  generalize hlc : ([] : List Loc) = locs at hS ⊢
  refine lv_aload_n hx hb dX0_moveRock_0 rfl (lv_at hl 0 rfl) ?_
  refine xx_geta hx hb hts hown hK hW 2 rfl q268 dX0_moveRock_1 ?_
  refine lv_iload_n hx hb dX0_moveRock_4 rfl (lv_at hl 1 rfl) ?_
  refine pp_calli (As := [.int c]) (rest := [.ref (o + 2)]) (n := 1) ⟨hx, hb, hml, hown, hts⟩ (xc_cellAt lQ c) (lw_S q463 q464 q84 q465) (by decide +kernel) rfl ⟨Nat.le_of_ble_eq_true rfl, Nat.le_of_ble_eq_true rfl⟩ hl.1 rfl (Nat.le_of_ble_eq_true rfl) dX0_moveRock_5 ⟨Nat.le_of_ble_eq_true rfl, Nat.le_of_ble_eq_true rfl⟩ (fun v5 e5 => ?_)
  refine lv_iconst (v := 0) hx hb dX0_moveRock_8 (by decide) ?_
  refine xx_zast hx hb hK hW hS 2 rfl rfl (by rw [e5]; exact ff_placeOf_in hc) dX0_moveRock_9 (fun X9 H locs f9 hW hS => ?_)
  refine lv_aload_n hx hb dX0_moveRock_10 rfl (lv_at hl 0 rfl) ?_
  refine xx_geta hx hb hts hown hK hW 1 rfl q266 dX0_moveRock_11 ?_
  refine lv_iload_n hx hb dX0_moveRock_14 rfl (lv_at hl 1 rfl) ?_
  refine pp_calli (As := [.int c]) (rest := [.ref (o + 1)]) (n := 1) ⟨hx, hb, hml, hown, hts⟩ (xc_cellAt lQ c) (lw_S q463 q464 q84 q465) (by decide +kernel) rfl ⟨Nat.le_of_ble_eq_true rfl, Nat.le_of_ble_eq_true rfl⟩ hl.1 rfl (Nat.le_of_ble_eq_true rfl) dX0_moveRock_15 ⟨Nat.le_of_ble_eq_true rfl, Nat.le_of_ble_eq_true rfl⟩ (fun v15 e15 => ?_)
  refine lv_bipush (v := 9) hx hb dX0_moveRock_18 (by decide) ?_
  refine xx_iast hx hb hK hW hS 1 rfl (by rw [e15]; exact ff_placeOf_in hc) dX0_moveRock_20 (fun X20 H locs f20 hW hS => ?_)
  have n20 : X20 = xf_mr_1 X c := by rw [f20, f9, e15, e5]; rfl
  have hJ1 : xj_s X20 := by rw [f20, f9]; exact xj_s_eq ⟨by unfold wr_; rw [mm_up_k (by decide), mm_up_k (by decide)], by unfold wr_; rw [mm_up_k (by decide), mm_up_k (by decide)]⟩ (by unfold wr_; rw [mm_up_k (by decide), mm_up_k (by decide)]) hJ
  refine lv_aload_n hx hb dX0_moveRock_21 rfl (lv_at hl 0 rfl) ?_
  refine lv_iload_n hx hb dX0_moveRock_22 rfl (lv_at hl 1 rfl) ?_
  refine lv_bipush (v := 100) hx hb dX0_moveRock_23 (by decide) ?_
  refine nv_idiv hx hb dX0_moveRock_25 (by decide) (fun v25 e25 => ?_)
  refine lv_iload_n hx hb dX0_moveRock_26 rfl (lv_at hl 1 rfl) ?_
  refine lv_bipush (v := 100) hx hb dX0_moveRock_27 (by decide) ?_
  refine nv_irem hx hb dX0_moveRock_29 (by decide) (fun v29 e29 => ?_)
  refine xw_p (xw_rV (As := [.int v25, .int v29]) (rest := []) (n := 2) ⟨hx, hb, hml, hown, hts⟩ hK hN hW (xc_isShelterAt lQ G o d0 X20 E D v25 v29 hJ1) (lw_V q1210 q1196 qs27 q84 q1197) (xr_main hK hW) (by decide +kernel) rfl ⟨Nat.le_of_ble_eq_true rfl, Nat.le_of_ble_eq_true rfl⟩ hl.1 rfl (Nat.le_of_ble_eq_true rfl) dX0_moveRock_30 ⟨Nat.le_of_ble_eq_true rfl, Nat.le_of_ble_eq_true rfl⟩) hS (fun v30 H locs e30 hW hS => ?_)
  refine lv_if_eq (tgt := 44) hx hb dX0_moveRock_33 (by decide) (fun c33 => ?_) (fun c33 => ?_)
  · skip
    refine xw_vret hx hb hr hlocks hW hS ?_ dX0_moveRock_44
    have hres : xf_moveRock X c = X20 := by
      unfold xf_moveRock
      rw [← n20, ← e25, ← e29, ← e30]
      first | rw [if_pos c33] | (rw [if_neg c33]; exact f41.symm)
    exact ⟨hres.symm, rfl⟩
  · skip
    have hs := hJ1 (xf_isShelterAt_t (by rw [← e30]; exact c33))
    refine lv_aload_n hx hb dX0_moveRock_36 rfl (lv_at hl 0 rfl) ?_
    refine xx_getsh hx hb hts hown hK hW q272 dX0_moveRock_37 ?_
    refine lv_iconst (v := 1) hx hb dX0_moveRock_40 (by decide) ?_
    refine xl_top2 hs.1.1 ?_
    refine xb_putN hx hb hts hown hK hW hS hs.1 (k := 6) (f := 76) (xf_shelter hs.2 (k := 6) (by decide)) (xf_snm hs.2) (by decide) rfl rfl rfl (hN.nf q670) rfl dX0_moveRock_41 (fun X41 H locs f41 hW hS => ?_)
    have hs : xs_in X41 (fd_ X20 5) := by rw [f41]; exact xs_wr hs (by decide) (by decide)
    refine xw_vret hx hb hr hlocks hW hS ?_ dX0_moveRock_44
    have hres : xf_moveRock X c = X41 := by
      unfold xf_moveRock
      rw [← n20, ← e25, ← e29, ← e30]
      first | rw [if_pos c33] | (rw [if_neg c33]; exact f41.symm)
    exact ⟨hres.symm, rfl⟩

set_option maxHeartbeats 4000000 in
theorem xc_arrive (lQ : Launch) (G : wm_G) (o d0 : Nat) (X : mm_S) (E : mm_E) (D : xg) (hY : xv_Y X) : xw_Met lQ G o d0 yX0_arrive (ws_ yX0_arrive cX0_arrive 3 none) 0 X E D [Value.ref o] (none) (xf_arrive X) E := by
  refine xw_start (own := RX0) (by decide +kernel) (Nat.le_of_ble_eq_true rfl) rfl (fun pQ eQ sQ mQ belowQ methQ cQ hx hb hml hr hlocks hts hown hK hN H hW hS ls hl => ?_)
  have hl : lv_has ls 3 [(0, .ref o)] := hl
  generalize hlc : ([] : List Loc) = locs at hS ⊢
  refine lv_iconst (v := 0) hx hb dX0_arrive_0 (by decide) ?_
  refine lv_istore_n (lv' := [(1, .int 0), (0, .ref o)]) hx hb dX0_arrive_1 rfl hl (by decide) rfl (fun ls hl => ?_)
  refine lv_iconst (v := 0) hx hb dX0_arrive_2 (by decide) ?_
  refine lv_istore_n (lv' := [(2, .int 0), (1, .int 0), (0, .ref o)]) hx hb dX0_arrive_3 rfl hl (by decide) rfl (fun ls hl => ?_)
  have L4 : ∀ (fu4 : Nat) (n : Int32) (k : Int32) (X1 : mm_S) (H : Heap) (locs : List Loc), ((fd_ X 35).toInt - k.toInt < fu4) → (0 ≤ n.toInt) → (n.toInt ≤ k.toInt) → (k.toInt ≤ (fd_ X 35).toInt) → (fd_ X1 35 = fd_ X 35) → (∀ i : Int32, 0 ≤ i.toInt → i.toInt < (fd_ X 35).toInt → xv_Yw (rd_ X1 33 i)) → (xf_ar_go fu4 X1 n k = xf_arrive X) → xx_W G o d0 X1 E D H → va_S (xx_F o d0) sQ.heap H locs → ∀ ls : Array Slot, lv_has ls 3 [(2, .int k), (1, .int n), (0, .ref o)] → W pQ lQ eQ (wm_rm 0) sQ mQ ([Value.ref o] : List Value).toArray belowQ methQ cQ H locs 0 0 (MQ belowQ (wm_Q (fun vQ HQ => vQ = none ∧ xx_W G o d0 (xf_arrive X) E D HQ) (xx_F o d0)) ([Value.ref o] : List Value).toArray sQ 0 0 (xx_F o d0)) (F0 mQ 4 ls []) := by
    intro fu4
    induction fu4 with
    | zero =>
      intro n k X1 H locs hm4 i04 i14 i24 i34 i44 hgo4 hW hS ls hl
      exact absurd hm4 (by omega)
    | succ fu4 ih4 =>
      intro n k X1 H locs hm4 i04 i14 i24 i34 i44 hgo4 hW hS ls hl
      have e4 : (fd_ X1 35).toInt = (fd_ X 35).toInt := by rw [i34]
      have hb2 := hY.2.1
      refine lv_iload_n hx hb dX0_arrive_4 rfl (lv_at hl 0 rfl) ?_
      refine lv_aload_n hx hb dX0_arrive_5 rfl (lv_at hl 2 rfl) ?_
      refine xx_geti hx hb hts hown hK hW 35 rfl rfl (by decide) (by decide) q308 dX0_arrive_6 ?_
      refine lv_icmp_ge (tgt := 112) hx hb dX0_arrive_9 (by decide) (fun c9 => ?_) (fun c9 => ?_)
      · have t9 : ((fd_ X1 35)).toInt ≤ (k).toInt := ww_le c9
        refine lv_aload_n hx hb dX0_arrive_112 rfl (lv_at hl 2 rfl) ?_
        refine lv_iload_n hx hb dX0_arrive_113 rfl (lv_at hl 1 rfl) ?_
        refine xx_puti hx hb hts hown hK hW hS 35 rfl rfl (by decide) (by decide) (by decide) rfl rfl rfl q308 dX0_arrive_114 (fun X114 H locs f114 hW hS => ?_)
        refine xw_vret hx hb hr hlocks hW hS ?_ dX0_arrive_117
        have hres : xf_arrive X = X114 := by rw [← hgo4]; subst f114; simp only [xf_ar_go, if_pos c9]
        exact ⟨hres.symm, rfl⟩
      · have t9 : (k).toInt < ((fd_ X1 35)).toInt := ww_nle c9
        have w33 := i44 k (by omega) (by omega)
        refine lv_aload_n hx hb dX0_arrive_12 rfl (lv_at hl 2 rfl) ?_
        refine xx_geta hx hb hts hown hK hW 34 rfl q307 dX0_arrive_13 ?_
        refine lv_iload_n hx hb dX0_arrive_16 rfl (lv_at hl 0 rfl) ?_
        refine xx_iald hx hb hK hW 34 rfl (ww_in (by omega) (by omega)) dX0_arrive_17 ?_
        refine lv_aload_n hx hb dX0_arrive_18 rfl (lv_at hl 2 rfl) ?_
        refine xx_geti hx hb hts hown hK hW 0 rfl rfl (by decide) (by decide) q265 dX0_arrive_19 ?_
        refine lv_icmp_ne (tgt := 79) hx hb dX0_arrive_22 (by decide) (fun c22 => ?_) (fun c22 => ?_)
        · skip
          refine lv_aload_n hx hb dX0_arrive_79 rfl (lv_at hl 2 rfl) ?_
          refine xx_geta hx hb hts hown hK hW 33 rfl q306 dX0_arrive_80 ?_
          refine lv_iload_n hx hb dX0_arrive_83 rfl (lv_at hl 1 rfl) ?_
          refine lv_aload_n hx hb dX0_arrive_84 rfl (lv_at hl 2 rfl) ?_
          refine xx_geta hx hb hts hown hK hW 33 rfl q306 dX0_arrive_85 ?_
          refine lv_iload_n hx hb dX0_arrive_88 rfl (lv_at hl 0 rfl) ?_
          refine xx_iald hx hb hK hW 33 rfl (ww_in (by omega) (by omega)) dX0_arrive_89 ?_
          refine xx_iast hx hb hK hW hS 33 rfl (ww_in (by omega) (by omega)) dX0_arrive_90 (fun X90 H locs f90 hW hS => ?_)
          refine lv_aload_n hx hb dX0_arrive_91 rfl (lv_at hl 2 rfl) ?_
          refine xx_geta hx hb hts hown hK hW 34 rfl q307 dX0_arrive_92 ?_
          refine lv_iload_n hx hb dX0_arrive_95 rfl (lv_at hl 1 rfl) ?_
          obtain ⟨v96, e96⟩ : ∃ yQ : Int32, yQ = n + 1 := ⟨_, rfl⟩
          refine lv_iinc (v := v96) (lv' := [(1, .int v96), (2, .int k), (0, .ref o)]) hx hb dX0_arrive_96 hl (k := 1) rfl (by rw [e96]; rfl) (by decide) rfl (fun ls hl => ?_)
          refine lv_aload_n hx hb dX0_arrive_99 rfl (lv_at hl 2 rfl) ?_
          refine xx_geta hx hb hts hown hK hW 34 rfl q307 dX0_arrive_100 ?_
          refine lv_iload_n hx hb dX0_arrive_103 rfl (lv_at hl 1 rfl) ?_
          refine xx_iald hx hb hK hW 34 rfl (ww_in (by omega) (by omega)) dX0_arrive_104 ?_
          refine xx_iast hx hb hK hW hS 34 rfl (ww_in (by omega) (by omega)) dX0_arrive_105 (fun X105 H locs f105 hW hS => ?_)
          obtain ⟨v106, e106⟩ : ∃ yQ : Int32, yQ = k + 1 := ⟨_, rfl⟩
          refine lv_iinc (v := v106) (lv' := [(2, .int v106), (1, .int v96), (0, .ref o)]) hx hb dX0_arrive_106 hl (k := 1) rfl (by rw [e106]; rfl) (by decide) rfl (fun ls hl => ?_)
          refine lv_goto (tgt := 4) hx hb dX0_arrive_109 (by decide) ?_
          have tb : v106.toInt = k.toInt + 1 := by rw [e106]; exact ww_inc t9
          have tn : (n + 1).toInt = n.toInt + 1 := ww_inc' (by omega)
          exact ih4 v96 v106 X105 H locs (by omega) (by first | omega | (rw [e96]; omega)) (by first | omega | (rw [e96]; omega)) (by omega) (by first | (rw [f52, fd_fn (by decide)]; exact i34) | (rw [f75, fd_wn (by decide)]; exact i34) | (rw [f105, fd_wn (by decide), f90, fd_wn (by decide)]; exact i34)) (by first | (rw [f52]; intro i q0 q1; rw [rd_fn (by decide)]; exact i44 i q0 q1) | (rw [f75]; intro i q0 q1; rw [rd_wn (by decide)]; exact i44 i q0 q1) | (rw [f105, f90]; intro i q0 q1; rw [rd_wn (by decide)]; exact xv_wr (P := xv_Yw) i44 (by omega) (by omega) (by omega) i q0 q1)) (by rw [e106]; first | (have z : X52 = xf_ar_1 X1 k := (by rw [f52, e51, e50]; rfl); rw [z]; rw [xf_ar_go, if_neg c9, if_pos c22, if_pos (by rw [← e33]; exact c34)] at hgo4; exact hgo4) | (have z : X75 = xf_ar_2 X1 k := (by rw [f75, e74, e70]; rfl); rw [z]; rw [xf_ar_go, if_neg c9, if_pos c22, if_neg (by rw [← e33]; exact c34)] at hgo4; exact hgo4) | (have z : X105 = xf_ar_4 (xf_ar_3 X1 n k) n k := (by rw [f105, f90]; rfl); rw [z, e96]; rw [xf_ar_go, if_neg c9, if_neg c22] at hgo4; exact hgo4)) hW hS ls (lv_sub hl [0, 1, 2] rfl)
        · skip
          refine lv_aload_n hx hb dX0_arrive_25 rfl (lv_at hl 2 rfl) ?_
          refine xx_geta hx hb hts hown hK hW 33 rfl q306 dX0_arrive_26 ?_
          refine lv_iload_n hx hb dX0_arrive_29 rfl (lv_at hl 0 rfl) ?_
          refine xx_iald hx hb hK hW 33 rfl (ww_in (by omega) (by omega)) dX0_arrive_30 ?_
          refine lv_bipush (v := 10) hx hb dX0_arrive_31 (by decide) ?_
          refine nv_irem hx hb dX0_arrive_33 (by decide) (fun v33 e33 => ?_)
          refine lv_if_ne (tgt := 58) hx hb dX0_arrive_34 (by decide) (fun c34 => ?_) (fun c34 => ?_)
          · skip
            have w33 := (show xv_Yw _ from w33) (by rw [← e33]; exact c34)
            have t70 : (rd_ X1 33 k - 10).toInt = (rd_ X1 33 k).toInt - 10 := by have z : (10 : Int32).toInt = 10 := (by decide); rw [ww_sub, z] <;> rw [z] <;> omega
            refine lv_aload_n hx hb dX0_arrive_58 rfl (lv_at hl 2 rfl) ?_
            refine xx_geta hx hb hts hown hK hW 36 rfl q309 dX0_arrive_59 ?_
            refine lv_aload_n hx hb dX0_arrive_62 rfl (lv_at hl 2 rfl) ?_
            refine xx_geta hx hb hts hown hK hW 33 rfl q306 dX0_arrive_63 ?_
            refine lv_iload_n hx hb dX0_arrive_66 rfl (lv_at hl 0 rfl) ?_
            refine xx_iald hx hb hK hW 33 rfl (ww_in (by omega) (by omega)) dX0_arrive_67 ?_
            refine lv_bipush (v := 10) hx hb dX0_arrive_68 (by decide) ?_
            refine nv_isub hx hb dX0_arrive_70 (fun v70 e70 => ?_)
            refine lv_dup2_11 hx hb dX0_arrive_71 rfl rfl ?_
            refine xx_iald hx hb hK hW 36 rfl (by rw [e70]; exact ww_in (by omega) (by omega)) dX0_arrive_72 ?_
            refine lv_iconst (v := 1) hx hb dX0_arrive_73 (by decide) ?_
            refine nv_iadd hx hb dX0_arrive_74 (fun v74 e74 => ?_)
            refine xx_iast hx hb hK hW hS 36 rfl (by rw [e70]; exact ww_in (by omega) (by omega)) dX0_arrive_75 (fun X75 H locs f75 hW hS => ?_)
            refine lv_goto (tgt := 106) hx hb dX0_arrive_76 (by decide) ?_
            obtain ⟨v106, e106⟩ : ∃ yQ : Int32, yQ = k + 1 := ⟨_, rfl⟩
            refine lv_iinc (v := v106) (lv' := [(2, .int v106), (1, .int n), (0, .ref o)]) hx hb dX0_arrive_106 hl (k := 0) rfl (by rw [e106]; rfl) (by decide) rfl (fun ls hl => ?_)
            refine lv_goto (tgt := 4) hx hb dX0_arrive_109 (by decide) ?_
            have tb : v106.toInt = k.toInt + 1 := by rw [e106]; exact ww_inc t9
            have tn : (n + 1).toInt = n.toInt + 1 := ww_inc' (by omega)
            exact ih4 n v106 X75 H locs (by omega) (by first | omega | (rw [e96]; omega)) (by first | omega | (rw [e96]; omega)) (by omega) (by first | (rw [f52, fd_fn (by decide)]; exact i34) | (rw [f75, fd_wn (by decide)]; exact i34) | (rw [f105, fd_wn (by decide), f90, fd_wn (by decide)]; exact i34)) (by first | (rw [f52]; intro i q0 q1; rw [rd_fn (by decide)]; exact i44 i q0 q1) | (rw [f75]; intro i q0 q1; rw [rd_wn (by decide)]; exact i44 i q0 q1) | (rw [f105, f90]; intro i q0 q1; rw [rd_wn (by decide)]; exact xv_wr (P := xv_Yw) i44 (by omega) (by omega) (by omega) i q0 q1)) (by rw [e106]; first | (have z : X52 = xf_ar_1 X1 k := (by rw [f52, e51, e50]; rfl); rw [z]; rw [xf_ar_go, if_neg c9, if_pos c22, if_pos (by rw [← e33]; exact c34)] at hgo4; exact hgo4) | (have z : X75 = xf_ar_2 X1 k := (by rw [f75, e74, e70]; rfl); rw [z]; rw [xf_ar_go, if_neg c9, if_pos c22, if_neg (by rw [← e33]; exact c34)] at hgo4; exact hgo4) | (have z : X105 = xf_ar_4 (xf_ar_3 X1 n k) n k := (by rw [f105, f90]; rfl); rw [z, e96]; rw [xf_ar_go, if_neg c9, if_neg c22] at hgo4; exact hgo4)) hW hS ls (lv_sub hl [0, 1, 2] rfl)
          · skip
            refine lv_aload_n hx hb dX0_arrive_37 rfl (lv_at hl 2 rfl) ?_
            refine lv_dup hx hb dX0_arrive_38 rfl ?_
            refine xx_geti hx hb hts hown hK hW 26 rfl rfl (by decide) (by decide) q299 dX0_arrive_39 ?_
            refine lv_aload_n hx hb dX0_arrive_42 rfl (lv_at hl 2 rfl) ?_
            refine xx_geta hx hb hts hown hK hW 33 rfl q306 dX0_arrive_43 ?_
            refine lv_iload_n hx hb dX0_arrive_46 rfl (lv_at hl 0 rfl) ?_
            refine xx_iald hx hb hK hW 33 rfl (ww_in (by omega) (by omega)) dX0_arrive_47 ?_
            refine lv_bipush (v := 10) hx hb dX0_arrive_48 (by decide) ?_
            refine nv_idiv hx hb dX0_arrive_50 (by decide) (fun v50 e50 => ?_)
            refine nv_iadd hx hb dX0_arrive_51 (fun v51 e51 => ?_)
            refine xx_puti hx hb hts hown hK hW hS 26 rfl rfl (by decide) (by decide) (by decide) rfl rfl rfl q299 dX0_arrive_52 (fun X52 H locs f52 hW hS => ?_)
            refine lv_goto (tgt := 106) hx hb dX0_arrive_55 (by decide) ?_
            obtain ⟨v106, e106⟩ : ∃ yQ : Int32, yQ = k + 1 := ⟨_, rfl⟩
            refine lv_iinc (v := v106) (lv' := [(2, .int v106), (1, .int n), (0, .ref o)]) hx hb dX0_arrive_106 hl (k := 0) rfl (by rw [e106]; rfl) (by decide) rfl (fun ls hl => ?_)
            refine lv_goto (tgt := 4) hx hb dX0_arrive_109 (by decide) ?_
            have tb : v106.toInt = k.toInt + 1 := by rw [e106]; exact ww_inc t9
            have tn : (n + 1).toInt = n.toInt + 1 := ww_inc' (by omega)
            exact ih4 n v106 X52 H locs (by omega) (by first | omega | (rw [e96]; omega)) (by first | omega | (rw [e96]; omega)) (by omega) (by first | (rw [f52, fd_fn (by decide)]; exact i34) | (rw [f75, fd_wn (by decide)]; exact i34) | (rw [f105, fd_wn (by decide), f90, fd_wn (by decide)]; exact i34)) (by first | (rw [f52]; intro i q0 q1; rw [rd_fn (by decide)]; exact i44 i q0 q1) | (rw [f75]; intro i q0 q1; rw [rd_wn (by decide)]; exact i44 i q0 q1) | (rw [f105, f90]; intro i q0 q1; rw [rd_wn (by decide)]; exact xv_wr (P := xv_Yw) i44 (by omega) (by omega) (by omega) i q0 q1)) (by rw [e106]; first | (have z : X52 = xf_ar_1 X1 k := (by rw [f52, e51, e50]; rfl); rw [z]; rw [xf_ar_go, if_neg c9, if_pos c22, if_pos (by rw [← e33]; exact c34)] at hgo4; exact hgo4) | (have z : X75 = xf_ar_2 X1 k := (by rw [f75, e74, e70]; rfl); rw [z]; rw [xf_ar_go, if_neg c9, if_pos c22, if_neg (by rw [← e33]; exact c34)] at hgo4; exact hgo4) | (have z : X105 = xf_ar_4 (xf_ar_3 X1 n k) n k := (by rw [f105, f90]; rfl); rw [z, e96]; rw [xf_ar_go, if_neg c9, if_neg c22] at hgo4; exact hgo4)) hW hS ls (lv_sub hl [0, 1, 2] rfl)
  exact L4 41 0 0 X H locs (by have := hY.2.1; show _ - 0 < _; omega) (by decide) (by decide) hY.1 rfl (fun i i0 i1 => hY.2.2 i i0 i1) (rfl) hW hS ls (lv_sub hl [0, 1, 2] rfl)
