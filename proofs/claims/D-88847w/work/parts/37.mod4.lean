set_option maxHeartbeats 4000000 in
theorem mc_readLine (lQ : Launch) (G : wm_G) (o : Nat) (S : mm_S) (E : mm_E) (hQ : iv_Q S) (hL : iv_L S) : mm_Met lQ G o yX5_readLine (ws_ yX5_readLine cX5_readLine 3 none) 68 S E [] (none) (ff_readLine S) E := by
  refine mm_start (by decide +kernel) (Nat.le_of_ble_eq_true rfl) rfl (fun pQ eQ sQ mQ belowQ methQ cQ hx hb hml hr hlocks hts hown hK H hW hS ls hl => ?_)
  have hl : lv_has ls 3 [(0, .ref o)] := hl
  generalize hlc : ([] : List Loc) = locs at hS ⊢
  obtain ⟨p1, p2, p3, p4, p5, p6, p7⟩ := id hQ.1
  refine lv_bipush (v := 90) hx hb dX5_readLine_0 (by decide) ?_
  refine lv_aload_n hx hb dX5_readLine_2 rfl (lv_at hl 0 rfl) ?_
  refine mm_geti hx hb hts hown hK hW 50 rfl (by decide) q1735 dX5_readLine_3 ?_
  refine nv_imul hx hb dX5_readLine_6 (fun v6 e6 => ?_)
  refine lv_aload_n hx hb dX5_readLine_7 rfl (lv_at hl 0 rfl) ?_
  refine mm_geta hx hb hts hown hK hW 42 rfl q1727 dX5_readLine_8 ?_
  refine lv_aload_n hx hb dX5_readLine_11 rfl (lv_at hl 0 rfl) ?_
  refine mm_geti hx hb hts hown hK hW 50 rfl (by decide) q1735 dX5_readLine_12 ?_
  refine mm_iald hx hb hK hW 42 rfl (ww_in p6 (by omega)) dX5_readLine_15 ?_
  refine nv_iadd hx hb dX5_readLine_16 (fun v16 e16 => ?_)
  refine lv_istore_n (lv' := [(1, .int v16), (0, .ref o)]) hx hb dX5_readLine_17 rfl hl (by decide) rfl (fun ls hl => ?_)
  refine lv_aload_n hx hb dX5_readLine_18 rfl (lv_at hl 1 rfl) ?_
  refine mm_geti hx hb hts hown hK hW 51 rfl (by decide) q1736 dX5_readLine_19 ?_
  refine lv_istore_n (lv' := [(2, .int (fd_ S 51)), (1, .int v16), (0, .ref o)]) hx hb dX5_readLine_22 rfl hl (by decide) rfl (fun ls hl => ?_)
  refine lv_aload_n hx hb dX5_readLine_23 rfl (lv_at hl 2 rfl) ?_
  refine mm_callv (As := []) (rest := []) (n := 0) ⟨hx, hb, hml, hown, hts⟩ hK (mc_ei lQ G o S E hQ) (lw_V q2139 q2141 qs48 q92 q2142) (by decide +kernel) rfl ⟨Nat.le_of_ble_eq_true rfl, Nat.le_of_ble_eq_true rfl⟩ hW hS hl.1 rfl (Nat.le_of_ble_eq_true rfl) dX5_readLine_24 ⟨Nat.le_of_ble_eq_true rfl, Nat.le_of_ble_eq_true rfl⟩ (fun S24 H locs f24 hW hS => ?_)
  refine lv_aload_n hx hb dX5_readLine_27 rfl (lv_at hl 2 rfl) ?_
  refine mm_geta hx hb hts hown hK hW 43 rfl q1728 dX5_readLine_28 ?_
  refine lv_iload_n hx hb dX5_readLine_31 rfl (lv_at hl 1 rfl) ?_
  refine lv_iload_n hx hb dX5_readLine_32 rfl (lv_at hl 0 rfl) ?_
  refine mm_iast hx hb hK hW hS 43 rfl (by rw [e16, e6]; exact ix_90 hQ.1 hL) dX5_readLine_33 (fun S33 H locs f33 hW hS => ?_)
  have nl : v16 = fp_l S := by rw [e16, e6]; rfl
  have n33 : S33 = fp_line1 S := by rw [f33, f24, nl]; rfl
  have p33 : iv_P S33 := by rw [f33]; exact iv_P_wr (by rw [f24]; exact (ps_ok 64 5).P hQ) (by decide) (by decide) (by decide) (by decide)
  have b33 : fd_ S33 50 = fd_ S 50 := by rw [n33]; exact (fp_line1_R hQ).2.1
  refine lv_aload_n hx hb dX5_readLine_34 rfl (lv_at hl 2 rfl) ?_
  refine mm_geti hx hb hts hown hK hW 48 rfl (by decide) q1733 dX5_readLine_35 ?_
  refine lv_if_ge (tgt := 74) hx hb dX5_readLine_38 (by decide) (fun c38 => ?_) (fun c38 => ?_)
  · have t38 : 0 ≤ ((fd_ S33 48)).toInt := ww_le c38
    have b74 : fd_ S33 50 = fd_ S 50 := by
      first
      | exact b33
      | (rw [f71]; exact (ps_ok 64 5 S69 q69).2.1.trans (by rw [f69, fd_wn (by decide), f57, fd_fn (by decide)]; exact b33))
    refine lv_aload_n hx hb dX5_readLine_74 rfl (lv_at hl 2 rfl) ?_
    refine mm_geta hx hb hts hown hK hW 44 rfl q1729 dX5_readLine_75 ?_
    refine lv_iload_n hx hb dX5_readLine_78 rfl (lv_at hl 1 rfl) ?_
    refine lv_aload_n hx hb dX5_readLine_79 rfl (lv_at hl 2 rfl) ?_
    refine mm_geti hx hb hts hown hK hW 51 rfl (by decide) q1736 dX5_readLine_80 ?_
    refine mm_iast hx hb hK hW hS 44 rfl (by rw [e16, e6]; exact ix_90 hQ.1 hL) dX5_readLine_83 (fun S83 H locs f83 hW hS => ?_)
    refine lv_aload_n hx hb dX5_readLine_84 rfl (lv_at hl 2 rfl) ?_
    refine mm_geta hx hb hts hown hK hW 42 rfl q1727 dX5_readLine_85 ?_
    refine lv_aload_n hx hb dX5_readLine_88 rfl (lv_at hl 2 rfl) ?_
    refine mm_geti hx hb hts hown hK hW 50 rfl (by decide) q1735 dX5_readLine_89 ?_
    refine lv_dup2_11 hx hb dX5_readLine_92 rfl rfl ?_
    refine mm_iald hx hb hK hW 42 rfl (by rw [f83, fd_wn (by decide), b74]; exact ww_in p6 (by omega)) dX5_readLine_93 ?_
    refine lv_iconst (v := 1) hx hb dX5_readLine_94 (by decide) ?_
    refine nv_iadd hx hb dX5_readLine_95 (fun v95 e95 => ?_)
    refine mm_iast hx hb hK hW hS 42 rfl (by rw [f83, fd_wn (by decide), b74]; exact ww_in p6 (by omega)) dX5_readLine_96 (fun S96 H locs f96 hW hS => ?_)
    refine mm_vret hx hb hr hlocks hW hS ?_ dX5_readLine_97
    have hres : ff_readLine S = S96 := by
      unfold ff_readLine
      first
      | rw [if_pos (by rw [← n33]; exact c38), f96, e95, f83, n33, nl]; rfl
      | rw [if_neg (by rw [← n33]; exact c38), if_neg (by rw [← n33, ← e42]; exact c47), f96, e95, f83, n33, nl]; rfl
      | rw [if_neg (by rw [← n33]; exact c38), if_pos (by rw [← n33, ← e42]; exact c47), f96, e95, f83, f71, n69, nl]; rfl
    exact ⟨hres.symm, rfl⟩
  · have t38 : ((fd_ S33 48)).toInt < 0 := ww_nle c38
    refine lv_aload_n hx hb dX5_readLine_41 rfl (lv_at hl 2 rfl) ?_
    refine mm_callp (As := []) (rest := []) (n := 0) ⟨hx, hb, hml, hown, hts⟩ hK (mc_look lQ G o S33 E p33) (lw_V q2163 q2165 qs54 q92 q2166) (by decide +kernel) rfl ⟨Nat.le_of_ble_eq_true rfl, Nat.le_of_ble_eq_true rfl⟩ hW hS hl.1 rfl (Nat.le_of_ble_eq_true rfl) dX5_readLine_42 ⟨Nat.le_of_ble_eq_true rfl, Nat.le_of_ble_eq_true rfl⟩ (fun v42 H locs e42 hW hS => ?_)
    refine lv_bipush (v := 63) hx hb dX5_readLine_45 (by decide) ?_
    refine lv_icmp_ne (tgt := 74) hx hb dX5_readLine_47 (by decide) (fun c47 => ?_) (fun c47 => ?_)
    · skip
      have b74 : fd_ S33 50 = fd_ S 50 := by
        first
        | exact b33
        | (rw [f71]; exact (ps_ok 64 5 S69 q69).2.1.trans (by rw [f69, fd_wn (by decide), f57, fd_fn (by decide)]; exact b33))
      refine lv_aload_n hx hb dX5_readLine_74 rfl (lv_at hl 2 rfl) ?_
      refine mm_geta hx hb hts hown hK hW 44 rfl q1729 dX5_readLine_75 ?_
      refine lv_iload_n hx hb dX5_readLine_78 rfl (lv_at hl 1 rfl) ?_
      refine lv_aload_n hx hb dX5_readLine_79 rfl (lv_at hl 2 rfl) ?_
      refine mm_geti hx hb hts hown hK hW 51 rfl (by decide) q1736 dX5_readLine_80 ?_
      refine mm_iast hx hb hK hW hS 44 rfl (by rw [e16, e6]; exact ix_90 hQ.1 hL) dX5_readLine_83 (fun S83 H locs f83 hW hS => ?_)
      refine lv_aload_n hx hb dX5_readLine_84 rfl (lv_at hl 2 rfl) ?_
      refine mm_geta hx hb hts hown hK hW 42 rfl q1727 dX5_readLine_85 ?_
      refine lv_aload_n hx hb dX5_readLine_88 rfl (lv_at hl 2 rfl) ?_
      refine mm_geti hx hb hts hown hK hW 50 rfl (by decide) q1735 dX5_readLine_89 ?_
      refine lv_dup2_11 hx hb dX5_readLine_92 rfl rfl ?_
      refine mm_iald hx hb hK hW 42 rfl (by rw [f83, fd_wn (by decide), b74]; exact ww_in p6 (by omega)) dX5_readLine_93 ?_
      refine lv_iconst (v := 1) hx hb dX5_readLine_94 (by decide) ?_
      refine nv_iadd hx hb dX5_readLine_95 (fun v95 e95 => ?_)
      refine mm_iast hx hb hK hW hS 42 rfl (by rw [f83, fd_wn (by decide), b74]; exact ww_in p6 (by omega)) dX5_readLine_96 (fun S96 H locs f96 hW hS => ?_)
      refine mm_vret hx hb hr hlocks hW hS ?_ dX5_readLine_97
      have hres : ff_readLine S = S96 := by
        unfold ff_readLine
        first
        | rw [if_pos (by rw [← n33]; exact c38), f96, e95, f83, n33, nl]; rfl
        | rw [if_neg (by rw [← n33]; exact c38), if_neg (by rw [← n33, ← e42]; exact c47), f96, e95, f83, n33, nl]; rfl
        | rw [if_neg (by rw [← n33]; exact c38), if_pos (by rw [← n33, ← e42]; exact c47), f96, e95, f83, f71, n69, nl]; rfl
      exact ⟨hres.symm, rfl⟩
    · skip
      refine lv_aload_n hx hb dX5_readLine_50 rfl (lv_at hl 2 rfl) ?_
      refine lv_dup hx hb dX5_readLine_51 rfl ?_
      refine mm_geti hx hb hts hown hK hW 47 rfl (by decide) q1732 dX5_readLine_52 ?_
      refine lv_iconst (v := 1) hx hb dX5_readLine_55 (by decide) ?_
      refine nv_iadd hx hb dX5_readLine_56 (fun v56 e56 => ?_)
      refine mm_puti hx hb hts hown hK hW hS 47 rfl (by decide) rfl rfl rfl q1732 dX5_readLine_57 (fun S57 H locs f57 hW hS => ?_)
      refine lv_aload_n hx hb dX5_readLine_60 rfl (lv_at hl 2 rfl) ?_
      refine mm_geta hx hb hts hown hK hW 43 rfl q1728 dX5_readLine_61 ?_
      refine lv_iload_n hx hb dX5_readLine_64 rfl (lv_at hl 1 rfl) ?_
      refine lv_aload_n hx hb dX5_readLine_65 rfl (lv_at hl 2 rfl) ?_
      refine mm_geti hx hb hts hown hK hW 51 rfl (by decide) q1736 dX5_readLine_66 ?_
      refine mm_iast hx hb hK hW hS 43 rfl (by rw [e16, e6]; exact ix_90 hQ.1 hL) dX5_readLine_69 (fun S69 H locs f69 hW hS => ?_)
      have n69 : S69 = fp_mid S := by rw [f69, f57, e56, n33, nl]; rfl
      have q69 : iv_Q S69 := by rw [n69]; exact (fp_mid_R hQ (by rw [← n33]; exact t38) (fp_look_lt (by rw [← n33, ← e42, c47]; decide))).2.2
      refine lv_aload_n hx hb dX5_readLine_70 rfl (lv_at hl 2 rfl) ?_
      refine mm_callv (As := []) (rest := []) (n := 0) ⟨hx, hb, hml, hown, hts⟩ hK (mc_ei lQ G o S69 E q69) (lw_V q2139 q2141 qs48 q92 q2142) (by decide +kernel) rfl ⟨Nat.le_of_ble_eq_true rfl, Nat.le_of_ble_eq_true rfl⟩ hW hS hl.1 rfl (Nat.le_of_ble_eq_true rfl) dX5_readLine_71 ⟨Nat.le_of_ble_eq_true rfl, Nat.le_of_ble_eq_true rfl⟩ (fun S71 H locs f71 hW hS => ?_)
      have b74 : fd_ S71 50 = fd_ S 50 := by
        first
        | exact b33
        | (rw [f71]; exact (ps_ok 64 5 S69 q69).2.1.trans (by rw [f69, fd_wn (by decide), f57, fd_fn (by decide)]; exact b33))
      refine lv_aload_n hx hb dX5_readLine_74 rfl (lv_at hl 2 rfl) ?_
      refine mm_geta hx hb hts hown hK hW 44 rfl q1729 dX5_readLine_75 ?_
      refine lv_iload_n hx hb dX5_readLine_78 rfl (lv_at hl 1 rfl) ?_
      refine lv_aload_n hx hb dX5_readLine_79 rfl (lv_at hl 2 rfl) ?_
      refine mm_geti hx hb hts hown hK hW 51 rfl (by decide) q1736 dX5_readLine_80 ?_
      refine mm_iast hx hb hK hW hS 44 rfl (by rw [e16, e6]; exact ix_90 hQ.1 hL) dX5_readLine_83 (fun S83 H locs f83 hW hS => ?_)
      refine lv_aload_n hx hb dX5_readLine_84 rfl (lv_at hl 2 rfl) ?_
      refine mm_geta hx hb hts hown hK hW 42 rfl q1727 dX5_readLine_85 ?_
      refine lv_aload_n hx hb dX5_readLine_88 rfl (lv_at hl 2 rfl) ?_
      refine mm_geti hx hb hts hown hK hW 50 rfl (by decide) q1735 dX5_readLine_89 ?_
      refine lv_dup2_11 hx hb dX5_readLine_92 rfl rfl ?_
      refine mm_iald hx hb hK hW 42 rfl (by rw [f83, fd_wn (by decide), b74]; exact ww_in p6 (by omega)) dX5_readLine_93 ?_
      refine lv_iconst (v := 1) hx hb dX5_readLine_94 (by decide) ?_
      refine nv_iadd hx hb dX5_readLine_95 (fun v95 e95 => ?_)
      refine mm_iast hx hb hK hW hS 42 rfl (by rw [f83, fd_wn (by decide), b74]; exact ww_in p6 (by omega)) dX5_readLine_96 (fun S96 H locs f96 hW hS => ?_)
      refine mm_vret hx hb hr hlocks hW hS ?_ dX5_readLine_97
      have hres : ff_readLine S = S96 := by
        unfold ff_readLine
        first
        | rw [if_pos (by rw [← n33]; exact c38), f96, e95, f83, n33, nl]; rfl
        | rw [if_neg (by rw [← n33]; exact c38), if_neg (by rw [← n33, ← e42]; exact c47), f96, e95, f83, n33, nl]; rfl
        | rw [if_neg (by rw [← n33]; exact c38), if_pos (by rw [← n33, ← e42]; exact c47), f96, e95, f83, f71, n69, nl]; rfl
      exact ⟨hres.symm, rfl⟩

set_option maxHeartbeats 4000000 in
theorem mc_isWhat (lQ : Launch) (w : Int32) : pp_Met lQ yX5_isWhat (ws_ yX5_isWhat cX5_isWhat 1 (some .boolean)) 1 [.int w] (some (.int (ff_isWhat w))) := by
  refine pp_start (own := RX5) (by decide +kernel) (Nat.le_of_ble_eq_true rfl) rfl (fun pQ eQ sQ mQ belowQ methQ cQ hx hb hml hr hlocks hts hown ls hl => ?_)
  have hl : lv_has ls 1 [(0, .int w)] := hl
  refine lv_iload_n hx hb dX5_isWhat_0 rfl (lv_at hl 0 rfl) ?_
  refine lv_iconst (v := 0) hx hb dX5_isWhat_1 (by decide) ?_
  refine lv_bipush (v := 12) hx hb dX5_isWhat_2 (by decide) ?_
  refine pp_calli (As := [.int w, .int 0, .int 12]) (rest := []) (n := 3) ⟨hx, hb, hml, hown, hts⟩ (mc_in lQ w 0 12) (lw_S q1979 q1980 q92 q1981) (by decide +kernel) rfl ⟨Nat.le_of_ble_eq_true rfl, Nat.le_of_ble_eq_true rfl⟩ hl.1 rfl (Nat.le_of_ble_eq_true rfl) dX5_isWhat_4 ⟨Nat.le_of_ble_eq_true rfl, Nat.le_of_ble_eq_true rfl⟩ (fun v4 e4 => ?_)
  refine lv_if_eq (tgt := 22) hx hb dX5_isWhat_7 (by decide) (fun c7 => ?_) (fun c7 => ?_)
  · skip
    refine lv_iconst (v := 0) hx hb dX5_isWhat_22 (by decide) ?_
    refine pp_zret hx hb hr hlocks rfl ?_ dX5_isWhat_23
    have hres : ff_isWhat w = 0 := by subst e4; simp only [ff_isWhat, if_pos c7]
    rw [hres]
  · skip
    refine lv_iload_n hx hb dX5_isWhat_10 rfl (lv_at hl 0 rfl) ?_
    refine lv_bipush (v := 10) hx hb dX5_isWhat_11 (by decide) ?_
    refine nv_irem hx hb dX5_isWhat_13 (by decide) (fun v13 e13 => ?_)
    refine lv_iconst (v := 2) hx hb dX5_isWhat_14 (by decide) ?_
    refine lv_icmp_gt (tgt := 22) hx hb dX5_isWhat_15 (by decide) (fun c15 => ?_) (fun c15 => ?_)
    · have t15 : 2 < (v13).toInt := ww_lt c15
      refine lv_iconst (v := 0) hx hb dX5_isWhat_22 (by decide) ?_
      refine pp_zret hx hb hr hlocks rfl ?_ dX5_isWhat_23
      have hres : ff_isWhat w = 0 := by subst e4 e13; simp only [ff_isWhat, if_neg c7, if_pos c15]
      rw [hres]
    · have t15 : (v13).toInt ≤ 2 := ww_nlt c15
      refine lv_iconst (v := 1) hx hb dX5_isWhat_18 (by decide) ?_
      refine lv_goto (tgt := 23) hx hb dX5_isWhat_19 (by decide) ?_
      refine pp_zret hx hb hr hlocks rfl ?_ dX5_isWhat_23
      have hres : ff_isWhat w = 1 := by subst e4 e13; simp only [ff_isWhat, if_neg c7, if_neg c15]
      rw [hres]

set_option maxHeartbeats 4000000 in
theorem mc_text (lQ : Launch) (G : wm_G) (o : Nat) (S : mm_S) (E : mm_E) (w : Int32) (f : Int32) (hp0 : 0 ≤ (fd_ S 37).toInt) (hp1 : (fd_ S 37).toInt ≤ 160) (ht0 : 0 ≤ (fd_ S 38).toInt) (ht1 : (fd_ S 38).toInt ≤ 16) : mm_Met lQ G o yX5_text (ws_ yX5_text cX5_text 3 (some .int)) 69 S E [.int w, .int f] (some (.int (ff_text S w f).1)) (ff_text S w f).2 E := by
  refine mm_start (by decide +kernel) (Nat.le_of_ble_eq_true rfl) rfl (fun pQ eQ sQ mQ belowQ methQ cQ hx hb hml hr hlocks hts hown hK H hW hS ls hl => ?_)
  have hl : lv_has ls 3 [(0, .ref o), (1, .int w), (2, .int f)] := hl
  generalize hlc : ([] : List Loc) = locs at hS ⊢
  refine lv_iload_n hx hb dX5_text_0 rfl (lv_at hl 1 rfl) ?_
  refine pp_calli (As := [.int w]) (rest := []) (n := 1) ⟨hx, hb, hml, hown, hts⟩ (mc_isWhat lQ w) (lw_S q2132 q2133 q92 q2134) (by decide +kernel) rfl ⟨Nat.le_of_ble_eq_true rfl, Nat.le_of_ble_eq_true rfl⟩ hl.1 rfl (Nat.le_of_ble_eq_true rfl) dX5_text_1 ⟨Nat.le_of_ble_eq_true rfl, Nat.le_of_ble_eq_true rfl⟩ (fun v1 e1 => ?_)
  refine lv_if_eq (tgt := 21) hx hb dX5_text_4 (by decide) (fun c4 => ?_) (fun c4 => ?_)
  · skip
    refine lv_iconst (v := (-1)) hx hb dX5_text_21 (by decide) ?_
    refine mm_iret hx hb hr hlocks hW hS ?_ dX5_text_22
    have hres : ff_text S w f = ((-1), S) := by subst e1; simp only [ff_text, if_pos c4, fd_wn (show (38 : Nat) ≠ 39 by decide), fd_wn (show (38 : Nat) ≠ 40 by decide), fd_wn (show (38 : Nat) ≠ 41 by decide), fd_wn (show (1 : Nat) ≠ 39 by decide), fd_fw]
    exact ⟨by rw [hres], by rw [hres], rfl⟩
  · skip
    refine lv_iload_n hx hb dX5_text_7 rfl (lv_at hl 2 rfl) ?_
    refine lv_aload_n hx hb dX5_text_8 rfl (lv_at hl 0 rfl) ?_
    refine mm_geti hx hb hts hown hK hW 1 rfl (by decide) q1686 dX5_text_9 ?_
    refine lv_sipush (v := 1699) hx hb dX5_text_12 (by decide) ?_
    refine pp_calli (As := [.int f, .int (fd_ S 1), .int 1699]) (rest := []) (n := 3) ⟨hx, hb, hml, hown, hts⟩ (mc_in lQ f (fd_ S 1) 1699) (lw_S q1979 q1980 q92 q1981) (by decide +kernel) rfl ⟨Nat.le_of_ble_eq_true rfl, Nat.le_of_ble_eq_true rfl⟩ hl.1 rfl (Nat.le_of_ble_eq_true rfl) dX5_text_15 ⟨Nat.le_of_ble_eq_true rfl, Nat.le_of_ble_eq_true rfl⟩ (fun v15 e15 => ?_)
    refine lv_if_ne (tgt := 23) hx hb dX5_text_18 (by decide) (fun c18 => ?_) (fun c18 => ?_)
    · skip
      refine lv_aload_n hx hb dX5_text_23 rfl (lv_at hl 0 rfl) ?_
      refine mm_geti hx hb hts hown hK hW 38 rfl (by decide) q1723 dX5_text_24 ?_
      refine lv_bipush (v := 16) hx hb dX5_text_27 (by decide) ?_
      refine lv_icmp_ne (tgt := 35) hx hb dX5_text_29 (by decide) (fun c29 => ?_) (fun c29 => ?_)
      · skip
        have ht15 : (fd_ S 38).toInt ≤ 15 := by
          have q := ww_ne c29
          have q2 : (16 : Int32).toInt = 16 := by decide
          omega
        obtain ⟨hQ0, hL0⟩ := fs_fd hp0 hp1 ht0 ht15
        refine lv_aload_n hx hb dX5_text_35 rfl (lv_at hl 0 rfl) ?_
        refine lv_aload_n hx hb dX5_text_36 rfl (lv_at hl 0 rfl) ?_
        refine mm_geti hx hb hts hown hK hW 38 rfl (by decide) q1723 dX5_text_37 ?_
        refine mm_puti hx hb hts hown hK hW hS 50 rfl (by decide) rfl rfl rfl q1735 dX5_text_40 (fun S40 H locs f40 hW hS => ?_)
        refine lv_aload_n hx hb dX5_text_43 rfl (lv_at hl 0 rfl) ?_
        refine mm_geta hx hb hts hown hK hW 42 rfl q1727 dX5_text_44 ?_
        refine lv_aload_n hx hb dX5_text_47 rfl (lv_at hl 0 rfl) ?_
        refine mm_geti hx hb hts hown hK hW 50 rfl (by decide) q1735 dX5_text_48 ?_
        refine lv_iconst (v := 0) hx hb dX5_text_51 (by decide) ?_
        refine mm_iast hx hb hK hW hS 42 rfl (by rw [f40, fd_fw]; exact ww_in ht0 (by omega)) dX5_text_52 (fun S52 H locs f52 hW hS => ?_)
        refine lv_aload_n hx hb dX5_text_53 rfl (lv_at hl 0 rfl) ?_
        refine lv_iconst (v := 0) hx hb dX5_text_54 (by decide) ?_
        refine mm_puti hx hb hts hown hK hW hS 51 rfl (by decide) rfl rfl rfl q1736 dX5_text_55 (fun S55 H locs f55 hW hS => ?_)
        refine lv_aload_n hx hb dX5_text_58 rfl (lv_at hl 0 rfl) ?_
        refine lv_iconst (v := 0) hx hb dX5_text_59 (by decide) ?_
        refine mm_puti hx hb hts hown hK hW hS 47 rfl (by decide) rfl rfl rfl q1732 dX5_text_60 (fun S60 H locs f60 hW hS => ?_)
        refine lv_aload_n hx hb dX5_text_63 rfl (lv_at hl 0 rfl) ?_
        refine lv_iconst (v := (-1)) hx hb dX5_text_64 (by decide) ?_
        refine mm_puti hx hb hts hown hK hW hS 48 rfl (by decide) rfl rfl rfl q1733 dX5_text_65 (fun S65 H locs f65 hW hS => ?_)
        refine lv_aload_n hx hb dX5_text_68 rfl (lv_at hl 0 rfl) ?_
        refine lv_iconst (v := 0) hx hb dX5_text_69 (by decide) ?_
        refine mm_puti hx hb hts hown hK hW hS 49 rfl (by decide) rfl rfl rfl q1734 dX5_text_70 (fun S70 H locs f70 hW hS => ?_)
        have n70 : S70 = ft_start S := by rw [f70, f65, f60, f55, f52, f40, fd_fw]; rfl
        rw [← n70] at hQ0 hL0
        have x70 : fd_ S70 38 = fd_ S 38 := by rw [f70, fd_fn (by decide), f65, fd_fn (by decide), f60, fd_fn (by decide), f55, fd_fn (by decide), f52, fd_wn (by decide), f40, fd_fn (by decide)]
        refine lv_aload_n hx hb dX5_text_73 rfl (lv_at hl 0 rfl) ?_
        refine mm_callv (As := []) (rest := []) (n := 0) ⟨hx, hb, hml, hown, hts⟩ hK (mc_readLine lQ G o S70 E hQ0 hL0) (lw_V q2135 q2137 qs47 q92 q2138) (by decide +kernel) rfl ⟨Nat.le_of_ble_eq_true rfl, Nat.le_of_ble_eq_true rfl⟩ hW hS hl.1 rfl (Nat.le_of_ble_eq_true rfl) dX5_text_74 ⟨Nat.le_of_ble_eq_true rfl, Nat.le_of_ble_eq_true rfl⟩ (fun S74 H locs f74 hW hS => ?_)
        have L77 : ∀ (fu77 : Nat) (S0 : mm_S) (H : Heap) (locs : List Loc), ((fd_ S0 37).toInt - (fd_ S0 47).toInt < fu77) → (iv_P S0) → ((fd_ S0 48).toInt < 0 → iv_Q S0 ∧ 0 ≤ (rd_ S0 42 (fd_ S0 50)).toInt ∧ 2 * (rd_ S0 42 (fd_ S0 50)).toInt ≤ (fd_ S0 47).toInt + 1) → (fd_ S0 38 = fd_ S 38) → (ft_go fu77 S0 w f = ff_text S w f) → mm_W G o S0 E H → va_S (mm_F o) sQ.heap H locs → ∀ ls : Array Slot, lv_has ls 3 [(0, .ref o), (1, .int w), (2, .int f)] → W pQ lQ eQ (wm_rm 69) sQ mQ (Value.ref o :: [.int w, .int f]).toArray belowQ methQ cQ H locs 0 0 (MQ belowQ (wm_Q (fun vQ HQ => vQ = some (.int (ff_text S w f).1) ∧ mm_W G o (ff_text S w f).2 E HQ) (mm_F o)) (Value.ref o :: [.int w, .int f]).toArray sQ 0 0 (mm_F o)) (F0 mQ 77 ls []) := by
          intro fu77
          induction fu77 with
          | zero =>
            intro S0 H locs hm77 P77 L77 X77 hgo77 hW hS ls hl
            obtain ⟨p1, p2, p3, p4, p5, p6, p7⟩ := id P77
            exact absurd hm77 (by omega)
          | succ fu77 ih77 =>
            intro S0 H locs hm77 P77 L77 X77 hgo77 hW hS ls hl
            refine lv_aload_n hx hb dX5_text_77 rfl (lv_at hl 0 rfl) ?_
            refine mm_geti hx hb hts hown hK hW 48 rfl (by decide) q1733 dX5_text_78 ?_
            refine lv_if_ge (tgt := 110) hx hb dX5_text_81 (by decide) (fun c81 => ?_) (fun c81 => ?_)
            · have t81 : 0 ≤ ((fd_ S0 48)).toInt := ww_le c81
              refine lv_aload_n hx hb dX5_text_110 rfl (lv_at hl 0 rfl) ?_
              refine mm_geti hx hb hts hown hK hW 48 rfl (by decide) q1733 dX5_text_111 ?_
              refine lv_if_ge (tgt := 132) hx hb dX5_text_114 (by decide) (fun c114 => ?_) (fun c114 => ?_)
              · have t114 : 0 ≤ ((fd_ S0 48)).toInt := ww_le c114
                refine lv_aload_n hx hb dX5_text_132 rfl (lv_at hl 0 rfl) ?_
                refine lv_iconst (v := 0) hx hb dX5_text_133 (by decide) ?_
                refine mm_puti hx hb hts hown hK hW hS 37 rfl (by decide) rfl rfl rfl q1722 dX5_text_134 (fun S134 H locs f134 hW hS => ?_)
                refine lv_aload_n hx hb dX5_text_137 rfl (lv_at hl 0 rfl) ?_
                refine mm_geti hx hb hts hown hK hW 48 rfl (by decide) q1733 dX5_text_138 ?_
                refine lv_if_lt (tgt := 152) hx hb dX5_text_141 (by decide) (fun c141 => ?_) (fun c141 => ?_)
                · have t141 : ((fd_ S134 48)).toInt < 0 := ww_lt c141
                  have h38 : fd_ S134 38 = fd_ S 38 := by
                    first
                    | (rw [f134, fd_fn (by decide), f129, fp_fault_fd (by decide)]; exact X77)
                    | (rw [f134, fd_fn (by decide)]; exact X77)
                  refine lv_aload_n hx hb dX5_text_152 rfl (lv_at hl 0 rfl) ?_
                  refine mm_geta hx hb hts hown hK hW 39 rfl q1724 dX5_text_153 ?_
                  refine lv_aload_n hx hb dX5_text_156 rfl (lv_at hl 0 rfl) ?_
                  refine mm_geti hx hb hts hown hK hW 38 rfl (by decide) q1723 dX5_text_157 ?_
                  refine lv_iload_n hx hb dX5_text_160 rfl (lv_at hl 1 rfl) ?_
                  refine mm_iast hx hb hK hW hS 39 rfl (by rw [h38]; exact ww_in ht0 (by omega)) dX5_text_161 (fun S161 H locs f161 hW hS => ?_)
                  refine lv_aload_n hx hb dX5_text_162 rfl (lv_at hl 0 rfl) ?_
                  refine mm_geta hx hb hts hown hK hW 40 rfl q1725 dX5_text_163 ?_
                  refine lv_aload_n hx hb dX5_text_166 rfl (lv_at hl 0 rfl) ?_
                  refine mm_geti hx hb hts hown hK hW 38 rfl (by decide) q1723 dX5_text_167 ?_
                  refine lv_aload_n hx hb dX5_text_170 rfl (lv_at hl 0 rfl) ?_
                  refine mm_geti hx hb hts hown hK hW 1 rfl (by decide) q1686 dX5_text_171 ?_
                  refine mm_iast hx hb hK hW hS 40 rfl (by rw [f161, fd_wn (by decide), h38]; exact ww_in ht0 (by omega)) dX5_text_174 (fun S174 H locs f174 hW hS => ?_)
                  refine lv_aload_n hx hb dX5_text_175 rfl (lv_at hl 0 rfl) ?_
                  refine mm_geta hx hb hts hown hK hW 41 rfl q1726 dX5_text_176 ?_
                  refine lv_aload_n hx hb dX5_text_179 rfl (lv_at hl 0 rfl) ?_
                  refine mm_geti hx hb hts hown hK hW 38 rfl (by decide) q1723 dX5_text_180 ?_
                  refine lv_iload_n hx hb dX5_text_183 rfl (lv_at hl 2 rfl) ?_
                  refine mm_iast hx hb hK hW hS 41 rfl (by rw [f174, fd_wn (by decide), f161, fd_wn (by decide), h38]; exact ww_in ht0 (by omega)) dX5_text_184 (fun S184 H locs f184 hW hS => ?_)
                  refine lv_aload_n hx hb dX5_text_185 rfl (lv_at hl 0 rfl) ?_
                  refine lv_dup hx hb dX5_text_186 rfl ?_
                  refine mm_geti hx hb hts hown hK hW 38 rfl (by decide) q1723 dX5_text_187 ?_
                  refine lv_iconst (v := 1) hx hb dX5_text_190 (by decide) ?_
                  refine nv_iadd hx hb dX5_text_191 (fun v191 e191 => ?_)
                  refine mm_puti hx hb hts hown hK hW hS 38 rfl (by decide) rfl rfl rfl q1723 dX5_text_192 (fun S192 H locs f192 hW hS => ?_)
                  refine lv_aload_n hx hb dX5_text_195 rfl (lv_at hl 0 rfl) ?_
                  refine mm_geti hx hb hts hown hK hW 38 rfl (by decide) q1723 dX5_text_196 ?_
                  refine lv_iconst (v := 1) hx hb dX5_text_199 (by decide) ?_
                  refine nv_isub hx hb dX5_text_200 (fun v200 e200 => ?_)
                  refine mm_iret hx hb hr hlocks hW hS ?_ dX5_text_201
                  have hres : ff_text S w f = (v200, S192) := by rw [← hgo77]; subst f134 f161 f174 f184 e191 f192 e200; simp only [ft_go, ft_fin, ft_fin2, if_pos c81, if_pos c114, if_pos c141, fd_wn (show (38 : Nat) ≠ 39 by decide), fd_wn (show (38 : Nat) ≠ 40 by decide), fd_wn (show (38 : Nat) ≠ 41 by decide), fd_wn (show (1 : Nat) ≠ 39 by decide), fd_fw]
                  exact ⟨by rw [hres], by rw [hres], rfl⟩
                · have t141 : 0 ≤ ((fd_ S134 48)).toInt := ww_nlt c141
                  refine lv_bipush (v := (-100)) hx hb dX5_text_144 (by decide) ?_
                  refine lv_aload_n hx hb dX5_text_146 rfl (lv_at hl 0 rfl) ?_
                  refine mm_geti hx hb hts hown hK hW 48 rfl (by decide) q1733 dX5_text_147 ?_
                  refine nv_isub hx hb dX5_text_150 (fun v150 e150 => ?_)
                  refine mm_iret hx hb hr hlocks hW hS ?_ dX5_text_151
                  have hres : ff_text S w f = (v150, S134) := by rw [← hgo77]; subst f134 e150; simp only [ft_go, ft_fin, ft_fin2, if_pos c81, if_pos c114, if_neg c141, fd_wn (show (38 : Nat) ≠ 39 by decide), fd_wn (show (38 : Nat) ≠ 40 by decide), fd_wn (show (38 : Nat) ≠ 41 by decide), fd_wn (show (1 : Nat) ≠ 39 by decide), fd_fw]
                  exact ⟨by rw [hres], by rw [hres], rfl⟩
              · have t114 : ((fd_ S0 48)).toInt < 0 := ww_nle c114
                exact absurd c81 c114
            · have t81 : ((fd_ S0 48)).toInt < 0 := ww_nle c81
              refine lv_aload_n hx hb dX5_text_84 rfl (lv_at hl 0 rfl) ?_
              refine mm_callp (As := []) (rest := []) (n := 0) ⟨hx, hb, hml, hown, hts⟩ hK (mc_look lQ G o S0 E P77) (lw_V q2163 q2165 qs54 q92 q2166) (by decide +kernel) rfl ⟨Nat.le_of_ble_eq_true rfl, Nat.le_of_ble_eq_true rfl⟩ hW hS hl.1 rfl (Nat.le_of_ble_eq_true rfl) dX5_text_85 ⟨Nat.le_of_ble_eq_true rfl, Nat.le_of_ble_eq_true rfl⟩ (fun v85 H locs e85 hW hS => ?_)
              refine lv_bipush (v := 59) hx hb dX5_text_88 (by decide) ?_
              refine lv_icmp_ne (tgt := 110) hx hb dX5_text_90 (by decide) (fun c90 => ?_) (fun c90 => ?_)
              · skip
                refine lv_aload_n hx hb dX5_text_110 rfl (lv_at hl 0 rfl) ?_
                refine mm_geti hx hb hts hown hK hW 48 rfl (by decide) q1733 dX5_text_111 ?_
                refine lv_if_ge (tgt := 132) hx hb dX5_text_114 (by decide) (fun c114 => ?_) (fun c114 => ?_)
                · have t114 : 0 ≤ ((fd_ S0 48)).toInt := ww_le c114
                  exact absurd c114 c81
                · have t114 : ((fd_ S0 48)).toInt < 0 := ww_nle c114
                  refine lv_aload_n hx hb dX5_text_117 rfl (lv_at hl 0 rfl) ?_
                  refine mm_geti hx hb hts hown hK hW 47 rfl (by decide) q1732 dX5_text_118 ?_
                  refine lv_aload_n hx hb dX5_text_121 rfl (lv_at hl 0 rfl) ?_
                  refine mm_geti hx hb hts hown hK hW 37 rfl (by decide) q1722 dX5_text_122 ?_
                  refine lv_icmp_ge (tgt := 132) hx hb dX5_text_125 (by decide) (fun c125 => ?_) (fun c125 => ?_)
                  · have t125 : ((fd_ S0 37)).toInt ≤ ((fd_ S0 47)).toInt := ww_le c125
                    refine lv_aload_n hx hb dX5_text_132 rfl (lv_at hl 0 rfl) ?_
                    refine lv_iconst (v := 0) hx hb dX5_text_133 (by decide) ?_
                    refine mm_puti hx hb hts hown hK hW hS 37 rfl (by decide) rfl rfl rfl q1722 dX5_text_134 (fun S134 H locs f134 hW hS => ?_)
                    refine lv_aload_n hx hb dX5_text_137 rfl (lv_at hl 0 rfl) ?_
                    refine mm_geti hx hb hts hown hK hW 48 rfl (by decide) q1733 dX5_text_138 ?_
                    refine lv_if_lt (tgt := 152) hx hb dX5_text_141 (by decide) (fun c141 => ?_) (fun c141 => ?_)
                    · have t141 : ((fd_ S134 48)).toInt < 0 := ww_lt c141
                      have h38 : fd_ S134 38 = fd_ S 38 := by
                        first
                        | (rw [f134, fd_fn (by decide), f129, fp_fault_fd (by decide)]; exact X77)
                        | (rw [f134, fd_fn (by decide)]; exact X77)
                      refine lv_aload_n hx hb dX5_text_152 rfl (lv_at hl 0 rfl) ?_
                      refine mm_geta hx hb hts hown hK hW 39 rfl q1724 dX5_text_153 ?_
                      refine lv_aload_n hx hb dX5_text_156 rfl (lv_at hl 0 rfl) ?_
                      refine mm_geti hx hb hts hown hK hW 38 rfl (by decide) q1723 dX5_text_157 ?_
                      refine lv_iload_n hx hb dX5_text_160 rfl (lv_at hl 1 rfl) ?_
                      refine mm_iast hx hb hK hW hS 39 rfl (by rw [h38]; exact ww_in ht0 (by omega)) dX5_text_161 (fun S161 H locs f161 hW hS => ?_)
                      refine lv_aload_n hx hb dX5_text_162 rfl (lv_at hl 0 rfl) ?_
                      refine mm_geta hx hb hts hown hK hW 40 rfl q1725 dX5_text_163 ?_
                      refine lv_aload_n hx hb dX5_text_166 rfl (lv_at hl 0 rfl) ?_
                      refine mm_geti hx hb hts hown hK hW 38 rfl (by decide) q1723 dX5_text_167 ?_
                      refine lv_aload_n hx hb dX5_text_170 rfl (lv_at hl 0 rfl) ?_
                      refine mm_geti hx hb hts hown hK hW 1 rfl (by decide) q1686 dX5_text_171 ?_
                      refine mm_iast hx hb hK hW hS 40 rfl (by rw [f161, fd_wn (by decide), h38]; exact ww_in ht0 (by omega)) dX5_text_174 (fun S174 H locs f174 hW hS => ?_)
                      refine lv_aload_n hx hb dX5_text_175 rfl (lv_at hl 0 rfl) ?_
                      refine mm_geta hx hb hts hown hK hW 41 rfl q1726 dX5_text_176 ?_
                      refine lv_aload_n hx hb dX5_text_179 rfl (lv_at hl 0 rfl) ?_
                      refine mm_geti hx hb hts hown hK hW 38 rfl (by decide) q1723 dX5_text_180 ?_
                      refine lv_iload_n hx hb dX5_text_183 rfl (lv_at hl 2 rfl) ?_
                      refine mm_iast hx hb hK hW hS 41 rfl (by rw [f174, fd_wn (by decide), f161, fd_wn (by decide), h38]; exact ww_in ht0 (by omega)) dX5_text_184 (fun S184 H locs f184 hW hS => ?_)
                      refine lv_aload_n hx hb dX5_text_185 rfl (lv_at hl 0 rfl) ?_
                      refine lv_dup hx hb dX5_text_186 rfl ?_
                      refine mm_geti hx hb hts hown hK hW 38 rfl (by decide) q1723 dX5_text_187 ?_
                      refine lv_iconst (v := 1) hx hb dX5_text_190 (by decide) ?_
                      refine nv_iadd hx hb dX5_text_191 (fun v191 e191 => ?_)
                      refine mm_puti hx hb hts hown hK hW hS 38 rfl (by decide) rfl rfl rfl q1723 dX5_text_192 (fun S192 H locs f192 hW hS => ?_)
                      refine lv_aload_n hx hb dX5_text_195 rfl (lv_at hl 0 rfl) ?_
                      refine mm_geti hx hb hts hown hK hW 38 rfl (by decide) q1723 dX5_text_196 ?_
                      refine lv_iconst (v := 1) hx hb dX5_text_199 (by decide) ?_
                      refine nv_isub hx hb dX5_text_200 (fun v200 e200 => ?_)
                      refine mm_iret hx hb hr hlocks hW hS ?_ dX5_text_201
                      have hres : ff_text S w f = (v200, S192) := by rw [← hgo77]; subst e85 f134 f161 f174 f184 e191 f192 e200; simp only [ft_go, ft_fin, ft_fin2, if_neg c81, if_neg c90, if_neg c114, if_pos c125, if_pos c141, fd_wn (show (38 : Nat) ≠ 39 by decide), fd_wn (show (38 : Nat) ≠ 40 by decide), fd_wn (show (38 : Nat) ≠ 41 by decide), fd_wn (show (1 : Nat) ≠ 39 by decide), fd_fw]
                      exact ⟨by rw [hres], by rw [hres], rfl⟩
                    · have t141 : 0 ≤ ((fd_ S134 48)).toInt := ww_nlt c141
                      refine lv_bipush (v := (-100)) hx hb dX5_text_144 (by decide) ?_
                      refine lv_aload_n hx hb dX5_text_146 rfl (lv_at hl 0 rfl) ?_
                      refine mm_geti hx hb hts hown hK hW 48 rfl (by decide) q1733 dX5_text_147 ?_
                      refine nv_isub hx hb dX5_text_150 (fun v150 e150 => ?_)
                      refine mm_iret hx hb hr hlocks hW hS ?_ dX5_text_151
                      have hres : ff_text S w f = (v150, S134) := by rw [← hgo77]; subst e85 f134 e150; simp only [ft_go, ft_fin, ft_fin2, if_neg c81, if_neg c90, if_neg c114, if_pos c125, if_neg c141, fd_wn (show (38 : Nat) ≠ 39 by decide), fd_wn (show (38 : Nat) ≠ 40 by decide), fd_wn (show (38 : Nat) ≠ 41 by decide), fd_wn (show (1 : Nat) ≠ 39 by decide), fd_fw]
                      exact ⟨by rw [hres], by rw [hres], rfl⟩
                  · have t125 : ((fd_ S0 47)).toInt < ((fd_ S0 37)).toInt := ww_nle c125
                    refine lv_aload_n hx hb dX5_text_128 rfl (lv_at hl 0 rfl) ?_
                    refine mm_callv (As := []) (rest := []) (n := 0) ⟨hx, hb, hml, hown, hts⟩ hK (mc_faultHere lQ G o S0 E) (lw_V q2178 q2180 qs57 q92 q2181) (by decide +kernel) rfl ⟨Nat.le_of_ble_eq_true rfl, Nat.le_of_ble_eq_true rfl⟩ hW hS hl.1 rfl (Nat.le_of_ble_eq_true rfl) dX5_text_129 ⟨Nat.le_of_ble_eq_true rfl, Nat.le_of_ble_eq_true rfl⟩ (fun S129 H locs f129 hW hS => ?_)
                    refine lv_aload_n hx hb dX5_text_132 rfl (lv_at hl 0 rfl) ?_
                    refine lv_iconst (v := 0) hx hb dX5_text_133 (by decide) ?_
                    refine mm_puti hx hb hts hown hK hW hS 37 rfl (by decide) rfl rfl rfl q1722 dX5_text_134 (fun S134 H locs f134 hW hS => ?_)
                    refine lv_aload_n hx hb dX5_text_137 rfl (lv_at hl 0 rfl) ?_
                    refine mm_geti hx hb hts hown hK hW 48 rfl (by decide) q1733 dX5_text_138 ?_
                    refine lv_if_lt (tgt := 152) hx hb dX5_text_141 (by decide) (fun c141 => ?_) (fun c141 => ?_)
                    · have t141 : ((fd_ S134 48)).toInt < 0 := ww_lt c141
                      have h38 : fd_ S134 38 = fd_ S 38 := by
                        first
                        | (rw [f134, fd_fn (by decide), f129, fp_fault_fd (by decide)]; exact X77)
                        | (rw [f134, fd_fn (by decide)]; exact X77)
                      refine lv_aload_n hx hb dX5_text_152 rfl (lv_at hl 0 rfl) ?_
                      refine mm_geta hx hb hts hown hK hW 39 rfl q1724 dX5_text_153 ?_
                      refine lv_aload_n hx hb dX5_text_156 rfl (lv_at hl 0 rfl) ?_
                      refine mm_geti hx hb hts hown hK hW 38 rfl (by decide) q1723 dX5_text_157 ?_
                      refine lv_iload_n hx hb dX5_text_160 rfl (lv_at hl 1 rfl) ?_
                      refine mm_iast hx hb hK hW hS 39 rfl (by rw [h38]; exact ww_in ht0 (by omega)) dX5_text_161 (fun S161 H locs f161 hW hS => ?_)
                      refine lv_aload_n hx hb dX5_text_162 rfl (lv_at hl 0 rfl) ?_
                      refine mm_geta hx hb hts hown hK hW 40 rfl q1725 dX5_text_163 ?_
                      refine lv_aload_n hx hb dX5_text_166 rfl (lv_at hl 0 rfl) ?_
                      refine mm_geti hx hb hts hown hK hW 38 rfl (by decide) q1723 dX5_text_167 ?_
                      refine lv_aload_n hx hb dX5_text_170 rfl (lv_at hl 0 rfl) ?_
                      refine mm_geti hx hb hts hown hK hW 1 rfl (by decide) q1686 dX5_text_171 ?_
                      refine mm_iast hx hb hK hW hS 40 rfl (by rw [f161, fd_wn (by decide), h38]; exact ww_in ht0 (by omega)) dX5_text_174 (fun S174 H locs f174 hW hS => ?_)
                      refine lv_aload_n hx hb dX5_text_175 rfl (lv_at hl 0 rfl) ?_
                      refine mm_geta hx hb hts hown hK hW 41 rfl q1726 dX5_text_176 ?_
                      refine lv_aload_n hx hb dX5_text_179 rfl (lv_at hl 0 rfl) ?_
                      refine mm_geti hx hb hts hown hK hW 38 rfl (by decide) q1723 dX5_text_180 ?_
                      refine lv_iload_n hx hb dX5_text_183 rfl (lv_at hl 2 rfl) ?_
                      refine mm_iast hx hb hK hW hS 41 rfl (by rw [f174, fd_wn (by decide), f161, fd_wn (by decide), h38]; exact ww_in ht0 (by omega)) dX5_text_184 (fun S184 H locs f184 hW hS => ?_)
                      refine lv_aload_n hx hb dX5_text_185 rfl (lv_at hl 0 rfl) ?_
                      refine lv_dup hx hb dX5_text_186 rfl ?_
                      refine mm_geti hx hb hts hown hK hW 38 rfl (by decide) q1723 dX5_text_187 ?_
                      refine lv_iconst (v := 1) hx hb dX5_text_190 (by decide) ?_
                      refine nv_iadd hx hb dX5_text_191 (fun v191 e191 => ?_)
                      refine mm_puti hx hb hts hown hK hW hS 38 rfl (by decide) rfl rfl rfl q1723 dX5_text_192 (fun S192 H locs f192 hW hS => ?_)
                      refine lv_aload_n hx hb dX5_text_195 rfl (lv_at hl 0 rfl) ?_
                      refine mm_geti hx hb hts hown hK hW 38 rfl (by decide) q1723 dX5_text_196 ?_
                      refine lv_iconst (v := 1) hx hb dX5_text_199 (by decide) ?_
                      refine nv_isub hx hb dX5_text_200 (fun v200 e200 => ?_)
                      refine mm_iret hx hb hr hlocks hW hS ?_ dX5_text_201
                      have hres : ff_text S w f = (v200, S192) := by rw [← hgo77]; subst e85 f129 f134 f161 f174 f184 e191 f192 e200; simp only [ft_go, ft_fin, ft_fin2, if_neg c81, if_neg c90, if_neg c114, if_neg c125, if_pos c141, fd_wn (show (38 : Nat) ≠ 39 by decide), fd_wn (show (38 : Nat) ≠ 40 by decide), fd_wn (show (38 : Nat) ≠ 41 by decide), fd_wn (show (1 : Nat) ≠ 39 by decide), fd_fw]
                      exact ⟨by rw [hres], by rw [hres], rfl⟩
                    · have t141 : 0 ≤ ((fd_ S134 48)).toInt := ww_nlt c141
                      refine lv_bipush (v := (-100)) hx hb dX5_text_144 (by decide) ?_
                      refine lv_aload_n hx hb dX5_text_146 rfl (lv_at hl 0 rfl) ?_
                      refine mm_geti hx hb hts hown hK hW 48 rfl (by decide) q1733 dX5_text_147 ?_
                      refine nv_isub hx hb dX5_text_150 (fun v150 e150 => ?_)
                      refine mm_iret hx hb hr hlocks hW hS ?_ dX5_text_151
                      have hres : ff_text S w f = (v150, S134) := by rw [← hgo77]; subst e85 f129 f134 e150; simp only [ft_go, ft_fin, ft_fin2, if_neg c81, if_neg c90, if_neg c114, if_neg c125, if_neg c141, fd_wn (show (38 : Nat) ≠ 39 by decide), fd_wn (show (38 : Nat) ≠ 40 by decide), fd_wn (show (38 : Nat) ≠ 41 by decide), fd_wn (show (1 : Nat) ≠ 39 by decide), fd_fw]
                      exact ⟨by rw [hres], by rw [hres], rfl⟩
              · skip
                obtain ⟨hQ1, hL1, hL2⟩ := L77 t81
                have hlq : (fd_ S0 47).toInt < (fd_ S0 37).toInt := fp_look_lt (by rw [← e85, c90]; decide)
                refine lv_aload_n hx hb dX5_text_93 rfl (lv_at hl 0 rfl) ?_
                refine lv_dup hx hb dX5_text_94 rfl ?_
                refine mm_geti hx hb hts hown hK hW 47 rfl (by decide) q1732 dX5_text_95 ?_
                refine lv_iconst (v := 1) hx hb dX5_text_98 (by decide) ?_
                refine nv_iadd hx hb dX5_text_99 (fun v99 e99 => ?_)
                refine mm_puti hx hb hts hown hK hW hS 47 rfl (by decide) rfl rfl rfl q1732 dX5_text_100 (fun S100 H locs f100 hW hS => ?_)
                have nA : S100 = fp_adv S0 := by rw [f100, e99]; rfl
                have qA : iv_Q S100 := by rw [nA]; exact fp_adv_Q hQ1 hlq
                have eA : (fd_ S100 47).toInt = (fd_ S0 47).toInt + 1 := by rw [f100, fd_fw, e99]; exact ww_inc hlq
                have lA : iv_L S100 := by
                  refine ⟨?_, ?_⟩ <;> rw [nA]
                  · exact hL1
                  · rw [← nA, eA]
                    have z : rd_ S100 42 (fd_ S100 50) = rd_ S0 42 (fd_ S0 50) := by rw [nA]; unfold fp_adv; rw [fd_fn (by decide), rd_fn (by decide)]
                    rw [z]
                    exact hL2
                refine lv_aload_n hx hb dX5_text_103 rfl (lv_at hl 0 rfl) ?_
                refine mm_callv (As := []) (rest := []) (n := 0) ⟨hx, hb, hml, hown, hts⟩ hK (mc_readLine lQ G o S100 E qA lA) (lw_V q2135 q2137 qs47 q92 q2138) (by decide +kernel) rfl ⟨Nat.le_of_ble_eq_true rfl, Nat.le_of_ble_eq_true rfl⟩ hW hS hl.1 rfl (Nat.le_of_ble_eq_true rfl) dX5_text_104 ⟨Nat.le_of_ble_eq_true rfl, Nat.le_of_ble_eq_true rfl⟩ (fun S104 H locs f104 hW hS => ?_)
                refine lv_goto (tgt := 77) hx hb dX5_text_107 (by decide) ?_
                have rR := rl_R qA
                have rm := rR.mono
                have r37 : fd_ S104 37 = fd_ S0 37 := by rw [f104]; exact rR.1.trans (by rw [nA]; exact fd_fn (by decide))
                rw [← f104] at rm
                exact ih77 S104 H locs (by rw [r37]; omega) (by rw [f104]; exact rR.iv (by omega) qA.1) (by rw [f104]; intro hF; exact ⟨rR.ivQ (by omega) qA hF, rl_L qA lA hF⟩) (by rw [f104, fd_of (rl_fr _ 38 (by decide)), nA]; exact (show fd_ (fp_adv S0) 38 = fd_ S0 38 from fd_fn (by decide)).trans X77) (by rw [f104, nA]; subst e85; simp only [ft_go, if_neg c81, if_pos c90] at hgo77; exact hgo77) hW hS ls (lv_sub hl [0, 1, 2] rfl)
        exact L77 162 S74 H locs (by obtain ⟨p1, p2, p3, p4, p5, p6, p7⟩ := (rl_R hQ0).iv (by omega) hQ0.1; rw [f74]; show _ < (162 : Int); omega) (by rw [f74]; exact (rl_R hQ0).iv (by omega) hQ0.1) (by rw [f74]; intro hF; exact ⟨(rl_R hQ0).ivQ (by omega) hQ0 hF, rl_L hQ0 hL0 hF⟩) (by rw [f74, fd_of (rl_fr S70 38 (by decide))]; exact x70) (by have z : S74 = ff_readLine (ft_start S) := f74.trans (congrArg ff_readLine n70); subst e1 e15; exact Eq.trans (congrArg (fun T => ft_go 162 T w f) z) (ff_text_go c4 c18 c29)) hW hS ls (lv_sub hl [0, 1, 2] rfl)
      · skip
        refine lv_bipush (v := (-3)) hx hb dX5_text_32 (by decide) ?_
        refine mm_iret hx hb hr hlocks hW hS ?_ dX5_text_34
        have hres : ff_text S w f = ((-3), S) := by subst e1 e15; simp only [ff_text, if_neg c4, if_neg c18, if_pos c29, fd_wn (show (38 : Nat) ≠ 39 by decide), fd_wn (show (38 : Nat) ≠ 40 by decide), fd_wn (show (38 : Nat) ≠ 41 by decide), fd_wn (show (1 : Nat) ≠ 39 by decide), fd_fw]
        exact ⟨by rw [hres], by rw [hres], rfl⟩
    · skip
      refine lv_iconst (v := (-1)) hx hb dX5_text_21 (by decide) ?_
      refine mm_iret hx hb hr hlocks hW hS ?_ dX5_text_22
      have hres : ff_text S w f = ((-1), S) := by subst e1 e15; simp only [ff_text, if_neg c4, if_pos c18, fd_wn (show (38 : Nat) ≠ 39 by decide), fd_wn (show (38 : Nat) ≠ 40 by decide), fd_wn (show (38 : Nat) ≠ 41 by decide), fd_wn (show (1 : Nat) ≠ 39 by decide), fd_fw]
      exact ⟨by rw [hres], by rw [hres], rfl⟩

set_option maxHeartbeats 4000000 in
theorem mc_forceOf (lQ : Launch) (G : wm_G) (o : Nat) (S : mm_S) (E : mm_E) (w : Int32) (h : Int32) (k : Int32) (hB : iv_B S) (hX : iv_X S) : mm_Met lQ G o yX5_forceOf (ws_ yX5_forceOf cX5_forceOf 6 (some .int)) 1 S E [.int w, .int h, .int k] (some (.int (ff_forceOf S w h k))) S E := by
  refine mm_start (by decide +kernel) (Nat.le_of_ble_eq_true rfl) rfl (fun pQ eQ sQ mQ belowQ methQ cQ hx hb hml hr hlocks hts hown hK H hW hS ls hl => ?_)
  have hl : lv_has ls 6 [(0, .ref o), (1, .int w), (2, .int h), (3, .int k)] := hl
  generalize hlc : ([] : List Loc) = locs at hS ⊢
  have hx1 := hX.1
  have hx2 := hX.2.1
  refine lv_aload_n hx hb dX5_forceOf_0 rfl (lv_at hl 0 rfl) ?_
  refine mm_callp (As := []) (rest := []) (n := 0) ⟨hx, hb, hml, hown, hts⟩ hK (mc_firstThrough lQ G o S E hB) (lw_V q2193 q2195 qs59 q92 q2196) (by decide +kernel) rfl ⟨Nat.le_of_ble_eq_true rfl, Nat.le_of_ble_eq_true rfl⟩ hW hS hl.1 rfl (Nat.le_of_ble_eq_true rfl) dX5_forceOf_1 ⟨Nat.le_of_ble_eq_true rfl, Nat.le_of_ble_eq_true rfl⟩ (fun v1 H locs e1 hW hS => ?_)
  refine lv_iload_n hx hb dX5_forceOf_4 rfl (lv_at hl 3 rfl) ?_
  refine wm_join (P := fun w13 : Int32 => w13 = (if k < v1 then 0 else 1)) (j := 13) (rest := []) (ls := ls) (fun w13 ew13 => ?_) (fun J13 => ?_)
  · skip
    refine lv_istore (lv' := [(4, .int w13), (0, .ref o), (1, .int w), (2, .int h), (3, .int k)]) hx hb dX5_forceOf_13 hl (by decide) rfl (fun ls hl => ?_)
    refine lv_aload_n hx hb dX5_forceOf_15 rfl (lv_at hl 1 rfl) ?_
    refine mm_geti hx hb hts hown hK hW 38 rfl (by decide) q1723 dX5_forceOf_16 ?_
    refine lv_iconst (v := 1) hx hb dX5_forceOf_19 (by decide) ?_
    refine nv_isub hx hb dX5_forceOf_20 (fun v20 e20 => ?_)
    refine lv_istore (lv' := [(5, .int v20), (4, .int w13), (0, .ref o), (1, .int w), (2, .int h), (3, .int k)]) hx hb dX5_forceOf_21 hl (by decide) rfl (fun ls hl => ?_)
    have L23 : ∀ (fu23 : Nat) (t : Int32), (t.toInt + 1 < fu23) → (-1 ≤ t.toInt) → (t.toInt < (fd_ S 38).toInt) → (ff_fo_go fu23 S w h k w13 t = ff_forceOf S w h k) → ∀ ls : Array Slot, lv_has ls 6 [(5, .int t), (4, .int w13), (0, .ref o), (1, .int w), (2, .int h), (3, .int k)] → W pQ lQ eQ (wm_rm 1) sQ mQ (Value.ref o :: [.int w, .int h, .int k]).toArray belowQ methQ cQ H locs 0 0 (MQ belowQ (wm_Q (fun vQ HQ => vQ = some (.int (ff_forceOf S w h k)) ∧ mm_W G o S E HQ) (mm_F o)) (Value.ref o :: [.int w, .int h, .int k]).toArray sQ 0 0 (mm_F o)) (F0 mQ 23 ls []) := by
      intro fu23
      induction fu23 with
      | zero =>
        intro t hm23 i023 i123 hgo23 ls hl
        exact absurd hm23 (by omega)
      | succ fu23 ih23 =>
        intro t hm23 i023 i123 hgo23 ls hl
        refine lv_iload hx hb dX5_forceOf_23 (lv_at hl 0 rfl) ?_
        refine lv_if_lt (tgt := 98) hx hb dX5_forceOf_25 (by decide) (fun c25 => ?_) (fun c25 => ?_)
        · have t25 : (t).toInt < 0 := ww_lt c25
          refine lv_bipush (v := (-2)) hx hb dX5_forceOf_98 (by decide) ?_
          refine mm_iret hx hb hr hlocks hW hS ?_ dX5_forceOf_100
          have hres : ff_forceOf S w h k = (-2) := by rw [← hgo23]; simp only [ff_fo_go, if_pos c25]
          exact ⟨by rw [hres], rfl, rfl⟩
        · have t25 : 0 ≤ (t).toInt := ww_nlt c25
          refine lv_aload_n hx hb dX5_forceOf_28 rfl (lv_at hl 2 rfl) ?_
          refine mm_geta hx hb hts hown hK hW 39 rfl q1724 dX5_forceOf_29 ?_
          refine lv_iload hx hb dX5_forceOf_32 (lv_at hl 0 rfl) ?_
          refine mm_iald hx hb hK hW 39 rfl (ww_in (by omega) (by omega)) dX5_forceOf_34 ?_
          refine lv_bipush (v := 10) hx hb dX5_forceOf_35 (by decide) ?_
          refine nv_irem hx hb dX5_forceOf_37 (by decide) (fun v37 e37 => ?_)
          refine lv_iload_n hx hb dX5_forceOf_38 rfl (lv_at hl 3 rfl) ?_
          refine lv_bipush (v := 10) hx hb dX5_forceOf_39 (by decide) ?_
          refine nv_irem hx hb dX5_forceOf_41 (by decide) (fun v41 e41 => ?_)
          refine lv_icmp_ne (tgt := 92) hx hb dX5_forceOf_42 (by decide) (fun c42 => ?_) (fun c42 => ?_)
          · skip
            obtain ⟨v92, e92⟩ : ∃ yQ : Int32, yQ = t + (-1) := ⟨_, rfl⟩
            refine lv_iinc (v := v92) (lv' := [(5, .int v92), (4, .int w13), (0, .ref o), (1, .int w), (2, .int h), (3, .int k)]) hx hb dX5_forceOf_92 hl (k := 0) rfl (by rw [e92]; rfl) (by decide) rfl (fun ls hl => ?_)
            refine lv_goto (tgt := 23) hx hb dX5_forceOf_95 (by decide) ?_
            have tb : v92.toInt = t.toInt - 1 := by rw [e92]; exact ww_dec (by omega)
            exact ih23 v92 (by omega) (by omega) (by omega) (by subst e37 e41 e92; simp only [ff_fo_go, if_neg c25, if_neg c42] at hgo23; exact hgo23) ls (lv_sub hl [0, 1, 2, 3, 4, 5] rfl)
          · skip
            refine lv_aload_n hx hb dX5_forceOf_45 rfl (lv_at hl 2 rfl) ?_
            refine mm_geta hx hb hts hown hK hW 39 rfl q1724 dX5_forceOf_46 ?_
            refine lv_iload hx hb dX5_forceOf_49 (lv_at hl 0 rfl) ?_
            refine mm_iald hx hb hK hW 39 rfl (ww_in (by omega) (by omega)) dX5_forceOf_51 ?_
            refine lv_bipush (v := 10) hx hb dX5_forceOf_52 (by decide) ?_
            refine nv_idiv hx hb dX5_forceOf_54 (by decide) (fun v54 e54 => ?_)
            refine lv_iload_n hx hb dX5_forceOf_55 rfl (lv_at hl 3 rfl) ?_
            refine lv_bipush (v := 10) hx hb dX5_forceOf_56 (by decide) ?_
            refine nv_idiv hx hb dX5_forceOf_58 (by decide) (fun v58 e58 => ?_)
            refine lv_icmp_eq (tgt := 67) hx hb dX5_forceOf_59 (by decide) (fun c59 => ?_) (fun c59 => ?_)
            · skip
              refine lv_aload_n hx hb dX5_forceOf_67 rfl (lv_at hl 2 rfl) ?_
              refine mm_geta hx hb hts hown hK hW 40 rfl q1725 dX5_forceOf_68 ?_
              refine lv_iload hx hb dX5_forceOf_71 (lv_at hl 0 rfl) ?_
              refine mm_iald hx hb hK hW 40 rfl (ww_in (by omega) (by omega)) dX5_forceOf_73 ?_
              refine lv_iload_n hx hb dX5_forceOf_74 rfl (lv_at hl 5 rfl) ?_
              refine lv_icmp_gt (tgt := 92) hx hb dX5_forceOf_75 (by decide) (fun c75 => ?_) (fun c75 => ?_)
              · have t75 : (k).toInt < ((rd_ S 40 t)).toInt := ww_lt c75
                obtain ⟨v92, e92⟩ : ∃ yQ : Int32, yQ = t + (-1) := ⟨_, rfl⟩
                refine lv_iinc (v := v92) (lv' := [(5, .int v92), (4, .int w13), (0, .ref o), (1, .int w), (2, .int h), (3, .int k)]) hx hb dX5_forceOf_92 hl (k := 0) rfl (by rw [e92]; rfl) (by decide) rfl (fun ls hl => ?_)
                refine lv_goto (tgt := 23) hx hb dX5_forceOf_95 (by decide) ?_
                have tb : v92.toInt = t.toInt - 1 := by rw [e92]; exact ww_dec (by omega)
                exact ih23 v92 (by omega) (by omega) (by omega) (by subst e37 e41 e54 e58 e92; simp only [ff_fo_go, if_neg c25, if_pos c42, if_pos c59, if_pos c75] at hgo23; exact hgo23) ls (lv_sub hl [0, 1, 2, 3, 4, 5] rfl)
              · have t75 : ((rd_ S 40 t)).toInt ≤ (k).toInt := ww_nlt c75
                refine lv_aload_n hx hb dX5_forceOf_78 rfl (lv_at hl 2 rfl) ?_
                refine mm_geta hx hb hts hown hK hW 41 rfl q1726 dX5_forceOf_79 ?_
                refine lv_iload hx hb dX5_forceOf_82 (lv_at hl 0 rfl) ?_
                refine mm_iald hx hb hK hW 41 rfl (ww_in (by omega) (by omega)) dX5_forceOf_84 ?_
                refine lv_iload_n hx hb dX5_forceOf_85 rfl (lv_at hl 4 rfl) ?_
                refine lv_icmp_gt (tgt := 92) hx hb dX5_forceOf_86 (by decide) (fun c86 => ?_) (fun c86 => ?_)
                · have t86 : (h).toInt < ((rd_ S 41 t)).toInt := ww_lt c86
                  obtain ⟨v92, e92⟩ : ∃ yQ : Int32, yQ = t + (-1) := ⟨_, rfl⟩
                  refine lv_iinc (v := v92) (lv' := [(5, .int v92), (4, .int w13), (0, .ref o), (1, .int w), (2, .int h), (3, .int k)]) hx hb dX5_forceOf_92 hl (k := 0) rfl (by rw [e92]; rfl) (by decide) rfl (fun ls hl => ?_)
                  refine lv_goto (tgt := 23) hx hb dX5_forceOf_95 (by decide) ?_
                  have tb : v92.toInt = t.toInt - 1 := by rw [e92]; exact ww_dec (by omega)
                  exact ih23 v92 (by omega) (by omega) (by omega) (by subst e37 e41 e54 e58 e92; simp only [ff_fo_go, if_neg c25, if_pos c42, if_pos c59, if_neg c75, if_pos c86] at hgo23; exact hgo23) ls (lv_sub hl [0, 1, 2, 3, 4, 5] rfl)
                · have t86 : ((rd_ S 41 t)).toInt ≤ (h).toInt := ww_nlt c86
                  refine lv_iload hx hb dX5_forceOf_89 (lv_at hl 0 rfl) ?_
                  refine mm_iret hx hb hr hlocks hW hS ?_ dX5_forceOf_91
                  have hres : ff_forceOf S w h k = t := by rw [← hgo23]; subst e37 e41 e54 e58; simp only [ff_fo_go, if_neg c25, if_pos c42, if_pos c59, if_neg c75, if_neg c86]
                  exact ⟨by rw [hres], rfl, rfl⟩
            · skip
              refine lv_iload hx hb dX5_forceOf_62 (lv_at hl 1 rfl) ?_
              refine lv_if_eq (tgt := 92) hx hb dX5_forceOf_64 (by decide) (fun c64 => ?_) (fun c64 => ?_)
              · skip
                obtain ⟨v92, e92⟩ : ∃ yQ : Int32, yQ = t + (-1) := ⟨_, rfl⟩
                refine lv_iinc (v := v92) (lv' := [(5, .int v92), (4, .int w13), (0, .ref o), (1, .int w), (2, .int h), (3, .int k)]) hx hb dX5_forceOf_92 hl (k := 0) rfl (by rw [e92]; rfl) (by decide) rfl (fun ls hl => ?_)
                refine lv_goto (tgt := 23) hx hb dX5_forceOf_95 (by decide) ?_
                have tb : v92.toInt = t.toInt - 1 := by rw [e92]; exact ww_dec (by omega)
                exact ih23 v92 (by omega) (by omega) (by omega) (by subst e37 e41 e54 e58 e92; simp only [ff_fo_go, if_neg c25, if_pos c42, if_neg c59, if_pos c64] at hgo23; exact hgo23) ls (lv_sub hl [0, 1, 2, 3, 4, 5] rfl)
              · skip
                refine lv_aload_n hx hb dX5_forceOf_67 rfl (lv_at hl 2 rfl) ?_
                refine mm_geta hx hb hts hown hK hW 40 rfl q1725 dX5_forceOf_68 ?_
                refine lv_iload hx hb dX5_forceOf_71 (lv_at hl 0 rfl) ?_
                refine mm_iald hx hb hK hW 40 rfl (ww_in (by omega) (by omega)) dX5_forceOf_73 ?_
                refine lv_iload_n hx hb dX5_forceOf_74 rfl (lv_at hl 5 rfl) ?_
                refine lv_icmp_gt (tgt := 92) hx hb dX5_forceOf_75 (by decide) (fun c75 => ?_) (fun c75 => ?_)
                · have t75 : (k).toInt < ((rd_ S 40 t)).toInt := ww_lt c75
                  obtain ⟨v92, e92⟩ : ∃ yQ : Int32, yQ = t + (-1) := ⟨_, rfl⟩
                  refine lv_iinc (v := v92) (lv' := [(5, .int v92), (4, .int w13), (0, .ref o), (1, .int w), (2, .int h), (3, .int k)]) hx hb dX5_forceOf_92 hl (k := 0) rfl (by rw [e92]; rfl) (by decide) rfl (fun ls hl => ?_)
                  refine lv_goto (tgt := 23) hx hb dX5_forceOf_95 (by decide) ?_
                  have tb : v92.toInt = t.toInt - 1 := by rw [e92]; exact ww_dec (by omega)
                  exact ih23 v92 (by omega) (by omega) (by omega) (by subst e37 e41 e54 e58 e92; simp only [ff_fo_go, if_neg c25, if_pos c42, if_neg c59, if_neg c64, if_pos c75] at hgo23; exact hgo23) ls (lv_sub hl [0, 1, 2, 3, 4, 5] rfl)
                · have t75 : ((rd_ S 40 t)).toInt ≤ (k).toInt := ww_nlt c75
                  refine lv_aload_n hx hb dX5_forceOf_78 rfl (lv_at hl 2 rfl) ?_
                  refine mm_geta hx hb hts hown hK hW 41 rfl q1726 dX5_forceOf_79 ?_
                  refine lv_iload hx hb dX5_forceOf_82 (lv_at hl 0 rfl) ?_
                  refine mm_iald hx hb hK hW 41 rfl (ww_in (by omega) (by omega)) dX5_forceOf_84 ?_
                  refine lv_iload_n hx hb dX5_forceOf_85 rfl (lv_at hl 4 rfl) ?_
                  refine lv_icmp_gt (tgt := 92) hx hb dX5_forceOf_86 (by decide) (fun c86 => ?_) (fun c86 => ?_)
                  · have t86 : (h).toInt < ((rd_ S 41 t)).toInt := ww_lt c86
                    obtain ⟨v92, e92⟩ : ∃ yQ : Int32, yQ = t + (-1) := ⟨_, rfl⟩
                    refine lv_iinc (v := v92) (lv' := [(5, .int v92), (4, .int w13), (0, .ref o), (1, .int w), (2, .int h), (3, .int k)]) hx hb dX5_forceOf_92 hl (k := 0) rfl (by rw [e92]; rfl) (by decide) rfl (fun ls hl => ?_)
                    refine lv_goto (tgt := 23) hx hb dX5_forceOf_95 (by decide) ?_
                    have tb : v92.toInt = t.toInt - 1 := by rw [e92]; exact ww_dec (by omega)
                    exact ih23 v92 (by omega) (by omega) (by omega) (by subst e37 e41 e54 e58 e92; simp only [ff_fo_go, if_neg c25, if_pos c42, if_neg c59, if_neg c64, if_neg c75, if_pos c86] at hgo23; exact hgo23) ls (lv_sub hl [0, 1, 2, 3, 4, 5] rfl)
                  · have t86 : ((rd_ S 41 t)).toInt ≤ (h).toInt := ww_nlt c86
                    refine lv_iload hx hb dX5_forceOf_89 (lv_at hl 0 rfl) ?_
                    refine mm_iret hx hb hr hlocks hW hS ?_ dX5_forceOf_91
                    have hres : ff_forceOf S w h k = t := by rw [← hgo23]; subst e37 e41 e54 e58; simp only [ff_fo_go, if_neg c25, if_pos c42, if_neg c59, if_neg c64, if_neg c75, if_neg c86]
                    exact ⟨by rw [hres], rfl, rfl⟩
    exact L23 17 v20 (by rw [e20, ww_sub1 (by omega)]; show _ < (17 : Int); omega) (by rw [e20, ww_sub1 (by omega)]; omega) (by rw [e20, ww_sub1 (by omega)]; omega) (by subst e1 ew13 e20; simp only [ff_forceOf]) ls (lv_sub hl [0, 1, 2, 3, 4, 5] rfl)
  refine lv_icmp_gt (tgt := 12) hx hb dX5_forceOf_5 (by decide) (fun c5 => ?_) (fun c5 => ?_)
  · have t5 : (k).toInt < (v1).toInt := ww_lt c5
    refine lv_iconst (v := 0) hx hb dX5_forceOf_12 (by decide) ?_
    exact J13 _ (by subst e1; simp only [if_pos c5])
  · have t5 : (v1).toInt ≤ (k).toInt := ww_nlt c5
    refine lv_iconst (v := 1) hx hb dX5_forceOf_8 (by decide) ?_
    refine lv_goto (tgt := 13) hx hb dX5_forceOf_9 (by decide) ?_
    exact J13 _ (by subst e1; simp only [if_neg c5])

set_option maxHeartbeats 4000000 in
theorem mc_inForce (lQ : Launch) (G : wm_G) (o : Nat) (S : mm_S) (E : mm_E) (w : Int32) (h : Int32) (k : Int32) (hB : iv_B S) (hX : iv_X S) : mm_Met lQ G o yX5_inForce (ws_ yX5_inForce cX5_inForce 4 (some .int)) 2 S E [.int w, .int h, .int k] (some (.int (ff_inForce S w h k))) S E := by
  refine mm_start (by decide +kernel) (Nat.le_of_ble_eq_true rfl) rfl (fun pQ eQ sQ mQ belowQ methQ cQ hx hb hml hr hlocks hts hown hK H hW hS ls hl => ?_)
  have hl : lv_has ls 4 [(0, .ref o), (1, .int w), (2, .int h), (3, .int k)] := hl
  generalize hlc : ([] : List Loc) = locs at hS ⊢
  refine lv_iload_n hx hb dX5_inForce_0 rfl (lv_at hl 1 rfl) ?_
  refine pp_calli (As := [.int w]) (rest := []) (n := 1) ⟨hx, hb, hml, hown, hts⟩ (mc_isWhat lQ w) (lw_S q2132 q2133 q92 q2134) (by decide +kernel) rfl ⟨Nat.le_of_ble_eq_true rfl, Nat.le_of_ble_eq_true rfl⟩ hl.1 rfl (Nat.le_of_ble_eq_true rfl) dX5_inForce_1 ⟨Nat.le_of_ble_eq_true rfl, Nat.le_of_ble_eq_true rfl⟩ (fun v1 e1 => ?_)
  refine lv_if_eq (tgt := 31) hx hb dX5_inForce_4 (by decide) (fun c4 => ?_) (fun c4 => ?_)
  · skip
    refine lv_iconst (v := (-1)) hx hb dX5_inForce_31 (by decide) ?_
    refine mm_iret hx hb hr hlocks hW hS ?_ dX5_inForce_32
    have hres : ff_inForce S w h k = (-1) := by subst e1; simp only [ff_inForce, if_pos c4]
    exact ⟨by rw [hres], rfl, rfl⟩
  · skip
    refine lv_iload_n hx hb dX5_inForce_7 rfl (lv_at hl 2 rfl) ?_
    refine pp_calli (As := [.int h]) (rest := []) (n := 1) ⟨hx, hb, hml, hown, hts⟩ (mc_isHour lQ h) (lw_S q2186 q2187 q92 q2188) (by decide +kernel) rfl ⟨Nat.le_of_ble_eq_true rfl, Nat.le_of_ble_eq_true rfl⟩ hl.1 rfl (Nat.le_of_ble_eq_true rfl) dX5_inForce_8 ⟨Nat.le_of_ble_eq_true rfl, Nat.le_of_ble_eq_true rfl⟩ (fun v8 e8 => ?_)
    refine lv_if_eq (tgt := 31) hx hb dX5_inForce_11 (by decide) (fun c11 => ?_) (fun c11 => ?_)
    · skip
      refine lv_iconst (v := (-1)) hx hb dX5_inForce_31 (by decide) ?_
      refine mm_iret hx hb hr hlocks hW hS ?_ dX5_inForce_32
      have hres : ff_inForce S w h k = (-1) := by subst e1 e8; simp only [ff_inForce, if_neg c4, if_pos c11]
      exact ⟨by rw [hres], rfl, rfl⟩
    · skip
      refine lv_iload_n hx hb dX5_inForce_14 rfl (lv_at hl 3 rfl) ?_
      refine pp_calli (As := [.int k]) (rest := []) (n := 1) ⟨hx, hb, hml, hown, hts⟩ (mc_isHour lQ k) (lw_S q2186 q2187 q92 q2188) (by decide +kernel) rfl ⟨Nat.le_of_ble_eq_true rfl, Nat.le_of_ble_eq_true rfl⟩ hl.1 rfl (Nat.le_of_ble_eq_true rfl) dX5_inForce_15 ⟨Nat.le_of_ble_eq_true rfl, Nat.le_of_ble_eq_true rfl⟩ (fun v15 e15 => ?_)
      refine lv_if_eq (tgt := 31) hx hb dX5_inForce_18 (by decide) (fun c18 => ?_) (fun c18 => ?_)
      · skip
        refine lv_iconst (v := (-1)) hx hb dX5_inForce_31 (by decide) ?_
        refine mm_iret hx hb hr hlocks hW hS ?_ dX5_inForce_32
        have hres : ff_inForce S w h k = (-1) := by subst e1 e8 e15; simp only [ff_inForce, if_neg c4, if_neg c11, if_pos c18]
        exact ⟨by rw [hres], rfl, rfl⟩
      · skip
        refine lv_aload_n hx hb dX5_inForce_21 rfl (lv_at hl 0 rfl) ?_
        refine lv_iload_n hx hb dX5_inForce_22 rfl (lv_at hl 1 rfl) ?_
        refine lv_iload_n hx hb dX5_inForce_23 rfl (lv_at hl 2 rfl) ?_
        refine lv_iload_n hx hb dX5_inForce_24 rfl (lv_at hl 3 rfl) ?_
        refine mm_callp (As := [.int w, .int h, .int k]) (rest := []) (n := 3) ⟨hx, hb, hml, hown, hts⟩ hK (mc_forceOf lQ G o S E w h k hB hX) (lw_V q2189 q2191 qs58 q92 q2192) (by decide +kernel) rfl ⟨Nat.le_of_ble_eq_true rfl, Nat.le_of_ble_eq_true rfl⟩ hW hS hl.1 rfl (Nat.le_of_ble_eq_true rfl) dX5_inForce_25 ⟨Nat.le_of_ble_eq_true rfl, Nat.le_of_ble_eq_true rfl⟩ (fun v25 H locs e25 hW hS => ?_)
        refine lv_goto (tgt := 32) hx hb dX5_inForce_28 (by decide) ?_
        refine mm_iret hx hb hr hlocks hW hS ?_ dX5_inForce_32
        have hres : ff_inForce S w h k = v25 := by subst e1 e8 e15 e25; simp only [ff_inForce, if_neg c4, if_neg c11, if_neg c18]
        exact ⟨by rw [hres], rfl, rfl⟩

set_option maxHeartbeats 4000000 in
theorem mc_both (lQ : Launch) (w : Int32) (a : Int32) (b : Int32) : pp_Met lQ yX5_both (ws_ yX5_both cX5_both 3 (some .int)) 0 [.int w, .int a, .int b] (some (.int (ff_both w a b))) := by
  refine pp_start (own := RX5) (by decide +kernel) (Nat.le_of_ble_eq_true rfl) rfl (fun pQ eQ sQ mQ belowQ methQ cQ hx hb hml hr hlocks hts hown ls hl => ?_)
  have hl : lv_has ls 3 [(0, .int w), (1, .int a), (2, .int b)] := hl
  refine lv_iload_n hx hb dX5_both_0 rfl (lv_at hl 0 rfl) ?_
  by_cases k1_37 : w = 37
  · skip
    refine lv_tableIn (off := 153) (tgt := 154) hx hb dX5_both_1 (by rw [k1_37]; decide) (by rw [k1_37]; decide) (by rw [k1_37]; rfl) (by decide) ?_
    refine lv_iload_n hx hb dX5_both_154 rfl (lv_at hl 2 rfl) ?_
    refine lv_if_eq (tgt := 163) hx hb dX5_both_155 (by decide) (fun c155 => ?_) (fun c155 => ?_)
    · skip
      refine lv_iconst (v := 0) hx hb dX5_both_163 (by decide) ?_
      refine lv_goto (tgt := 170) hx hb dX5_both_164 (by decide) ?_
      refine pp_iret hx hb hr hlocks ?_ dX5_both_170
      have hres : ff_both w a b = 0 := by rw [k1_37, show ff_both 37 a b = (if b = 0 then 0 else if b = -1 then 0 else jr_ a b) from rfl]; simp only [if_pos c155]
      rw [hres]
    · skip
      refine lv_iload_n hx hb dX5_both_158 rfl (lv_at hl 2 rfl) ?_
      refine lv_iconst (v := (-1)) hx hb dX5_both_159 (by decide) ?_
      refine lv_icmp_ne (tgt := 167) hx hb dX5_both_160 (by decide) (fun c160 => ?_) (fun c160 => ?_)
      · skip
        refine lv_iload_n hx hb dX5_both_167 rfl (lv_at hl 1 rfl) ?_
        refine lv_iload_n hx hb dX5_both_168 rfl (lv_at hl 2 rfl) ?_
        refine nv_irem hx hb dX5_both_169 c155 (fun v169 e169 => ?_)
        refine pp_iret hx hb hr hlocks ?_ dX5_both_170
        have hres : ff_both w a b = v169 := by subst e169; rw [k1_37, show ff_both 37 a b = (if b = 0 then 0 else if b = -1 then 0 else jr_ a b) from rfl]; simp only [if_neg c155, if_neg c160]
        rw [hres]
      · skip
        refine lv_iconst (v := 0) hx hb dX5_both_163 (by decide) ?_
        refine lv_goto (tgt := 170) hx hb dX5_both_164 (by decide) ?_
        refine pp_iret hx hb hr hlocks ?_ dX5_both_170
        have hres : ff_both w a b = 0 := by rw [k1_37, show ff_both 37 a b = (if b = 0 then 0 else if b = -1 then 0 else jr_ a b) from rfl]; simp only [if_neg c155, if_pos c160]
        rw [hres]
  · skip
    by_cases k1_38 : w = 38
    · skip
      refine lv_tableIn (off := 203) (tgt := 204) hx hb dX5_both_1 (by rw [k1_38]; decide) (by rw [k1_38]; decide) (by rw [k1_38]; rfl) (by decide) ?_
      refine lv_iload_n hx hb dX5_both_204 rfl (lv_at hl 1 rfl) ?_
      refine lv_if_eq (tgt := 216) hx hb dX5_both_205 (by decide) (fun c205 => ?_) (fun c205 => ?_)
      · skip
        refine lv_iconst (v := 0) hx hb dX5_both_216 (by decide) ?_
        refine pp_iret hx hb hr hlocks ?_ dX5_both_217
        have hres : ff_both w a b = 0 := by rw [k1_38, show ff_both 38 a b = (if a = 0 then 0 else if b = 0 then 0 else 1) from rfl]; simp only [if_pos c205]
        rw [hres]
      · skip
        refine lv_iload_n hx hb dX5_both_208 rfl (lv_at hl 2 rfl) ?_
        refine lv_if_eq (tgt := 216) hx hb dX5_both_209 (by decide) (fun c209 => ?_) (fun c209 => ?_)
        · skip
          refine lv_iconst (v := 0) hx hb dX5_both_216 (by decide) ?_
          refine pp_iret hx hb hr hlocks ?_ dX5_both_217
          have hres : ff_both w a b = 0 := by rw [k1_38, show ff_both 38 a b = (if a = 0 then 0 else if b = 0 then 0 else 1) from rfl]; simp only [if_neg c205, if_pos c209]
          rw [hres]
        · skip
          refine lv_iconst (v := 1) hx hb dX5_both_212 (by decide) ?_
          refine lv_goto (tgt := 217) hx hb dX5_both_213 (by decide) ?_
          refine pp_iret hx hb hr hlocks ?_ dX5_both_217
          have hres : ff_both w a b = 1 := by rw [k1_38, show ff_both 38 a b = (if a = 0 then 0 else if b = 0 then 0 else 1) from rfl]; simp only [if_neg c205, if_neg c209]
          rw [hres]
    · skip
      by_cases k1_39 : w = 39
      · skip
        refine lv_tableIn (off := 217) (tgt := 218) hx hb dX5_both_1 (by rw [k1_39]; decide) (by rw [k1_39]; decide) (by rw [k1_39]; rfl) (by decide) ?_
        refine lv_iload_n hx hb dX5_both_218 rfl (lv_at hl 1 rfl) ?_
        refine lv_if_ne (tgt := 226) hx hb dX5_both_219 (by decide) (fun c219 => ?_) (fun c219 => ?_)
        · skip
          refine lv_iconst (v := 1) hx hb dX5_both_226 (by decide) ?_
          refine lv_goto (tgt := 231) hx hb dX5_both_227 (by decide) ?_
          refine pp_iret hx hb hr hlocks ?_ dX5_both_231
          have hres : ff_both w a b = 1 := by rw [k1_39, show ff_both 39 a b = (if a = 0 then (if b = 0 then 0 else 1) else 1) from rfl]; simp only [if_neg c219]
          rw [hres]
        · skip
          refine lv_iload_n hx hb dX5_both_222 rfl (lv_at hl 2 rfl) ?_
          refine lv_if_eq (tgt := 230) hx hb dX5_both_223 (by decide) (fun c223 => ?_) (fun c223 => ?_)
          · skip
            refine lv_iconst (v := 0) hx hb dX5_both_230 (by decide) ?_
            refine pp_iret hx hb hr hlocks ?_ dX5_both_231
            have hres : ff_both w a b = 0 := by rw [k1_39, show ff_both 39 a b = (if a = 0 then (if b = 0 then 0 else 1) else 1) from rfl]; simp only [if_pos c219, if_pos c223]
            rw [hres]
          · skip
            refine lv_iconst (v := 1) hx hb dX5_both_226 (by decide) ?_
            refine lv_goto (tgt := 231) hx hb dX5_both_227 (by decide) ?_
            refine pp_iret hx hb hr hlocks ?_ dX5_both_231
            have hres : ff_both w a b = 1 := by rw [k1_39, show ff_both 39 a b = (if a = 0 then (if b = 0 then 0 else 1) else 1) from rfl]; simp only [if_pos c219, if_neg c223]
            rw [hres]
      · skip
        by_cases k1_40 : w = 40
        · skip
          refine lv_tableIn (off := 217) (tgt := 218) hx hb dX5_both_1 (by rw [k1_40]; decide) (by rw [k1_40]; decide) (by rw [k1_40]; rfl) (by decide) ?_
          refine lv_iload_n hx hb dX5_both_218 rfl (lv_at hl 1 rfl) ?_
          refine lv_if_ne (tgt := 226) hx hb dX5_both_219 (by decide) (fun c219 => ?_) (fun c219 => ?_)
          · skip
            refine lv_iconst (v := 1) hx hb dX5_both_226 (by decide) ?_
            refine lv_goto (tgt := 231) hx hb dX5_both_227 (by decide) ?_
            refine pp_iret hx hb hr hlocks ?_ dX5_both_231
            have hres : ff_both w a b = 1 := by rw [k1_40, show ff_both 40 a b = (if a = 0 then (if b = 0 then 0 else 1) else 1) from rfl]; simp only [if_neg c219]
            rw [hres]
          · skip
            refine lv_iload_n hx hb dX5_both_222 rfl (lv_at hl 2 rfl) ?_
            refine lv_if_eq (tgt := 230) hx hb dX5_both_223 (by decide) (fun c223 => ?_) (fun c223 => ?_)
            · skip
              refine lv_iconst (v := 0) hx hb dX5_both_230 (by decide) ?_
              refine pp_iret hx hb hr hlocks ?_ dX5_both_231
              have hres : ff_both w a b = 0 := by rw [k1_40, show ff_both 40 a b = (if a = 0 then (if b = 0 then 0 else 1) else 1) from rfl]; simp only [if_pos c219, if_pos c223]
              rw [hres]
            · skip
              refine lv_iconst (v := 1) hx hb dX5_both_226 (by decide) ?_
              refine lv_goto (tgt := 231) hx hb dX5_both_227 (by decide) ?_
              refine pp_iret hx hb hr hlocks ?_ dX5_both_231
              have hres : ff_both w a b = 1 := by rw [k1_40, show ff_both 40 a b = (if a = 0 then (if b = 0 then 0 else 1) else 1) from rfl]; simp only [if_pos c219, if_neg c223]
              rw [hres]
        · skip
          by_cases k1_41 : w = 41
          · skip
            refine lv_tableIn (off := 217) (tgt := 218) hx hb dX5_both_1 (by rw [k1_41]; decide) (by rw [k1_41]; decide) (by rw [k1_41]; rfl) (by decide) ?_
            refine lv_iload_n hx hb dX5_both_218 rfl (lv_at hl 1 rfl) ?_
            refine lv_if_ne (tgt := 226) hx hb dX5_both_219 (by decide) (fun c219 => ?_) (fun c219 => ?_)
            · skip
              refine lv_iconst (v := 1) hx hb dX5_both_226 (by decide) ?_
              refine lv_goto (tgt := 231) hx hb dX5_both_227 (by decide) ?_
              refine pp_iret hx hb hr hlocks ?_ dX5_both_231
              have hres : ff_both w a b = 1 := by rw [k1_41, show ff_both 41 a b = (if a = 0 then (if b = 0 then 0 else 1) else 1) from rfl]; simp only [if_neg c219]
              rw [hres]
            · skip
              refine lv_iload_n hx hb dX5_both_222 rfl (lv_at hl 2 rfl) ?_
              refine lv_if_eq (tgt := 230) hx hb dX5_both_223 (by decide) (fun c223 => ?_) (fun c223 => ?_)
              · skip
                refine lv_iconst (v := 0) hx hb dX5_both_230 (by decide) ?_
                refine pp_iret hx hb hr hlocks ?_ dX5_both_231
                have hres : ff_both w a b = 0 := by rw [k1_41, show ff_both 41 a b = (if a = 0 then (if b = 0 then 0 else 1) else 1) from rfl]; simp only [if_pos c219, if_pos c223]
                rw [hres]
              · skip
                refine lv_iconst (v := 1) hx hb dX5_both_226 (by decide) ?_
                refine lv_goto (tgt := 231) hx hb dX5_both_227 (by decide) ?_
                refine pp_iret hx hb hr hlocks ?_ dX5_both_231
                have hres : ff_both w a b = 1 := by rw [k1_41, show ff_both 41 a b = (if a = 0 then (if b = 0 then 0 else 1) else 1) from rfl]; simp only [if_pos c219, if_neg c223]
                rw [hres]
          · skip
            by_cases k1_42 : w = 42
            · skip
              refine lv_tableIn (off := 127) (tgt := 128) hx hb dX5_both_1 (by rw [k1_42]; decide) (by rw [k1_42]; decide) (by rw [k1_42]; rfl) (by decide) ?_
              refine lv_iload_n hx hb dX5_both_128 rfl (lv_at hl 1 rfl) ?_
              refine lv_iload_n hx hb dX5_both_129 rfl (lv_at hl 2 rfl) ?_
              refine nv_imul hx hb dX5_both_130 (fun v130 e130 => ?_)
              refine pp_iret hx hb hr hlocks ?_ dX5_both_131
              have hres : ff_both w a b = v130 := by subst e130; rw [k1_42, show ff_both 42 a b = (a * b) from rfl]
              rw [hres]
            · skip
              by_cases k1_43 : w = 43
              · skip
                refine lv_tableIn (off := 119) (tgt := 120) hx hb dX5_both_1 (by rw [k1_43]; decide) (by rw [k1_43]; decide) (by rw [k1_43]; rfl) (by decide) ?_
                refine lv_iload_n hx hb dX5_both_120 rfl (lv_at hl 1 rfl) ?_
                refine lv_iload_n hx hb dX5_both_121 rfl (lv_at hl 2 rfl) ?_
                refine nv_iadd hx hb dX5_both_122 (fun v122 e122 => ?_)
                refine pp_iret hx hb hr hlocks ?_ dX5_both_123
                have hres : ff_both w a b = v122 := by subst e122; rw [k1_43, show ff_both 43 a b = (a + b) from rfl]
                rw [hres]
              · skip
                by_cases k1_44 : w = 44
                · skip
                  refine lv_tableIn (off := 217) (tgt := 218) hx hb dX5_both_1 (by rw [k1_44]; decide) (by rw [k1_44]; decide) (by rw [k1_44]; rfl) (by decide) ?_
                  refine lv_iload_n hx hb dX5_both_218 rfl (lv_at hl 1 rfl) ?_
                  refine lv_if_ne (tgt := 226) hx hb dX5_both_219 (by decide) (fun c219 => ?_) (fun c219 => ?_)
                  · skip
                    refine lv_iconst (v := 1) hx hb dX5_both_226 (by decide) ?_
                    refine lv_goto (tgt := 231) hx hb dX5_both_227 (by decide) ?_
                    refine pp_iret hx hb hr hlocks ?_ dX5_both_231
                    have hres : ff_both w a b = 1 := by rw [k1_44, show ff_both 44 a b = (if a = 0 then (if b = 0 then 0 else 1) else 1) from rfl]; simp only [if_neg c219]
                    rw [hres]
                  · skip
                    refine lv_iload_n hx hb dX5_both_222 rfl (lv_at hl 2 rfl) ?_
                    refine lv_if_eq (tgt := 230) hx hb dX5_both_223 (by decide) (fun c223 => ?_) (fun c223 => ?_)
                    · skip
                      refine lv_iconst (v := 0) hx hb dX5_both_230 (by decide) ?_
                      refine pp_iret hx hb hr hlocks ?_ dX5_both_231
                      have hres : ff_both w a b = 0 := by rw [k1_44, show ff_both 44 a b = (if a = 0 then (if b = 0 then 0 else 1) else 1) from rfl]; simp only [if_pos c219, if_pos c223]
                      rw [hres]
                    · skip
                      refine lv_iconst (v := 1) hx hb dX5_both_226 (by decide) ?_
                      refine lv_goto (tgt := 231) hx hb dX5_both_227 (by decide) ?_
                      refine pp_iret hx hb hr hlocks ?_ dX5_both_231
                      have hres : ff_both w a b = 1 := by rw [k1_44, show ff_both 44 a b = (if a = 0 then (if b = 0 then 0 else 1) else 1) from rfl]; simp only [if_pos c219, if_neg c223]
                      rw [hres]
                · skip
                  by_cases k1_45 : w = 45
                  · skip
                    refine lv_tableIn (off := 123) (tgt := 124) hx hb dX5_both_1 (by rw [k1_45]; decide) (by rw [k1_45]; decide) (by rw [k1_45]; rfl) (by decide) ?_
                    refine lv_iload_n hx hb dX5_both_124 rfl (lv_at hl 1 rfl) ?_
                    refine lv_iload_n hx hb dX5_both_125 rfl (lv_at hl 2 rfl) ?_
                    refine nv_isub hx hb dX5_both_126 (fun v126 e126 => ?_)
                    refine pp_iret hx hb hr hlocks ?_ dX5_both_127
                    have hres : ff_both w a b = v126 := by subst e126; rw [k1_45, show ff_both 45 a b = (a - b) from rfl]
                    rw [hres]
                  · skip
                    by_cases k1_46 : w = 46
                    · skip
                      refine lv_tableIn (off := 217) (tgt := 218) hx hb dX5_both_1 (by rw [k1_46]; decide) (by rw [k1_46]; decide) (by rw [k1_46]; rfl) (by decide) ?_
                      refine lv_iload_n hx hb dX5_both_218 rfl (lv_at hl 1 rfl) ?_
                      refine lv_if_ne (tgt := 226) hx hb dX5_both_219 (by decide) (fun c219 => ?_) (fun c219 => ?_)
                      · skip
                        refine lv_iconst (v := 1) hx hb dX5_both_226 (by decide) ?_
                        refine lv_goto (tgt := 231) hx hb dX5_both_227 (by decide) ?_
                        refine pp_iret hx hb hr hlocks ?_ dX5_both_231
                        have hres : ff_both w a b = 1 := by rw [k1_46, show ff_both 46 a b = (if a = 0 then (if b = 0 then 0 else 1) else 1) from rfl]; simp only [if_neg c219]
                        rw [hres]
                      · skip
                        refine lv_iload_n hx hb dX5_both_222 rfl (lv_at hl 2 rfl) ?_
                        refine lv_if_eq (tgt := 230) hx hb dX5_both_223 (by decide) (fun c223 => ?_) (fun c223 => ?_)
                        · skip
                          refine lv_iconst (v := 0) hx hb dX5_both_230 (by decide) ?_
                          refine pp_iret hx hb hr hlocks ?_ dX5_both_231
                          have hres : ff_both w a b = 0 := by rw [k1_46, show ff_both 46 a b = (if a = 0 then (if b = 0 then 0 else 1) else 1) from rfl]; simp only [if_pos c219, if_pos c223]
                          rw [hres]
                        · skip
                          refine lv_iconst (v := 1) hx hb dX5_both_226 (by decide) ?_
                          refine lv_goto (tgt := 231) hx hb dX5_both_227 (by decide) ?_
                          refine pp_iret hx hb hr hlocks ?_ dX5_both_231
                          have hres : ff_both w a b = 1 := by rw [k1_46, show ff_both 46 a b = (if a = 0 then (if b = 0 then 0 else 1) else 1) from rfl]; simp only [if_pos c219, if_neg c223]
                          rw [hres]
                    · skip
                      by_cases k1_47 : w = 47
                      · skip
                        refine lv_tableIn (off := 131) (tgt := 132) hx hb dX5_both_1 (by rw [k1_47]; decide) (by rw [k1_47]; decide) (by rw [k1_47]; rfl) (by decide) ?_
                        refine lv_iload_n hx hb dX5_both_132 rfl (lv_at hl 2 rfl) ?_
                        refine lv_if_ne (tgt := 140) hx hb dX5_both_133 (by decide) (fun c133 => ?_) (fun c133 => ?_)
                        · skip
                          refine lv_iload_n hx hb dX5_both_140 rfl (lv_at hl 2 rfl) ?_
                          refine lv_iconst (v := (-1)) hx hb dX5_both_141 (by decide) ?_
                          refine lv_icmp_ne (tgt := 150) hx hb dX5_both_142 (by decide) (fun c142 => ?_) (fun c142 => ?_)
                          · skip
                            refine lv_iload_n hx hb dX5_both_150 rfl (lv_at hl 1 rfl) ?_
                            refine lv_iload_n hx hb dX5_both_151 rfl (lv_at hl 2 rfl) ?_
                            refine nv_idiv hx hb dX5_both_152 c133 (fun v152 e152 => ?_)
                            refine pp_iret hx hb hr hlocks ?_ dX5_both_153
                            have hres : ff_both w a b = v152 := by subst e152; rw [k1_47, show ff_both 47 a b = (if b = 0 then 0 else if b = -1 then -a else a / b) from rfl]; simp only [if_neg c133, if_neg c142]
                            rw [hres]
                          · skip
                            refine lv_iload_n hx hb dX5_both_145 rfl (lv_at hl 1 rfl) ?_
                            refine nv_ineg hx hb dX5_both_146 (fun v146 e146 => ?_)
                            refine lv_goto (tgt := 153) hx hb dX5_both_147 (by decide) ?_
                            refine pp_iret hx hb hr hlocks ?_ dX5_both_153
                            have hres : ff_both w a b = v146 := by subst e146; rw [k1_47, show ff_both 47 a b = (if b = 0 then 0 else if b = -1 then -a else a / b) from rfl]; simp only [if_neg c133, if_pos c142]
                            rw [hres]
                        · skip
                          refine lv_iconst (v := 0) hx hb dX5_both_136 (by decide) ?_
                          refine lv_goto (tgt := 153) hx hb dX5_both_137 (by decide) ?_
                          refine pp_iret hx hb hr hlocks ?_ dX5_both_153
                          have hres : ff_both w a b = 0 := by rw [k1_47, show ff_both 47 a b = (if b = 0 then 0 else if b = -1 then -a else a / b) from rfl]; simp only [if_pos c133]
                          rw [hres]
                      · skip
                        by_cases k1_48 : w = 48
                        · skip
                          refine lv_tableIn (off := 217) (tgt := 218) hx hb dX5_both_1 (by rw [k1_48]; decide) (by rw [k1_48]; decide) (by rw [k1_48]; rfl) (by decide) ?_
                          refine lv_iload_n hx hb dX5_both_218 rfl (lv_at hl 1 rfl) ?_
                          refine lv_if_ne (tgt := 226) hx hb dX5_both_219 (by decide) (fun c219 => ?_) (fun c219 => ?_)
                          · skip
                            refine lv_iconst (v := 1) hx hb dX5_both_226 (by decide) ?_
                            refine lv_goto (tgt := 231) hx hb dX5_both_227 (by decide) ?_
                            refine pp_iret hx hb hr hlocks ?_ dX5_both_231
                            have hres : ff_both w a b = 1 := by rw [k1_48, show ff_both 48 a b = (if a = 0 then (if b = 0 then 0 else 1) else 1) from rfl]; simp only [if_neg c219]
                            rw [hres]
                          · skip
                            refine lv_iload_n hx hb dX5_both_222 rfl (lv_at hl 2 rfl) ?_
                            refine lv_if_eq (tgt := 230) hx hb dX5_both_223 (by decide) (fun c223 => ?_) (fun c223 => ?_)
                            · skip
                              refine lv_iconst (v := 0) hx hb dX5_both_230 (by decide) ?_
                              refine pp_iret hx hb hr hlocks ?_ dX5_both_231
                              have hres : ff_both w a b = 0 := by rw [k1_48, show ff_both 48 a b = (if a = 0 then (if b = 0 then 0 else 1) else 1) from rfl]; simp only [if_pos c219, if_pos c223]
                              rw [hres]
                            · skip
                              refine lv_iconst (v := 1) hx hb dX5_both_226 (by decide) ?_
                              refine lv_goto (tgt := 231) hx hb dX5_both_227 (by decide) ?_
                              refine pp_iret hx hb hr hlocks ?_ dX5_both_231
                              have hres : ff_both w a b = 1 := by rw [k1_48, show ff_both 48 a b = (if a = 0 then (if b = 0 then 0 else 1) else 1) from rfl]; simp only [if_pos c219, if_neg c223]
                              rw [hres]
                        · skip
                          by_cases k1_49 : w = 49
                          · skip
                            refine lv_tableIn (off := 217) (tgt := 218) hx hb dX5_both_1 (by rw [k1_49]; decide) (by rw [k1_49]; decide) (by rw [k1_49]; rfl) (by decide) ?_
                            refine lv_iload_n hx hb dX5_both_218 rfl (lv_at hl 1 rfl) ?_
                            refine lv_if_ne (tgt := 226) hx hb dX5_both_219 (by decide) (fun c219 => ?_) (fun c219 => ?_)
                            · skip
                              refine lv_iconst (v := 1) hx hb dX5_both_226 (by decide) ?_
                              refine lv_goto (tgt := 231) hx hb dX5_both_227 (by decide) ?_
                              refine pp_iret hx hb hr hlocks ?_ dX5_both_231
                              have hres : ff_both w a b = 1 := by rw [k1_49, show ff_both 49 a b = (if a = 0 then (if b = 0 then 0 else 1) else 1) from rfl]; simp only [if_neg c219]
                              rw [hres]
                            · skip
                              refine lv_iload_n hx hb dX5_both_222 rfl (lv_at hl 2 rfl) ?_
                              refine lv_if_eq (tgt := 230) hx hb dX5_both_223 (by decide) (fun c223 => ?_) (fun c223 => ?_)
                              · skip
                                refine lv_iconst (v := 0) hx hb dX5_both_230 (by decide) ?_
                                refine pp_iret hx hb hr hlocks ?_ dX5_both_231
                                have hres : ff_both w a b = 0 := by rw [k1_49, show ff_both 49 a b = (if a = 0 then (if b = 0 then 0 else 1) else 1) from rfl]; simp only [if_pos c219, if_pos c223]
                                rw [hres]
                              · skip
                                refine lv_iconst (v := 1) hx hb dX5_both_226 (by decide) ?_
                                refine lv_goto (tgt := 231) hx hb dX5_both_227 (by decide) ?_
                                refine pp_iret hx hb hr hlocks ?_ dX5_both_231
                                have hres : ff_both w a b = 1 := by rw [k1_49, show ff_both 49 a b = (if a = 0 then (if b = 0 then 0 else 1) else 1) from rfl]; simp only [if_pos c219, if_neg c223]
                                rw [hres]
                          · skip
                            by_cases k1_50 : w = 50
                            · skip
                              refine lv_tableIn (off := 217) (tgt := 218) hx hb dX5_both_1 (by rw [k1_50]; decide) (by rw [k1_50]; decide) (by rw [k1_50]; rfl) (by decide) ?_
                              refine lv_iload_n hx hb dX5_both_218 rfl (lv_at hl 1 rfl) ?_
                              refine lv_if_ne (tgt := 226) hx hb dX5_both_219 (by decide) (fun c219 => ?_) (fun c219 => ?_)
                              · skip
                                refine lv_iconst (v := 1) hx hb dX5_both_226 (by decide) ?_
                                refine lv_goto (tgt := 231) hx hb dX5_both_227 (by decide) ?_
                                refine pp_iret hx hb hr hlocks ?_ dX5_both_231
                                have hres : ff_both w a b = 1 := by rw [k1_50, show ff_both 50 a b = (if a = 0 then (if b = 0 then 0 else 1) else 1) from rfl]; simp only [if_neg c219]
                                rw [hres]
                              · skip
                                refine lv_iload_n hx hb dX5_both_222 rfl (lv_at hl 2 rfl) ?_
                                refine lv_if_eq (tgt := 230) hx hb dX5_both_223 (by decide) (fun c223 => ?_) (fun c223 => ?_)
                                · skip
                                  refine lv_iconst (v := 0) hx hb dX5_both_230 (by decide) ?_
                                  refine pp_iret hx hb hr hlocks ?_ dX5_both_231
                                  have hres : ff_both w a b = 0 := by rw [k1_50, show ff_both 50 a b = (if a = 0 then (if b = 0 then 0 else 1) else 1) from rfl]; simp only [if_pos c219, if_pos c223]
                                  rw [hres]
                                · skip
                                  refine lv_iconst (v := 1) hx hb dX5_both_226 (by decide) ?_
                                  refine lv_goto (tgt := 231) hx hb dX5_both_227 (by decide) ?_
                                  refine pp_iret hx hb hr hlocks ?_ dX5_both_231
                                  have hres : ff_both w a b = 1 := by rw [k1_50, show ff_both 50 a b = (if a = 0 then (if b = 0 then 0 else 1) else 1) from rfl]; simp only [if_pos c219, if_neg c223]
                                  rw [hres]
                            · skip
                              by_cases k1_51 : w = 51
                              · skip
                                refine lv_tableIn (off := 217) (tgt := 218) hx hb dX5_both_1 (by rw [k1_51]; decide) (by rw [k1_51]; decide) (by rw [k1_51]; rfl) (by decide) ?_
                                refine lv_iload_n hx hb dX5_both_218 rfl (lv_at hl 1 rfl) ?_
                                refine lv_if_ne (tgt := 226) hx hb dX5_both_219 (by decide) (fun c219 => ?_) (fun c219 => ?_)
                                · skip
                                  refine lv_iconst (v := 1) hx hb dX5_both_226 (by decide) ?_
                                  refine lv_goto (tgt := 231) hx hb dX5_both_227 (by decide) ?_
                                  refine pp_iret hx hb hr hlocks ?_ dX5_both_231
                                  have hres : ff_both w a b = 1 := by rw [k1_51, show ff_both 51 a b = (if a = 0 then (if b = 0 then 0 else 1) else 1) from rfl]; simp only [if_neg c219]
                                  rw [hres]
                                · skip
                                  refine lv_iload_n hx hb dX5_both_222 rfl (lv_at hl 2 rfl) ?_
                                  refine lv_if_eq (tgt := 230) hx hb dX5_both_223 (by decide) (fun c223 => ?_) (fun c223 => ?_)
                                  · skip
                                    refine lv_iconst (v := 0) hx hb dX5_both_230 (by decide) ?_
                                    refine pp_iret hx hb hr hlocks ?_ dX5_both_231
                                    have hres : ff_both w a b = 0 := by rw [k1_51, show ff_both 51 a b = (if a = 0 then (if b = 0 then 0 else 1) else 1) from rfl]; simp only [if_pos c219, if_pos c223]
                                    rw [hres]
                                  · skip
                                    refine lv_iconst (v := 1) hx hb dX5_both_226 (by decide) ?_
                                    refine lv_goto (tgt := 231) hx hb dX5_both_227 (by decide) ?_
                                    refine pp_iret hx hb hr hlocks ?_ dX5_both_231
                                    have hres : ff_both w a b = 1 := by rw [k1_51, show ff_both 51 a b = (if a = 0 then (if b = 0 then 0 else 1) else 1) from rfl]; simp only [if_pos c219, if_neg c223]
                                    rw [hres]
                              · skip
                                by_cases k1_52 : w = 52
                                · skip
                                  refine lv_tableIn (off := 217) (tgt := 218) hx hb dX5_both_1 (by rw [k1_52]; decide) (by rw [k1_52]; decide) (by rw [k1_52]; rfl) (by decide) ?_
                                  refine lv_iload_n hx hb dX5_both_218 rfl (lv_at hl 1 rfl) ?_
                                  refine lv_if_ne (tgt := 226) hx hb dX5_both_219 (by decide) (fun c219 => ?_) (fun c219 => ?_)
                                  · skip
                                    refine lv_iconst (v := 1) hx hb dX5_both_226 (by decide) ?_
                                    refine lv_goto (tgt := 231) hx hb dX5_both_227 (by decide) ?_
                                    refine pp_iret hx hb hr hlocks ?_ dX5_both_231
                                    have hres : ff_both w a b = 1 := by rw [k1_52, show ff_both 52 a b = (if a = 0 then (if b = 0 then 0 else 1) else 1) from rfl]; simp only [if_neg c219]
                                    rw [hres]
                                  · skip
                                    refine lv_iload_n hx hb dX5_both_222 rfl (lv_at hl 2 rfl) ?_
                                    refine lv_if_eq (tgt := 230) hx hb dX5_both_223 (by decide) (fun c223 => ?_) (fun c223 => ?_)
                                    · skip
                                      refine lv_iconst (v := 0) hx hb dX5_both_230 (by decide) ?_
                                      refine pp_iret hx hb hr hlocks ?_ dX5_both_231
                                      have hres : ff_both w a b = 0 := by rw [k1_52, show ff_both 52 a b = (if a = 0 then (if b = 0 then 0 else 1) else 1) from rfl]; simp only [if_pos c219, if_pos c223]
                                      rw [hres]
                                    · skip
                                      refine lv_iconst (v := 1) hx hb dX5_both_226 (by decide) ?_
                                      refine lv_goto (tgt := 231) hx hb dX5_both_227 (by decide) ?_
                                      refine pp_iret hx hb hr hlocks ?_ dX5_both_231
                                      have hres : ff_both w a b = 1 := by rw [k1_52, show ff_both 52 a b = (if a = 0 then (if b = 0 then 0 else 1) else 1) from rfl]; simp only [if_pos c219, if_neg c223]
                                      rw [hres]
                                · skip
                                  by_cases k1_53 : w = 53
                                  · skip
                                    refine lv_tableIn (off := 217) (tgt := 218) hx hb dX5_both_1 (by rw [k1_53]; decide) (by rw [k1_53]; decide) (by rw [k1_53]; rfl) (by decide) ?_
                                    refine lv_iload_n hx hb dX5_both_218 rfl (lv_at hl 1 rfl) ?_
                                    refine lv_if_ne (tgt := 226) hx hb dX5_both_219 (by decide) (fun c219 => ?_) (fun c219 => ?_)
                                    · skip
                                      refine lv_iconst (v := 1) hx hb dX5_both_226 (by decide) ?_
                                      refine lv_goto (tgt := 231) hx hb dX5_both_227 (by decide) ?_
                                      refine pp_iret hx hb hr hlocks ?_ dX5_both_231
                                      have hres : ff_both w a b = 1 := by rw [k1_53, show ff_both 53 a b = (if a = 0 then (if b = 0 then 0 else 1) else 1) from rfl]; simp only [if_neg c219]
                                      rw [hres]
                                    · skip
                                      refine lv_iload_n hx hb dX5_both_222 rfl (lv_at hl 2 rfl) ?_
                                      refine lv_if_eq (tgt := 230) hx hb dX5_both_223 (by decide) (fun c223 => ?_) (fun c223 => ?_)
                                      · skip
                                        refine lv_iconst (v := 0) hx hb dX5_both_230 (by decide) ?_
                                        refine pp_iret hx hb hr hlocks ?_ dX5_both_231
                                        have hres : ff_both w a b = 0 := by rw [k1_53, show ff_both 53 a b = (if a = 0 then (if b = 0 then 0 else 1) else 1) from rfl]; simp only [if_pos c219, if_pos c223]
                                        rw [hres]
                                      · skip
                                        refine lv_iconst (v := 1) hx hb dX5_both_226 (by decide) ?_
                                        refine lv_goto (tgt := 231) hx hb dX5_both_227 (by decide) ?_
                                        refine pp_iret hx hb hr hlocks ?_ dX5_both_231
                                        have hres : ff_both w a b = 1 := by rw [k1_53, show ff_both 53 a b = (if a = 0 then (if b = 0 then 0 else 1) else 1) from rfl]; simp only [if_pos c219, if_neg c223]
                                        rw [hres]
                                  · skip
                                    by_cases k1_54 : w = 54
                                    · skip
                                      refine lv_tableIn (off := 217) (tgt := 218) hx hb dX5_both_1 (by rw [k1_54]; decide) (by rw [k1_54]; decide) (by rw [k1_54]; rfl) (by decide) ?_
                                      refine lv_iload_n hx hb dX5_both_218 rfl (lv_at hl 1 rfl) ?_
                                      refine lv_if_ne (tgt := 226) hx hb dX5_both_219 (by decide) (fun c219 => ?_) (fun c219 => ?_)
                                      · skip
                                        refine lv_iconst (v := 1) hx hb dX5_both_226 (by decide) ?_
                                        refine lv_goto (tgt := 231) hx hb dX5_both_227 (by decide) ?_
                                        refine pp_iret hx hb hr hlocks ?_ dX5_both_231
                                        have hres : ff_both w a b = 1 := by rw [k1_54, show ff_both 54 a b = (if a = 0 then (if b = 0 then 0 else 1) else 1) from rfl]; simp only [if_neg c219]
                                        rw [hres]
                                      · skip
                                        refine lv_iload_n hx hb dX5_both_222 rfl (lv_at hl 2 rfl) ?_
                                        refine lv_if_eq (tgt := 230) hx hb dX5_both_223 (by decide) (fun c223 => ?_) (fun c223 => ?_)
                                        · skip
                                          refine lv_iconst (v := 0) hx hb dX5_both_230 (by decide) ?_
                                          refine pp_iret hx hb hr hlocks ?_ dX5_both_231
                                          have hres : ff_both w a b = 0 := by rw [k1_54, show ff_both 54 a b = (if a = 0 then (if b = 0 then 0 else 1) else 1) from rfl]; simp only [if_pos c219, if_pos c223]
                                          rw [hres]
                                        · skip
                                          refine lv_iconst (v := 1) hx hb dX5_both_226 (by decide) ?_
                                          refine lv_goto (tgt := 231) hx hb dX5_both_227 (by decide) ?_
                                          refine pp_iret hx hb hr hlocks ?_ dX5_both_231
                                          have hres : ff_both w a b = 1 := by rw [k1_54, show ff_both 54 a b = (if a = 0 then (if b = 0 then 0 else 1) else 1) from rfl]; simp only [if_pos c219, if_neg c223]
                                          rw [hres]
                                    · skip
                                      by_cases k1_55 : w = 55
                                      · skip
                                        refine lv_tableIn (off := 217) (tgt := 218) hx hb dX5_both_1 (by rw [k1_55]; decide) (by rw [k1_55]; decide) (by rw [k1_55]; rfl) (by decide) ?_
                                        refine lv_iload_n hx hb dX5_both_218 rfl (lv_at hl 1 rfl) ?_
                                        refine lv_if_ne (tgt := 226) hx hb dX5_both_219 (by decide) (fun c219 => ?_) (fun c219 => ?_)
                                        · skip
                                          refine lv_iconst (v := 1) hx hb dX5_both_226 (by decide) ?_
                                          refine lv_goto (tgt := 231) hx hb dX5_both_227 (by decide) ?_
                                          refine pp_iret hx hb hr hlocks ?_ dX5_both_231
                                          have hres : ff_both w a b = 1 := by rw [k1_55, show ff_both 55 a b = (if a = 0 then (if b = 0 then 0 else 1) else 1) from rfl]; simp only [if_neg c219]
                                          rw [hres]
                                        · skip
                                          refine lv_iload_n hx hb dX5_both_222 rfl (lv_at hl 2 rfl) ?_
                                          refine lv_if_eq (tgt := 230) hx hb dX5_both_223 (by decide) (fun c223 => ?_) (fun c223 => ?_)
                                          · skip
                                            refine lv_iconst (v := 0) hx hb dX5_both_230 (by decide) ?_
                                            refine pp_iret hx hb hr hlocks ?_ dX5_both_231
                                            have hres : ff_both w a b = 0 := by rw [k1_55, show ff_both 55 a b = (if a = 0 then (if b = 0 then 0 else 1) else 1) from rfl]; simp only [if_pos c219, if_pos c223]
                                            rw [hres]
                                          · skip
                                            refine lv_iconst (v := 1) hx hb dX5_both_226 (by decide) ?_
                                            refine lv_goto (tgt := 231) hx hb dX5_both_227 (by decide) ?_
                                            refine pp_iret hx hb hr hlocks ?_ dX5_both_231
                                            have hres : ff_both w a b = 1 := by rw [k1_55, show ff_both 55 a b = (if a = 0 then (if b = 0 then 0 else 1) else 1) from rfl]; simp only [if_pos c219, if_neg c223]
                                            rw [hres]
                                      · skip
                                        by_cases k1_56 : w = 56
                                        · skip
                                          refine lv_tableIn (off := 217) (tgt := 218) hx hb dX5_both_1 (by rw [k1_56]; decide) (by rw [k1_56]; decide) (by rw [k1_56]; rfl) (by decide) ?_
                                          refine lv_iload_n hx hb dX5_both_218 rfl (lv_at hl 1 rfl) ?_
                                          refine lv_if_ne (tgt := 226) hx hb dX5_both_219 (by decide) (fun c219 => ?_) (fun c219 => ?_)
                                          · skip
                                            refine lv_iconst (v := 1) hx hb dX5_both_226 (by decide) ?_
                                            refine lv_goto (tgt := 231) hx hb dX5_both_227 (by decide) ?_
                                            refine pp_iret hx hb hr hlocks ?_ dX5_both_231
                                            have hres : ff_both w a b = 1 := by rw [k1_56, show ff_both 56 a b = (if a = 0 then (if b = 0 then 0 else 1) else 1) from rfl]; simp only [if_neg c219]
                                            rw [hres]
                                          · skip
                                            refine lv_iload_n hx hb dX5_both_222 rfl (lv_at hl 2 rfl) ?_
                                            refine lv_if_eq (tgt := 230) hx hb dX5_both_223 (by decide) (fun c223 => ?_) (fun c223 => ?_)
                                            · skip
                                              refine lv_iconst (v := 0) hx hb dX5_both_230 (by decide) ?_
                                              refine pp_iret hx hb hr hlocks ?_ dX5_both_231
                                              have hres : ff_both w a b = 0 := by rw [k1_56, show ff_both 56 a b = (if a = 0 then (if b = 0 then 0 else 1) else 1) from rfl]; simp only [if_pos c219, if_pos c223]
                                              rw [hres]
                                            · skip
                                              refine lv_iconst (v := 1) hx hb dX5_both_226 (by decide) ?_
                                              refine lv_goto (tgt := 231) hx hb dX5_both_227 (by decide) ?_
                                              refine pp_iret hx hb hr hlocks ?_ dX5_both_231
                                              have hres : ff_both w a b = 1 := by rw [k1_56, show ff_both 56 a b = (if a = 0 then (if b = 0 then 0 else 1) else 1) from rfl]; simp only [if_pos c219, if_neg c223]
                                              rw [hres]
                                        · skip
                                          by_cases k1_57 : w = 57
                                          · skip
                                            refine lv_tableIn (off := 217) (tgt := 218) hx hb dX5_both_1 (by rw [k1_57]; decide) (by rw [k1_57]; decide) (by rw [k1_57]; rfl) (by decide) ?_
                                            refine lv_iload_n hx hb dX5_both_218 rfl (lv_at hl 1 rfl) ?_
                                            refine lv_if_ne (tgt := 226) hx hb dX5_both_219 (by decide) (fun c219 => ?_) (fun c219 => ?_)
                                            · skip
                                              refine lv_iconst (v := 1) hx hb dX5_both_226 (by decide) ?_
                                              refine lv_goto (tgt := 231) hx hb dX5_both_227 (by decide) ?_
                                              refine pp_iret hx hb hr hlocks ?_ dX5_both_231
                                              have hres : ff_both w a b = 1 := by rw [k1_57, show ff_both 57 a b = (if a = 0 then (if b = 0 then 0 else 1) else 1) from rfl]; simp only [if_neg c219]
                                              rw [hres]
                                            · skip
                                              refine lv_iload_n hx hb dX5_both_222 rfl (lv_at hl 2 rfl) ?_
                                              refine lv_if_eq (tgt := 230) hx hb dX5_both_223 (by decide) (fun c223 => ?_) (fun c223 => ?_)
                                              · skip
                                                refine lv_iconst (v := 0) hx hb dX5_both_230 (by decide) ?_
                                                refine pp_iret hx hb hr hlocks ?_ dX5_both_231
                                                have hres : ff_both w a b = 0 := by rw [k1_57, show ff_both 57 a b = (if a = 0 then (if b = 0 then 0 else 1) else 1) from rfl]; simp only [if_pos c219, if_pos c223]
                                                rw [hres]
                                              · skip
                                                refine lv_iconst (v := 1) hx hb dX5_both_226 (by decide) ?_
                                                refine lv_goto (tgt := 231) hx hb dX5_both_227 (by decide) ?_
                                                refine pp_iret hx hb hr hlocks ?_ dX5_both_231
                                                have hres : ff_both w a b = 1 := by rw [k1_57, show ff_both 57 a b = (if a = 0 then (if b = 0 then 0 else 1) else 1) from rfl]; simp only [if_pos c219, if_neg c223]
                                                rw [hres]
                                          · skip
                                            by_cases k1_58 : w = 58
                                            · skip
                                              refine lv_tableIn (off := 217) (tgt := 218) hx hb dX5_both_1 (by rw [k1_58]; decide) (by rw [k1_58]; decide) (by rw [k1_58]; rfl) (by decide) ?_
                                              refine lv_iload_n hx hb dX5_both_218 rfl (lv_at hl 1 rfl) ?_
                                              refine lv_if_ne (tgt := 226) hx hb dX5_both_219 (by decide) (fun c219 => ?_) (fun c219 => ?_)
                                              · skip
                                                refine lv_iconst (v := 1) hx hb dX5_both_226 (by decide) ?_
                                                refine lv_goto (tgt := 231) hx hb dX5_both_227 (by decide) ?_
                                                refine pp_iret hx hb hr hlocks ?_ dX5_both_231
                                                have hres : ff_both w a b = 1 := by rw [k1_58, show ff_both 58 a b = (if a = 0 then (if b = 0 then 0 else 1) else 1) from rfl]; simp only [if_neg c219]
                                                rw [hres]
                                              · skip
                                                refine lv_iload_n hx hb dX5_both_222 rfl (lv_at hl 2 rfl) ?_
                                                refine lv_if_eq (tgt := 230) hx hb dX5_both_223 (by decide) (fun c223 => ?_) (fun c223 => ?_)
                                                · skip
                                                  refine lv_iconst (v := 0) hx hb dX5_both_230 (by decide) ?_
                                                  refine pp_iret hx hb hr hlocks ?_ dX5_both_231
                                                  have hres : ff_both w a b = 0 := by rw [k1_58, show ff_both 58 a b = (if a = 0 then (if b = 0 then 0 else 1) else 1) from rfl]; simp only [if_pos c219, if_pos c223]
                                                  rw [hres]
                                                · skip
                                                  refine lv_iconst (v := 1) hx hb dX5_both_226 (by decide) ?_
                                                  refine lv_goto (tgt := 231) hx hb dX5_both_227 (by decide) ?_
                                                  refine pp_iret hx hb hr hlocks ?_ dX5_both_231
                                                  have hres : ff_both w a b = 1 := by rw [k1_58, show ff_both 58 a b = (if a = 0 then (if b = 0 then 0 else 1) else 1) from rfl]; simp only [if_pos c219, if_neg c223]
                                                  rw [hres]
                                            · skip
                                              by_cases k1_59 : w = 59
                                              · skip
                                                refine lv_tableIn (off := 217) (tgt := 218) hx hb dX5_both_1 (by rw [k1_59]; decide) (by rw [k1_59]; decide) (by rw [k1_59]; rfl) (by decide) ?_
                                                refine lv_iload_n hx hb dX5_both_218 rfl (lv_at hl 1 rfl) ?_
                                                refine lv_if_ne (tgt := 226) hx hb dX5_both_219 (by decide) (fun c219 => ?_) (fun c219 => ?_)
                                                · skip
                                                  refine lv_iconst (v := 1) hx hb dX5_both_226 (by decide) ?_
                                                  refine lv_goto (tgt := 231) hx hb dX5_both_227 (by decide) ?_
                                                  refine pp_iret hx hb hr hlocks ?_ dX5_both_231
                                                  have hres : ff_both w a b = 1 := by rw [k1_59, show ff_both 59 a b = (if a = 0 then (if b = 0 then 0 else 1) else 1) from rfl]; simp only [if_neg c219]
                                                  rw [hres]
                                                · skip
                                                  refine lv_iload_n hx hb dX5_both_222 rfl (lv_at hl 2 rfl) ?_
                                                  refine lv_if_eq (tgt := 230) hx hb dX5_both_223 (by decide) (fun c223 => ?_) (fun c223 => ?_)
                                                  · skip
                                                    refine lv_iconst (v := 0) hx hb dX5_both_230 (by decide) ?_
                                                    refine pp_iret hx hb hr hlocks ?_ dX5_both_231
                                                    have hres : ff_both w a b = 0 := by rw [k1_59, show ff_both 59 a b = (if a = 0 then (if b = 0 then 0 else 1) else 1) from rfl]; simp only [if_pos c219, if_pos c223]
                                                    rw [hres]
                                                  · skip
                                                    refine lv_iconst (v := 1) hx hb dX5_both_226 (by decide) ?_
                                                    refine lv_goto (tgt := 231) hx hb dX5_both_227 (by decide) ?_
                                                    refine pp_iret hx hb hr hlocks ?_ dX5_both_231
                                                    have hres : ff_both w a b = 1 := by rw [k1_59, show ff_both 59 a b = (if a = 0 then (if b = 0 then 0 else 1) else 1) from rfl]; simp only [if_pos c219, if_neg c223]
                                                    rw [hres]
                                              · skip
                                                by_cases k1_60 : w = 60
                                                · skip
                                                  refine lv_tableIn (off := 170) (tgt := 171) hx hb dX5_both_1 (by rw [k1_60]; decide) (by rw [k1_60]; decide) (by rw [k1_60]; rfl) (by decide) ?_
                                                  refine lv_iload_n hx hb dX5_both_171 rfl (lv_at hl 1 rfl) ?_
                                                  refine lv_iload_n hx hb dX5_both_172 rfl (lv_at hl 2 rfl) ?_
                                                  refine lv_icmp_ge (tgt := 180) hx hb dX5_both_173 (by decide) (fun c173 => ?_) (fun c173 => ?_)
                                                  · have t173 : (b).toInt ≤ (a).toInt := ww_le c173
                                                    refine lv_iconst (v := 0) hx hb dX5_both_180 (by decide) ?_
                                                    refine pp_iret hx hb hr hlocks ?_ dX5_both_181
                                                    have hres : ff_both w a b = 0 := by rw [k1_60, show ff_both 60 a b = (if b ≤ a then 0 else 1) from rfl]; simp only [if_pos c173]
                                                    rw [hres]
                                                  · have t173 : (a).toInt < (b).toInt := ww_nle c173
                                                    refine lv_iconst (v := 1) hx hb dX5_both_176 (by decide) ?_
                                                    refine lv_goto (tgt := 181) hx hb dX5_both_177 (by decide) ?_
                                                    refine pp_iret hx hb hr hlocks ?_ dX5_both_181
                                                    have hres : ff_both w a b = 1 := by rw [k1_60, show ff_both 60 a b = (if b ≤ a then 0 else 1) from rfl]; simp only [if_neg c173]
                                                    rw [hres]
                                                · skip
                                                  by_cases k1_61 : w = 61
                                                  · skip
                                                    refine lv_tableIn (off := 181) (tgt := 182) hx hb dX5_both_1 (by rw [k1_61]; decide) (by rw [k1_61]; decide) (by rw [k1_61]; rfl) (by decide) ?_
                                                    refine lv_iload_n hx hb dX5_both_182 rfl (lv_at hl 1 rfl) ?_
                                                    refine lv_iload_n hx hb dX5_both_183 rfl (lv_at hl 2 rfl) ?_
                                                    refine lv_icmp_ne (tgt := 191) hx hb dX5_both_184 (by decide) (fun c184 => ?_) (fun c184 => ?_)
                                                    · skip
                                                      refine lv_iconst (v := 0) hx hb dX5_both_191 (by decide) ?_
                                                      refine pp_iret hx hb hr hlocks ?_ dX5_both_192
                                                      have hres : ff_both w a b = 0 := by rw [k1_61, show ff_both 61 a b = (if a = b then 1 else 0) from rfl]; simp only [if_neg c184]
                                                      rw [hres]
                                                    · skip
                                                      refine lv_iconst (v := 1) hx hb dX5_both_187 (by decide) ?_
                                                      refine lv_goto (tgt := 192) hx hb dX5_both_188 (by decide) ?_
                                                      refine pp_iret hx hb hr hlocks ?_ dX5_both_192
                                                      have hres : ff_both w a b = 1 := by rw [k1_61, show ff_both 61 a b = (if a = b then 1 else 0) from rfl]; simp only [if_pos c184]
                                                      rw [hres]
                                                  · skip
                                                    by_cases k1_62 : w = 62
                                                    · skip
                                                      refine lv_tableIn (off := 192) (tgt := 193) hx hb dX5_both_1 (by rw [k1_62]; decide) (by rw [k1_62]; decide) (by rw [k1_62]; rfl) (by decide) ?_
                                                      refine lv_iload_n hx hb dX5_both_193 rfl (lv_at hl 1 rfl) ?_
                                                      refine lv_iload_n hx hb dX5_both_194 rfl (lv_at hl 2 rfl) ?_
                                                      refine lv_icmp_le (tgt := 202) hx hb dX5_both_195 (by decide) (fun c195 => ?_) (fun c195 => ?_)
                                                      · have t195 : (a).toInt ≤ (b).toInt := ww_le c195
                                                        refine lv_iconst (v := 0) hx hb dX5_both_202 (by decide) ?_
                                                        refine pp_iret hx hb hr hlocks ?_ dX5_both_203
                                                        have hres : ff_both w a b = 0 := by rw [k1_62, show ff_both 62 a b = (if a ≤ b then 0 else 1) from rfl]; simp only [if_pos c195]
                                                        rw [hres]
                                                      · have t195 : (b).toInt < (a).toInt := ww_nle c195
                                                        refine lv_iconst (v := 1) hx hb dX5_both_198 (by decide) ?_
                                                        refine lv_goto (tgt := 203) hx hb dX5_both_199 (by decide) ?_
                                                        refine pp_iret hx hb hr hlocks ?_ dX5_both_203
                                                        have hres : ff_both w a b = 1 := by rw [k1_62, show ff_both 62 a b = (if a ≤ b then 0 else 1) from rfl]; simp only [if_neg c195]
                                                        rw [hres]
                                                    · skip
                                                      refine lv_tableOut (tgt := 218) hx hb dX5_both_1 (by have hk1_37 : (w).toInt ≠ 37 := ww_ne k1_37; have hk1_38 : (w).toInt ≠ 38 := ww_ne k1_38; have hk1_39 : (w).toInt ≠ 39 := ww_ne k1_39; have hk1_40 : (w).toInt ≠ 40 := ww_ne k1_40; have hk1_41 : (w).toInt ≠ 41 := ww_ne k1_41; have hk1_42 : (w).toInt ≠ 42 := ww_ne k1_42; have hk1_43 : (w).toInt ≠ 43 := ww_ne k1_43; have hk1_44 : (w).toInt ≠ 44 := ww_ne k1_44; have hk1_45 : (w).toInt ≠ 45 := ww_ne k1_45; have hk1_46 : (w).toInt ≠ 46 := ww_ne k1_46; have hk1_47 : (w).toInt ≠ 47 := ww_ne k1_47; have hk1_48 : (w).toInt ≠ 48 := ww_ne k1_48; have hk1_49 : (w).toInt ≠ 49 := ww_ne k1_49; have hk1_50 : (w).toInt ≠ 50 := ww_ne k1_50; have hk1_51 : (w).toInt ≠ 51 := ww_ne k1_51; have hk1_52 : (w).toInt ≠ 52 := ww_ne k1_52; have hk1_53 : (w).toInt ≠ 53 := ww_ne k1_53; have hk1_54 : (w).toInt ≠ 54 := ww_ne k1_54; have hk1_55 : (w).toInt ≠ 55 := ww_ne k1_55; have hk1_56 : (w).toInt ≠ 56 := ww_ne k1_56; have hk1_57 : (w).toInt ≠ 57 := ww_ne k1_57; have hk1_58 : (w).toInt ≠ 58 := ww_ne k1_58; have hk1_59 : (w).toInt ≠ 59 := ww_ne k1_59; have hk1_60 : (w).toInt ≠ 60 := ww_ne k1_60; have hk1_61 : (w).toInt ≠ 61 := ww_ne k1_61; have hk1_62 : (w).toInt ≠ 62 := ww_ne k1_62; omega) (by decide) ?_
                                                      refine lv_iload_n hx hb dX5_both_218 rfl (lv_at hl 1 rfl) ?_
                                                      refine lv_if_ne (tgt := 226) hx hb dX5_both_219 (by decide) (fun c219 => ?_) (fun c219 => ?_)
                                                      · skip
                                                        refine lv_iconst (v := 1) hx hb dX5_both_226 (by decide) ?_
                                                        refine lv_goto (tgt := 231) hx hb dX5_both_227 (by decide) ?_
                                                        refine pp_iret hx hb hr hlocks ?_ dX5_both_231
                                                        have hres : ff_both w a b = 1 := by simp only [ff_both, if_neg k1_37, if_neg k1_38, if_neg k1_39, if_neg k1_40, if_neg k1_41, if_neg k1_42, if_neg k1_43, if_neg k1_44, if_neg k1_45, if_neg k1_46, if_neg k1_47, if_neg k1_48, if_neg k1_49, if_neg k1_50, if_neg k1_51, if_neg k1_52, if_neg k1_53, if_neg k1_54, if_neg k1_55, if_neg k1_56, if_neg k1_57, if_neg k1_58, if_neg k1_59, if_neg k1_60, if_neg k1_61, if_neg k1_62, if_neg c219]
                                                        rw [hres]
                                                      · skip
                                                        refine lv_iload_n hx hb dX5_both_222 rfl (lv_at hl 2 rfl) ?_
                                                        refine lv_if_eq (tgt := 230) hx hb dX5_both_223 (by decide) (fun c223 => ?_) (fun c223 => ?_)
                                                        · skip
                                                          refine lv_iconst (v := 0) hx hb dX5_both_230 (by decide) ?_
                                                          refine pp_iret hx hb hr hlocks ?_ dX5_both_231
                                                          have hres : ff_both w a b = 0 := by simp only [ff_both, if_neg k1_37, if_neg k1_38, if_neg k1_39, if_neg k1_40, if_neg k1_41, if_neg k1_42, if_neg k1_43, if_neg k1_44, if_neg k1_45, if_neg k1_46, if_neg k1_47, if_neg k1_48, if_neg k1_49, if_neg k1_50, if_neg k1_51, if_neg k1_52, if_neg k1_53, if_neg k1_54, if_neg k1_55, if_neg k1_56, if_neg k1_57, if_neg k1_58, if_neg k1_59, if_neg k1_60, if_neg k1_61, if_neg k1_62, if_pos c219, if_pos c223]
                                                          rw [hres]
                                                        · skip
                                                          refine lv_iconst (v := 1) hx hb dX5_both_226 (by decide) ?_
                                                          refine lv_goto (tgt := 231) hx hb dX5_both_227 (by decide) ?_
                                                          refine pp_iret hx hb hr hlocks ?_ dX5_both_231
                                                          have hres : ff_both w a b = 1 := by simp only [ff_both, if_neg k1_37, if_neg k1_38, if_neg k1_39, if_neg k1_40, if_neg k1_41, if_neg k1_42, if_neg k1_43, if_neg k1_44, if_neg k1_45, if_neg k1_46, if_neg k1_47, if_neg k1_48, if_neg k1_49, if_neg k1_50, if_neg k1_51, if_neg k1_52, if_neg k1_53, if_neg k1_54, if_neg k1_55, if_neg k1_56, if_neg k1_57, if_neg k1_58, if_neg k1_59, if_neg k1_60, if_neg k1_61, if_neg k1_62, if_pos c219, if_neg c223]
                                                          rw [hres]

set_option maxHeartbeats 4000000 in
theorem mc_worked (lQ : Launch) (G : wm_G) (o : Nat) (S : mm_S) (E : mm_E) (t : Int32) (a : Int32) (b : Int32) (hok : wk_ok 171 S 0 (170 * t + a) (170 * t + b)) : mm_Met lQ G o yX5_worked (ws_ yX5_worked cX5_worked 7 (some .int)) 1 S E [.int t, .int a, .int b] (some (.int (ff_worked S t a b).1)) (ff_worked S t a b).2 E := by
  refine mm_start (by decide +kernel) (Nat.le_of_ble_eq_true rfl) rfl (fun pQ eQ sQ mQ belowQ methQ cQ hx hb hml hr hlocks hts hown hK H hW hS ls hl => ?_)
  have hl : lv_has ls 7 [(0, .ref o), (1, .int t), (2, .int a), (3, .int b)] := hl
  generalize hlc : ([] : List Loc) = locs at hS ⊢
  refine lv_iconst (v := 0) hx hb dX5_worked_0 (by decide) ?_
  refine lv_istore (lv' := [(4, .int 0), (0, .ref o), (1, .int t), (2, .int a), (3, .int b)]) hx hb dX5_worked_1 hl (by decide) rfl (fun ls hl => ?_)
  refine lv_sipush (v := 170) hx hb dX5_worked_3 (by decide) ?_
  refine lv_iload_n hx hb dX5_worked_6 rfl (lv_at hl 2 rfl) ?_
  refine nv_imul hx hb dX5_worked_7 (fun v7 e7 => ?_)
  refine lv_iload_n hx hb dX5_worked_8 rfl (lv_at hl 3 rfl) ?_
  refine nv_iadd hx hb dX5_worked_9 (fun v9 e9 => ?_)
  refine lv_istore (lv' := [(5, .int v9), (4, .int 0), (0, .ref o), (1, .int t), (2, .int a), (3, .int b)]) hx hb dX5_worked_10 hl (by decide) rfl (fun ls hl => ?_)
  have L12 : ∀ (fu12 : Nat) (n : Int32) (k : Int32) (S0 : mm_S) (H : Heap) (locs : List Loc), (wk_ok fu12 S0 n k (170 * t + b)) → (wk_go fu12 S0 n k (170 * t + b) = ff_worked S t a b) → mm_W G o S0 E H → va_S (mm_F o) sQ.heap H locs → ∀ ls : Array Slot, lv_has ls 7 [(5, .int k), (4, .int n), (0, .ref o), (1, .int t), (2, .int a), (3, .int b)] → W pQ lQ eQ (wm_rm 1) sQ mQ (Value.ref o :: [.int t, .int a, .int b]).toArray belowQ methQ cQ H locs 0 0 (MQ belowQ (wm_Q (fun vQ HQ => vQ = some (.int (ff_worked S t a b).1) ∧ mm_W G o (ff_worked S t a b).2 E HQ) (mm_F o)) (Value.ref o :: [.int t, .int a, .int b]).toArray sQ 0 0 (mm_F o)) (F0 mQ 12 ls []) := by
    intro fu12
    induction fu12 with
    | zero =>
      intro n k S0 H locs hm12 hgo12 hW hS ls hl
      exact hm12.elim
    | succ fu12 ih12 =>
      intro n k S0 H locs hm12 hgo12 hW hS ls hl
      have hm := hm12
      unfold wk_ok at hm
      refine lv_iload hx hb dX5_worked_12 (lv_at hl 0 rfl) ?_
      refine lv_sipush (v := 170) hx hb dX5_worked_14 (by decide) ?_
      refine lv_iload_n hx hb dX5_worked_17 rfl (lv_at hl 3 rfl) ?_
      refine nv_imul hx hb dX5_worked_18 (fun v18 e18 => ?_)
      refine lv_iload_n hx hb dX5_worked_19 rfl (lv_at hl 5 rfl) ?_
      refine nv_iadd hx hb dX5_worked_20 (fun v20 e20 => ?_)
      refine lv_icmp_ge (tgt := 188) hx hb dX5_worked_21 (by decide) (fun c21 => ?_) (fun c21 => ?_)
      · have t21 : (v20).toInt ≤ (k).toInt := ww_le c21
        refine lv_aload_n hx hb dX5_worked_188 rfl (lv_at hl 2 rfl) ?_
        refine mm_geta hx hb hts hown hK hW 53 rfl q1738 dX5_worked_189 ?_
        refine lv_iconst (v := 0) hx hb dX5_worked_192 (by decide) ?_
        refine mm_iald hx hb hK hW 53 rfl (ww_in (by decide) (by decide)) dX5_worked_193 ?_
        refine mm_iret hx hb hr hlocks hW hS ?_ dX5_worked_194
        have hres : ff_worked S t a b = ((rd_ S0 53 0), S0) := by rw [← hgo12]; subst e18 e20; simp only [wk_go, if_pos c21]
        exact ⟨by rw [hres], by rw [hres], rfl⟩
      · have t21 : (k).toInt < (v20).toInt := ww_nle c21
        rw [if_neg (by rw [← e18, ← e20]; exact c21)] at hm
        obtain ⟨k0, k1, hm⟩ := hm
        refine lv_aload_n hx hb dX5_worked_24 rfl (lv_at hl 2 rfl) ?_
        refine mm_geta hx hb hts hown hK hW 45 rfl q1730 dX5_worked_25 ?_
        refine lv_iload hx hb dX5_worked_28 (lv_at hl 0 rfl) ?_
        refine mm_iald hx hb hK hW 45 rfl (ww_in (by omega) (by omega)) dX5_worked_30 ?_
        refine lv_istore (lv' := [(6, .int (rd_ S0 45 k)), (5, .int k), (4, .int n), (0, .ref o), (1, .int t), (2, .int a), (3, .int b)]) hx hb dX5_worked_31 hl (by decide) rfl (fun ls hl => ?_)
        refine lv_iload hx hb dX5_worked_33 (lv_at hl 0 rfl) ?_
        refine lv_iconst (v := 1) hx hb dX5_worked_35 (by decide) ?_
        refine lv_icmp_eq (tgt := 45) hx hb dX5_worked_36 (by decide) (fun c36 => ?_) (fun c36 => ?_)
        · skip
          rw [if_pos c36] at hm
          obtain ⟨n0, n1, hk⟩ := hm
          refine lv_aload_n hx hb dX5_worked_45 rfl (lv_at hl 3 rfl) ?_
          refine mm_geta hx hb hts hown hK hW 53 rfl q1738 dX5_worked_46 ?_
          refine lv_iload hx hb dX5_worked_49 (lv_at hl 2 rfl) ?_
          refine lv_iload hx hb dX5_worked_51 (lv_at hl 0 rfl) ?_
          refine lv_iconst (v := 1) hx hb dX5_worked_53 (by decide) ?_
          refine lv_icmp_ne (tgt := 67) hx hb dX5_worked_54 (by decide) (fun c54 => ?_) (fun c54 => ?_)
          · skip
            exact absurd c36 c54
          · skip
            refine lv_aload_n hx hb dX5_worked_57 rfl (lv_at hl 3 rfl) ?_
            refine mm_geta hx hb hts hown hK hW 46 rfl q1731 dX5_worked_58 ?_
            refine lv_iload hx hb dX5_worked_61 (lv_at hl 1 rfl) ?_
            refine mm_iald hx hb hK hW 46 rfl (ww_in (by omega) (by omega)) dX5_worked_63 ?_
            refine lv_goto (tgt := 79) hx hb dX5_worked_64 (by decide) ?_
            refine mm_iast hx hb hK hW hS 53 rfl (ww_in (by omega) (by omega)) dX5_worked_79 (fun S79 H locs f79 hW hS => ?_)
            obtain ⟨v80, e80⟩ : ∃ yQ : Int32, yQ = n + 1 := ⟨_, rfl⟩
            refine lv_iinc (v := v80) (lv' := [(4, .int v80), (6, .int (rd_ S0 45 k)), (5, .int k), (0, .ref o), (1, .int t), (2, .int a), (3, .int b)]) hx hb dX5_worked_80 hl (k := 2) rfl (by rw [e80]; rfl) (by decide) rfl (fun ls hl => ?_)
            refine lv_goto (tgt := 182) hx hb dX5_worked_83 (by decide) ?_
            obtain ⟨v182, e182⟩ : ∃ yQ : Int32, yQ = k + 1 := ⟨_, rfl⟩
            refine lv_iinc (v := v182) (lv' := [(5, .int v182), (4, .int v80), (6, .int (rd_ S0 45 k)), (0, .ref o), (1, .int t), (2, .int a), (3, .int b)]) hx hb dX5_worked_182 hl (k := 2) rfl (by rw [e182]; rfl) (by decide) rfl (fun ls hl => ?_)
            refine lv_goto (tgt := 12) hx hb dX5_worked_185 (by decide) ?_
            exact ih12 v80 v182 S79 H locs (by subst e18 e20 f79 e80 e182; exact wk_ok_of (mm_up_k (by decide)) (mm_up_k (by decide)) _ _ _ _ hk) (by subst e18 e20 f79 e80 e182; simp only [wk_go, if_neg c21, if_pos c36, if_pos c54] at hgo12; exact hgo12) hW hS ls (lv_sub hl [0, 1, 3, 4, 5, 6] rfl)
        · skip
          refine lv_iload hx hb dX5_worked_39 (lv_at hl 0 rfl) ?_
          refine lv_iconst (v := 2) hx hb dX5_worked_41 (by decide) ?_
          refine lv_icmp_ne (tgt := 86) hx hb dX5_worked_42 (by decide) (fun c42 => ?_) (fun c42 => ?_)
          · skip
            refine lv_iload hx hb dX5_worked_86 (lv_at hl 0 rfl) ?_
            refine lv_iconst (v := 3) hx hb dX5_worked_88 (by decide) ?_
            refine lv_icmp_ne (tgt := 121) hx hb dX5_worked_89 (by decide) (fun c89 => ?_) (fun c89 => ?_)
            · skip
              refine lv_iload hx hb dX5_worked_121 (lv_at hl 0 rfl) ?_
              refine lv_iconst (v := 4) hx hb dX5_worked_123 (by decide) ?_
              refine lv_icmp_ne (tgt := 149) hx hb dX5_worked_124 (by decide) (fun c124 => ?_) (fun c124 => ?_)
              · skip
                rw [if_neg c36, if_neg c42, if_neg c89, if_neg c124] at hm
                obtain ⟨n0, n1, hk⟩ := hm
                obtain ⟨v149, e149⟩ : ∃ yQ : Int32, yQ = n + (-1) := ⟨_, rfl⟩
                refine lv_iinc (v := v149) (lv' := [(4, .int v149), (6, .int (rd_ S0 45 k)), (5, .int k), (0, .ref o), (1, .int t), (2, .int a), (3, .int b)]) hx hb dX5_worked_149 hl (k := 2) rfl (by rw [e149]; rfl) (by decide) rfl (fun ls hl => ?_)
                have tv149 : v149.toInt = n.toInt - 1 := by rw [e149]; exact ww_dec (by omega)
                refine lv_aload_n hx hb dX5_worked_152 rfl (lv_at hl 3 rfl) ?_
                refine mm_geta hx hb hts hown hK hW 53 rfl q1738 dX5_worked_153 ?_
                refine lv_iload hx hb dX5_worked_156 (lv_at hl 0 rfl) ?_
                refine lv_iconst (v := 1) hx hb dX5_worked_158 (by decide) ?_
                refine nv_isub hx hb dX5_worked_159 (fun v159 e159 => ?_)
                have tv159 : v159.toInt = n.toInt - 2 := by rw [e159, ww_sub1 (by omega)]; omega
                refine lv_iload hx hb dX5_worked_160 (lv_at hl 1 rfl) ?_
                refine lv_aload_n hx hb dX5_worked_162 rfl (lv_at hl 3 rfl) ?_
                refine mm_geta hx hb hts hown hK hW 53 rfl q1738 dX5_worked_163 ?_
                refine lv_iload hx hb dX5_worked_166 (lv_at hl 0 rfl) ?_
                refine lv_iconst (v := 1) hx hb dX5_worked_168 (by decide) ?_
                refine nv_isub hx hb dX5_worked_169 (fun v169 e169 => ?_)
                have tv169 : v169.toInt = n.toInt - 2 := by rw [e169, ww_sub1 (by omega)]; omega
                refine mm_iald hx hb hK hW 53 rfl (ww_in (by omega) (by omega)) dX5_worked_170 ?_
                refine lv_aload_n hx hb dX5_worked_171 rfl (lv_at hl 3 rfl) ?_
                refine mm_geta hx hb hts hown hK hW 53 rfl q1738 dX5_worked_172 ?_
                refine lv_iload hx hb dX5_worked_175 (lv_at hl 0 rfl) ?_
                refine mm_iald hx hb hK hW 53 rfl (ww_in (by omega) (by omega)) dX5_worked_177 ?_
                refine pp_calli (As := [.int (rd_ S0 45 k), .int (rd_ S0 53 v169), .int (rd_ S0 53 v149)]) (rest := [.int v159, .ref (o + 37)]) (n := 3) ⟨hx, hb, hml, hown, hts⟩ (mc_both lQ (rd_ S0 45 k) (rd_ S0 53 v169) (rd_ S0 53 v149)) (lw_S q2217 q2218 q92 q2219) (by decide +kernel) rfl ⟨Nat.le_of_ble_eq_true rfl, Nat.le_of_ble_eq_true rfl⟩ hl.1 rfl (Nat.le_of_ble_eq_true rfl) dX5_worked_178 ⟨Nat.le_of_ble_eq_true rfl, Nat.le_of_ble_eq_true rfl⟩ (fun v178 e178 => ?_)
                refine mm_iast hx hb hK hW hS 53 rfl (ww_in (by omega) (by omega)) dX5_worked_181 (fun S181 H locs f181 hW hS => ?_)
                obtain ⟨v182, e182⟩ : ∃ yQ : Int32, yQ = k + 1 := ⟨_, rfl⟩
                refine lv_iinc (v := v182) (lv' := [(5, .int v182), (4, .int v149), (6, .int (rd_ S0 45 k)), (0, .ref o), (1, .int t), (2, .int a), (3, .int b)]) hx hb dX5_worked_182 hl (k := 2) rfl (by rw [e182]; rfl) (by decide) rfl (fun ls hl => ?_)
                refine lv_goto (tgt := 12) hx hb dX5_worked_185 (by decide) ?_
                exact ih12 v149 v182 S181 H locs (by subst e18 e20 e149 e159 e169 e178 f181 e182; exact wk_ok_of (mm_up_k (by decide)) (mm_up_k (by decide)) _ _ _ _ hk) (by subst e18 e20 e149 e159 e169 e178 f181 e182; simp only [wk_go, if_neg c21, if_neg c36, if_neg c42, if_neg c89, if_neg c124] at hgo12; exact hgo12) hW hS ls (lv_sub hl [0, 1, 3, 4, 5, 6] rfl)
              · skip
                rw [if_neg c36, if_neg c42, if_neg c89, if_pos c124] at hm
                obtain ⟨n0, n1, hk⟩ := hm
                refine lv_aload_n hx hb dX5_worked_127 rfl (lv_at hl 3 rfl) ?_
                refine mm_geta hx hb hts hown hK hW 53 rfl q1738 dX5_worked_128 ?_
                refine lv_iload hx hb dX5_worked_131 (lv_at hl 2 rfl) ?_
                refine lv_iconst (v := 1) hx hb dX5_worked_133 (by decide) ?_
                refine nv_isub hx hb dX5_worked_134 (fun v134 e134 => ?_)
                have tv134 : v134.toInt = n.toInt - 1 := by rw [e134]; exact ww_sub1 (by omega)
                refine lv_aload_n hx hb dX5_worked_135 rfl (lv_at hl 3 rfl) ?_
                refine mm_geta hx hb hts hown hK hW 53 rfl q1738 dX5_worked_136 ?_
                refine lv_iload hx hb dX5_worked_139 (lv_at hl 2 rfl) ?_
                refine lv_iconst (v := 1) hx hb dX5_worked_141 (by decide) ?_
                refine nv_isub hx hb dX5_worked_142 (fun v142 e142 => ?_)
                have tv142 : v142.toInt = n.toInt - 1 := by rw [e142]; exact ww_sub1 (by omega)
                refine mm_iald hx hb hK hW 53 rfl (ww_in (by omega) (by omega)) dX5_worked_143 ?_
                refine nv_ineg hx hb dX5_worked_144 (fun v144 e144 => ?_)
                refine mm_iast hx hb hK hW hS 53 rfl (ww_in (by omega) (by omega)) dX5_worked_145 (fun S145 H locs f145 hW hS => ?_)
                refine lv_goto (tgt := 182) hx hb dX5_worked_146 (by decide) ?_
                obtain ⟨v182, e182⟩ : ∃ yQ : Int32, yQ = k + 1 := ⟨_, rfl⟩
                refine lv_iinc (v := v182) (lv' := [(5, .int v182), (6, .int (rd_ S0 45 k)), (4, .int n), (0, .ref o), (1, .int t), (2, .int a), (3, .int b)]) hx hb dX5_worked_182 hl (k := 1) rfl (by rw [e182]; rfl) (by decide) rfl (fun ls hl => ?_)
                refine lv_goto (tgt := 12) hx hb dX5_worked_185 (by decide) ?_
                exact ih12 n v182 S145 H locs (by subst e18 e20 e134 e142 e144 f145 e182; exact wk_ok_of (mm_up_k (by decide)) (mm_up_k (by decide)) _ _ _ _ hk) (by subst e18 e20 e134 e142 e144 f145 e182; simp only [wk_go, if_neg c21, if_neg c36, if_neg c42, if_neg c89, if_pos c124] at hgo12; exact hgo12) hW hS ls (lv_sub hl [0, 2, 3, 4, 5, 6] rfl)
            · skip
              rw [if_neg c36, if_neg c42, if_pos c89] at hm
              obtain ⟨n0, n1, hk⟩ := hm
              refine lv_aload_n hx hb dX5_worked_92 rfl (lv_at hl 3 rfl) ?_
              refine mm_geta hx hb hts hown hK hW 53 rfl q1738 dX5_worked_93 ?_
              refine lv_iload hx hb dX5_worked_96 (lv_at hl 2 rfl) ?_
              refine lv_iconst (v := 1) hx hb dX5_worked_98 (by decide) ?_
              refine nv_isub hx hb dX5_worked_99 (fun v99 e99 => ?_)
              have tv99 : v99.toInt = n.toInt - 1 := by rw [e99]; exact ww_sub1 (by omega)
              refine lv_aload_n hx hb dX5_worked_100 rfl (lv_at hl 3 rfl) ?_
              refine mm_geta hx hb hts hown hK hW 53 rfl q1738 dX5_worked_101 ?_
              refine lv_iload hx hb dX5_worked_104 (lv_at hl 2 rfl) ?_
              refine lv_iconst (v := 1) hx hb dX5_worked_106 (by decide) ?_
              refine nv_isub hx hb dX5_worked_107 (fun v107 e107 => ?_)
              have tv107 : v107.toInt = n.toInt - 1 := by rw [e107]; exact ww_sub1 (by omega)
              refine mm_iald hx hb hK hW 53 rfl (ww_in (by omega) (by omega)) dX5_worked_108 ?_
              refine wm_join (P := fun w117 : Int32 => w117 = (if rd_ S0 53 v107 = 0 then 1 else 0)) (j := 117) (rest := [.int v99, .ref (o + 37)]) (ls := ls) (fun w117 ew117 => ?_) (fun J117 => ?_)
              · skip
                refine mm_iast hx hb hK hW hS 53 rfl (ww_in (by omega) (by omega)) dX5_worked_117 (fun S117 H locs f117 hW hS => ?_)
                refine lv_goto (tgt := 182) hx hb dX5_worked_118 (by decide) ?_
                obtain ⟨v182, e182⟩ : ∃ yQ : Int32, yQ = k + 1 := ⟨_, rfl⟩
                refine lv_iinc (v := v182) (lv' := [(5, .int v182), (6, .int (rd_ S0 45 k)), (4, .int n), (0, .ref o), (1, .int t), (2, .int a), (3, .int b)]) hx hb dX5_worked_182 hl (k := 1) rfl (by rw [e182]; rfl) (by decide) rfl (fun ls hl => ?_)
                refine lv_goto (tgt := 12) hx hb dX5_worked_185 (by decide) ?_
                exact ih12 n v182 S117 H locs (by subst e18 e20 e99 e107 ew117 f117 e182; exact wk_ok_of (mm_up_k (by decide)) (mm_up_k (by decide)) _ _ _ _ hk) (by subst e18 e20 e99 e107 ew117 f117 e182; simp only [wk_go, if_neg c21, if_neg c36, if_neg c42, if_pos c89] at hgo12; exact hgo12) hW hS ls (lv_sub hl [0, 2, 3, 4, 5, 6] rfl)
              refine lv_if_ne (tgt := 116) hx hb dX5_worked_109 (by decide) (fun c109 => ?_) (fun c109 => ?_)
              · skip
                refine lv_iconst (v := 0) hx hb dX5_worked_116 (by decide) ?_
                exact J117 _ (by subst e18 e20 e99 e107; simp only [if_neg c21, if_neg c36, if_neg c42, if_pos c89, if_neg c109])
              · skip
                refine lv_iconst (v := 1) hx hb dX5_worked_112 (by decide) ?_
                refine lv_goto (tgt := 117) hx hb dX5_worked_113 (by decide) ?_
                exact J117 _ (by subst e18 e20 e99 e107; simp only [if_neg c21, if_neg c36, if_neg c42, if_pos c89, if_pos c109])
          · skip
            rw [if_neg c36, if_pos c42] at hm
            obtain ⟨n0, n1, w0, w1, hk⟩ := hm
            refine lv_aload_n hx hb dX5_worked_45 rfl (lv_at hl 3 rfl) ?_
            refine mm_geta hx hb hts hown hK hW 53 rfl q1738 dX5_worked_46 ?_
            refine lv_iload hx hb dX5_worked_49 (lv_at hl 2 rfl) ?_
            refine lv_iload hx hb dX5_worked_51 (lv_at hl 0 rfl) ?_
            refine lv_iconst (v := 1) hx hb dX5_worked_53 (by decide) ?_
            refine lv_icmp_ne (tgt := 67) hx hb dX5_worked_54 (by decide) (fun c54 => ?_) (fun c54 => ?_)
            · skip
              refine lv_aload_n hx hb dX5_worked_67 rfl (lv_at hl 3 rfl) ?_
              refine mm_geta hx hb hts hown hK hW 52 rfl q1737 dX5_worked_68 ?_
              refine lv_aload_n hx hb dX5_worked_71 rfl (lv_at hl 3 rfl) ?_
              refine mm_geta hx hb hts hown hK hW 46 rfl q1731 dX5_worked_72 ?_
              refine lv_iload hx hb dX5_worked_75 (lv_at hl 1 rfl) ?_
              refine mm_iald hx hb hK hW 46 rfl (ww_in (by omega) (by omega)) dX5_worked_77 ?_
              refine mm_iald hx hb hK hW 52 rfl (ww_in (by omega) (by omega)) dX5_worked_78 ?_
              refine mm_iast hx hb hK hW hS 53 rfl (ww_in (by omega) (by omega)) dX5_worked_79 (fun S79 H locs f79 hW hS => ?_)
              obtain ⟨v80, e80⟩ : ∃ yQ : Int32, yQ = n + 1 := ⟨_, rfl⟩
              refine lv_iinc (v := v80) (lv' := [(4, .int v80), (6, .int (rd_ S0 45 k)), (5, .int k), (0, .ref o), (1, .int t), (2, .int a), (3, .int b)]) hx hb dX5_worked_80 hl (k := 2) rfl (by rw [e80]; rfl) (by decide) rfl (fun ls hl => ?_)
              refine lv_goto (tgt := 182) hx hb dX5_worked_83 (by decide) ?_
              obtain ⟨v182, e182⟩ : ∃ yQ : Int32, yQ = k + 1 := ⟨_, rfl⟩
              refine lv_iinc (v := v182) (lv' := [(5, .int v182), (4, .int v80), (6, .int (rd_ S0 45 k)), (0, .ref o), (1, .int t), (2, .int a), (3, .int b)]) hx hb dX5_worked_182 hl (k := 2) rfl (by rw [e182]; rfl) (by decide) rfl (fun ls hl => ?_)
              refine lv_goto (tgt := 12) hx hb dX5_worked_185 (by decide) ?_
              exact ih12 v80 v182 S79 H locs (by subst e18 e20 f79 e80 e182; exact wk_ok_of (mm_up_k (by decide)) (mm_up_k (by decide)) _ _ _ _ hk) (by subst e18 e20 f79 e80 e182; simp only [wk_go, if_neg c21, if_neg c36, if_pos c42, if_neg c54] at hgo12; exact hgo12) hW hS ls (lv_sub hl [0, 1, 3, 4, 5, 6] rfl)
            · skip
              exact absurd c54 c36
  exact L12 171 0 v9 S H locs (by rw [e9, e7]; exact hok) (by subst e7 e9; simp only [ff_worked]) hW hS ls (lv_sub hl [0, 1, 2, 3, 4, 5] rfl)

set_option maxHeartbeats 4000000 in
theorem mc_gives (lQ : Launch) (G : wm_G) (o : Nat) (S : mm_S) (E : mm_E) (t : Int32) (hok : gv_ok 91 S t 0 0) (t0 : 0 ≤ t.toInt) (t1 : t.toInt < 17) : mm_Met lQ G o yX5_gives (ws_ yX5_gives cX5_gives 5 (some .int)) 2 S E [.int t] (some (.int (ff_gives S t).1)) (ff_gives S t).2 E := by
  refine mm_start (by decide +kernel) (Nat.le_of_ble_eq_true rfl) rfl (fun pQ eQ sQ mQ belowQ methQ cQ hx hb hml hr hlocks hts hown hK H hW hS ls hl => ?_)
  have hl : lv_has ls 5 [(0, .ref o), (1, .int t)] := hl
  generalize hlc : ([] : List Loc) = locs at hS ⊢
  refine lv_iconst (v := 0) hx hb dX5_gives_0 (by decide) ?_
  refine lv_istore_n (lv' := [(2, .int 0), (0, .ref o), (1, .int t)]) hx hb dX5_gives_1 rfl hl (by decide) rfl (fun ls hl => ?_)
  refine lv_iconst (v := 0) hx hb dX5_gives_2 (by decide) ?_
  refine lv_istore_n (lv' := [(3, .int 0), (2, .int 0), (0, .ref o), (1, .int t)]) hx hb dX5_gives_3 rfl hl (by decide) rfl (fun ls hl => ?_)
  have L4 : ∀ (fu4 : Nat) (f : Int32) (i : Int32) (S0 : mm_S) (H : Heap) (locs : List Loc), (gv_ok fu4 S0 t f i) → (gv_go fu4 S0 t f i = ff_gives S t) → mm_W G o S0 E H → va_S (mm_F o) sQ.heap H locs → ∀ ls : Array Slot, lv_has ls 5 [(3, .int i), (2, .int f), (0, .ref o), (1, .int t)] → W pQ lQ eQ (wm_rm 2) sQ mQ (Value.ref o :: [.int t]).toArray belowQ methQ cQ H locs 0 0 (MQ belowQ (wm_Q (fun vQ HQ => vQ = some (.int (ff_gives S t).1) ∧ mm_W G o (ff_gives S t).2 E HQ) (mm_F o)) (Value.ref o :: [.int t]).toArray sQ 0 0 (mm_F o)) (F0 mQ 4 ls []) := by
    intro fu4
    induction fu4 with
    | zero =>
      intro f i S0 H locs hm4 hgo4 hW hS ls hl
      exact hm4.elim
    | succ fu4 ih4 =>
      intro f i S0 H locs hm4 hgo4 hW hS ls hl
      have hm := hm4
      unfold gv_ok at hm
      refine lv_iload_n hx hb dX5_gives_4 rfl (lv_at hl 0 rfl) ?_
      refine lv_aload_n hx hb dX5_gives_5 rfl (lv_at hl 2 rfl) ?_
      refine mm_geta hx hb hts hown hK hW 42 rfl q1727 dX5_gives_6 ?_
      refine lv_iload_n hx hb dX5_gives_9 rfl (lv_at hl 3 rfl) ?_
      refine mm_iald hx hb hK hW 42 rfl (ww_in t0 t1) dX5_gives_10 ?_
      refine lv_icmp_ge (tgt := 83) hx hb dX5_gives_11 (by decide) (fun c11 => ?_) (fun c11 => ?_)
      · have t11 : ((rd_ S0 42 t)).toInt ≤ (i).toInt := ww_le c11
        refine lv_iconst (v := 0) hx hb dX5_gives_83 (by decide) ?_
        refine mm_iret hx hb hr hlocks hW hS ?_ dX5_gives_84
        have hres : ff_gives S t = (0, S0) := by rw [← hgo4]; simp only [gv_go, if_pos c11]
        exact ⟨by rw [hres], by rw [hres], rfl⟩
      · have t11 : (i).toInt < ((rd_ S0 42 t)).toInt := ww_nle c11
        rw [if_neg c11] at hm
        obtain ⟨x1, x2, x3⟩ := hm
        refine lv_bipush (v := 90) hx hb dX5_gives_14 (by decide) ?_
        refine lv_iload_n hx hb dX5_gives_16 rfl (lv_at hl 3 rfl) ?_
        refine nv_imul hx hb dX5_gives_17 (fun v17 e17 => ?_)
        refine lv_iload_n hx hb dX5_gives_18 rfl (lv_at hl 0 rfl) ?_
        refine nv_iadd hx hb dX5_gives_19 (fun v19 e19 => ?_)
        refine lv_istore (lv' := [(4, .int v19), (3, .int i), (2, .int f), (0, .ref o), (1, .int t)]) hx hb dX5_gives_20 hl (by decide) rfl (fun ls hl => ?_)
        refine lv_aload_n hx hb dX5_gives_22 rfl (lv_at hl 3 rfl) ?_
        refine mm_geta hx hb hts hown hK hW 43 rfl q1728 dX5_gives_23 ?_
        refine lv_iload hx hb dX5_gives_26 (lv_at hl 0 rfl) ?_
        refine mm_iald hx hb hK hW 43 rfl (by rw [e19, e17]; exact x1) dX5_gives_28 ?_
        refine lv_iload_n hx hb dX5_gives_29 rfl (lv_at hl 2 rfl) ?_
        refine lv_icmp_eq (tgt := 49) hx hb dX5_gives_30 (by decide) (fun c30 => ?_) (fun c30 => ?_)
        · skip
          refine lv_aload_n hx hb dX5_gives_49 rfl (lv_at hl 3 rfl) ?_
          refine lv_iload_n hx hb dX5_gives_50 rfl (lv_at hl 4 rfl) ?_
          refine lv_aload_n hx hb dX5_gives_51 rfl (lv_at hl 3 rfl) ?_
          refine mm_geta hx hb hts hown hK hW 43 rfl q1728 dX5_gives_52 ?_
          refine lv_iload hx hb dX5_gives_55 (lv_at hl 0 rfl) ?_
          refine mm_iald hx hb hK hW 43 rfl (by rw [e19, e17]; exact x1) dX5_gives_57 ?_
          refine lv_aload_n hx hb dX5_gives_58 rfl (lv_at hl 3 rfl) ?_
          refine mm_geta hx hb hts hown hK hW 44 rfl q1729 dX5_gives_59 ?_
          refine lv_iload hx hb dX5_gives_62 (lv_at hl 0 rfl) ?_
          refine mm_iald hx hb hK hW 44 rfl (by rw [e19, e17]; exact x1) dX5_gives_64 ?_
          refine mm_calli (As := [.int t, .int (rd_ S0 43 v19), .int (rd_ S0 44 v19)]) (rest := []) (n := 3) ⟨hx, hb, hml, hown, hts⟩ hK (mc_worked lQ G o S0 E t (rd_ S0 43 v19) (rd_ S0 44 v19) (by first | (rw [e19, e17]; exact x2) | (rw [rd_of (g43 43 (by decide)), rd_of (g43 44 (by decide)), e19, e17]; exact wk_ok_of (g43 45 (by decide)) (g43 46 (by decide)) _ _ _ _ x2))) (lw_V q2213 q2215 qs63 q92 q2216) (by decide +kernel) rfl ⟨Nat.le_of_ble_eq_true rfl, Nat.le_of_ble_eq_true rfl⟩ hW hS hl.1 rfl (Nat.le_of_ble_eq_true rfl) dX5_gives_65 ⟨Nat.le_of_ble_eq_true rfl, Nat.le_of_ble_eq_true rfl⟩ (fun v65 S65 H locs e65 f65 hW hS => ?_)
          refine mm_iret hx hb hr hlocks hW hS ?_ dX5_gives_68
          have hres : ff_gives S t = (v65, S65) := by rw [← hgo4]; subst e17 e19 e65 f65; simp only [gv_go, if_neg c11, if_pos c30]
          exact ⟨by rw [hres], by rw [hres], rfl⟩
        · skip
          refine lv_aload_n hx hb dX5_gives_33 rfl (lv_at hl 3 rfl) ?_
          refine lv_iload_n hx hb dX5_gives_34 rfl (lv_at hl 4 rfl) ?_
          refine lv_iload_n hx hb dX5_gives_35 rfl (lv_at hl 2 rfl) ?_
          refine lv_aload_n hx hb dX5_gives_36 rfl (lv_at hl 3 rfl) ?_
          refine mm_geta hx hb hts hown hK hW 43 rfl q1728 dX5_gives_37 ?_
          refine lv_iload hx hb dX5_gives_40 (lv_at hl 0 rfl) ?_
          refine mm_iald hx hb hK hW 43 rfl (by rw [e19, e17]; exact x1) dX5_gives_42 ?_
          refine mm_calli (As := [.int t, .int f, .int (rd_ S0 43 v19)]) (rest := []) (n := 3) ⟨hx, hb, hml, hown, hts⟩ hK (mc_worked lQ G o S0 E t f (rd_ S0 43 v19) (by rw [e19, e17]; exact (x3 (by rw [← e17, ← e19]; exact c30)).1)) (lw_V q2213 q2215 qs63 q92 q2216) (by decide +kernel) rfl ⟨Nat.le_of_ble_eq_true rfl, Nat.le_of_ble_eq_true rfl⟩ hW hS hl.1 rfl (Nat.le_of_ble_eq_true rfl) dX5_gives_43 ⟨Nat.le_of_ble_eq_true rfl, Nat.le_of_ble_eq_true rfl⟩ (fun v43 S43 H locs e43 f43 hW hS => ?_)
          have g43 : ∀ q : Nat, q ≠ 53 → S43 q = S0 q := by intro q hq; rw [f43]; exact wk_fr _ _ _ _ _ q hq
          refine lv_if_eq (tgt := 69) hx hb dX5_gives_46 (by decide) (fun c46 => ?_) (fun c46 => ?_)
          · skip
            refine lv_aload_n hx hb dX5_gives_69 rfl (lv_at hl 3 rfl) ?_
            refine mm_geta hx hb hts hown hK hW 44 rfl q1729 dX5_gives_70 ?_
            refine lv_iload hx hb dX5_gives_73 (lv_at hl 0 rfl) ?_
            refine mm_iald hx hb hK hW 44 rfl (by rw [e19, e17]; exact x1) dX5_gives_75 ?_
            refine lv_istore_n (lv' := [(2, .int (rd_ S43 44 v19)), (4, .int v19), (3, .int i), (0, .ref o), (1, .int t)]) hx hb dX5_gives_76 rfl hl (by decide) rfl (fun ls hl => ?_)
            obtain ⟨v77, e77⟩ : ∃ yQ : Int32, yQ = i + 1 := ⟨_, rfl⟩
            refine lv_iinc (v := v77) (lv' := [(3, .int v77), (2, .int (rd_ S43 44 v19)), (4, .int v19), (0, .ref o), (1, .int t)]) hx hb dX5_gives_77 hl (k := 2) rfl (by rw [e77]; rfl) (by decide) rfl (fun ls hl => ?_)
            refine lv_goto (tgt := 4) hx hb dX5_gives_80 (by decide) ?_
            exact ih4 (rd_ S43 44 v19) v77 S43 H locs (by rw [e77, rd_of (g43 44 (by decide)), e19, e17]; exact gv_ok_of (g43 45 (by decide)) (g43 46 (by decide)) (g43 42 (by decide)) (g43 43 (by decide)) (g43 44 (by decide)) _ _ _ _ (x3 (by rw [← e17, ← e19]; exact c30)).2) (by subst e17 e19 e43 f43 e77; simp only [gv_go, if_neg c11, if_neg c30, if_pos c46] at hgo4; exact hgo4) hW hS ls (lv_sub hl [0, 1, 3, 4] rfl)
          · skip
            refine lv_aload_n hx hb dX5_gives_49 rfl (lv_at hl 3 rfl) ?_
            refine lv_iload_n hx hb dX5_gives_50 rfl (lv_at hl 4 rfl) ?_
            refine lv_aload_n hx hb dX5_gives_51 rfl (lv_at hl 3 rfl) ?_
            refine mm_geta hx hb hts hown hK hW 43 rfl q1728 dX5_gives_52 ?_
            refine lv_iload hx hb dX5_gives_55 (lv_at hl 0 rfl) ?_
            refine mm_iald hx hb hK hW 43 rfl (by rw [e19, e17]; exact x1) dX5_gives_57 ?_
            refine lv_aload_n hx hb dX5_gives_58 rfl (lv_at hl 3 rfl) ?_
            refine mm_geta hx hb hts hown hK hW 44 rfl q1729 dX5_gives_59 ?_
            refine lv_iload hx hb dX5_gives_62 (lv_at hl 0 rfl) ?_
            refine mm_iald hx hb hK hW 44 rfl (by rw [e19, e17]; exact x1) dX5_gives_64 ?_
            refine mm_calli (As := [.int t, .int (rd_ S43 43 v19), .int (rd_ S43 44 v19)]) (rest := []) (n := 3) ⟨hx, hb, hml, hown, hts⟩ hK (mc_worked lQ G o S43 E t (rd_ S43 43 v19) (rd_ S43 44 v19) (by first | (rw [e19, e17]; exact x2) | (rw [rd_of (g43 43 (by decide)), rd_of (g43 44 (by decide)), e19, e17]; exact wk_ok_of (g43 45 (by decide)) (g43 46 (by decide)) _ _ _ _ x2))) (lw_V q2213 q2215 qs63 q92 q2216) (by decide +kernel) rfl ⟨Nat.le_of_ble_eq_true rfl, Nat.le_of_ble_eq_true rfl⟩ hW hS hl.1 rfl (Nat.le_of_ble_eq_true rfl) dX5_gives_65 ⟨Nat.le_of_ble_eq_true rfl, Nat.le_of_ble_eq_true rfl⟩ (fun v65 S65 H locs e65 f65 hW hS => ?_)
            refine mm_iret hx hb hr hlocks hW hS ?_ dX5_gives_68
            have hres : ff_gives S t = (v65, S65) := by rw [← hgo4]; subst e17 e19 e43 f43 e65 f65; simp only [gv_go, if_neg c11, if_neg c30, if_neg c46]
            exact ⟨by rw [hres], by rw [hres], rfl⟩
  exact L4 91 0 0 S H locs hok (by simp only [ff_gives]) hW hS ls (lv_sub hl [0, 1, 2, 3] rfl)

set_option maxHeartbeats 4000000 in
theorem mc_saysNow (lQ : Launch) (G : wm_G) (o : Nat) (S : mm_S) (E : mm_E) (w : Int32) (m : Int32) (d : Int32) (hB : iv_B S) (hX : iv_X S) (hm : m.toInt < 120) : mm_Met lQ G o yX5_saysNow (ws_ yX5_saysNow cX5_saysNow 7 (some .int)) 3 S E [.int w, .int m, .int d] (some (.int (ff_saysNow S w m d).1)) (ff_saysNow S w m d).2 E := by
  refine mm_start (by decide +kernel) (Nat.le_of_ble_eq_true rfl) rfl (fun pQ eQ sQ mQ belowQ methQ cQ hx hb hml hr hlocks hts hown hK H hW hS ls hl => ?_)
  have hl : lv_has ls 7 [(0, .ref o), (1, .int w), (2, .int m), (3, .int d)] := hl
  generalize hlc : ([] : List Loc) = locs at hS ⊢
  refine lv_aload_n hx hb dX5_saysNow_0 rfl (lv_at hl 0 rfl) ?_
  refine lv_iload_n hx hb dX5_saysNow_1 rfl (lv_at hl 1 rfl) ?_
  refine lv_aload_n hx hb dX5_saysNow_2 rfl (lv_at hl 0 rfl) ?_
  refine mm_geti hx hb hts hown hK hW 1 rfl (by decide) q1686 dX5_saysNow_3 ?_
  refine lv_aload_n hx hb dX5_saysNow_6 rfl (lv_at hl 0 rfl) ?_
  refine mm_geti hx hb hts hown hK hW 1 rfl (by decide) q1686 dX5_saysNow_7 ?_
  refine mm_callp (As := [.int w, .int (fd_ S 1), .int (fd_ S 1)]) (rest := []) (n := 3) ⟨hx, hb, hml, hown, hts⟩ hK (mc_forceOf lQ G o S E w (fd_ S 1) (fd_ S 1) hB hX) (lw_V q2189 q2191 qs58 q92 q2192) (by decide +kernel) rfl ⟨Nat.le_of_ble_eq_true rfl, Nat.le_of_ble_eq_true rfl⟩ hW hS hl.1 rfl (Nat.le_of_ble_eq_true rfl) dX5_saysNow_10 ⟨Nat.le_of_ble_eq_true rfl, Nat.le_of_ble_eq_true rfl⟩ (fun v10 H locs e10 hW hS => ?_)
  refine lv_istore (lv' := [(4, .int v10), (0, .ref o), (1, .int w), (2, .int m), (3, .int d)]) hx hb dX5_saysNow_13 hl (by decide) rfl (fun ls hl => ?_)
  refine lv_iload hx hb dX5_saysNow_15 (lv_at hl 0 rfl) ?_
  refine lv_if_ge (tgt := 22) hx hb dX5_saysNow_17 (by decide) (fun c17 => ?_) (fun c17 => ?_)
  · have t17 : 0 ≤ (v10).toInt := ww_le c17
    have ht : v10.toInt < (fd_ S 38).toInt := by rw [e10] at t17 ⊢; exact ff_forceOf_t hX _ _ _ t17
    have hx2 := hX.2.1
    refine lv_iconst (v := 0) hx hb dX5_saysNow_22 (by decide) ?_
    refine lv_istore (lv' := [(5, .int 0), (4, .int v10), (0, .ref o), (1, .int w), (2, .int m), (3, .int d)]) hx hb dX5_saysNow_23 hl (by decide) rfl (fun ls hl => ?_)
    refine lv_iconst (v := 0) hx hb dX5_saysNow_25 (by decide) ?_
    refine lv_istore (lv' := [(6, .int 0), (5, .int 0), (4, .int v10), (0, .ref o), (1, .int w), (2, .int m), (3, .int d)]) hx hb dX5_saysNow_26 hl (by decide) rfl (fun ls hl => ?_)
    have L28 : ∀ (fu28 : Nat) (n : Int32) (b : Int32), ((fd_ S 4).toInt - b.toInt < fu28) → (0 ≤ b.toInt) → (b.toInt ≤ (fd_ S 4).toInt) → (ff_thr_go fu28 S n b = ff_through S) → ∀ ls : Array Slot, lv_has ls 7 [(6, .int b), (5, .int n), (4, .int v10), (0, .ref o), (1, .int w), (2, .int m), (3, .int d)] → W pQ lQ eQ (wm_rm 3) sQ mQ (Value.ref o :: [.int w, .int m, .int d]).toArray belowQ methQ cQ H locs 0 0 (MQ belowQ (wm_Q (fun vQ HQ => vQ = some (.int (ff_saysNow S w m d).1) ∧ mm_W G o (ff_saysNow S w m d).2 E HQ) (mm_F o)) (Value.ref o :: [.int w, .int m, .int d]).toArray sQ 0 0 (mm_F o)) (F0 mQ 28 ls []) := by
      intro fu28
      induction fu28 with
      | zero =>
        intro n b hm28 i028 i128 hgo28 ls hl
        exact absurd hm28 (by omega)
      | succ fu28 ih28 =>
        intro n b hm28 i028 i128 hgo28 ls hl
        refine lv_iload hx hb dX5_saysNow_28 (lv_at hl 0 rfl) ?_
        refine lv_aload_n hx hb dX5_saysNow_30 rfl (lv_at hl 3 rfl) ?_
        refine mm_geti hx hb hts hown hK hW 4 rfl (by decide) q1689 dX5_saysNow_31 ?_
        refine lv_icmp_ge (tgt := 63) hx hb dX5_saysNow_34 (by decide) (fun c34 => ?_) (fun c34 => ?_)
        · have t34 : ((fd_ S 4)).toInt ≤ (b).toInt := ww_le c34
          have hs : n = ff_through S := by simp only [ff_thr_go, if_pos c34] at hgo28; exact hgo28
          refine lv_aload_n hx hb dX5_saysNow_63 rfl (lv_at hl 3 rfl) ?_
          refine mm_geta hx hb hts hown hK hW 52 rfl q1737 dX5_saysNow_64 ?_
          refine lv_iconst (v := 0) hx hb dX5_saysNow_67 (by decide) ?_
          refine lv_aload_n hx hb dX5_saysNow_68 rfl (lv_at hl 3 rfl) ?_
          refine mm_geti hx hb hts hown hK hW 1 rfl (by decide) q1686 dX5_saysNow_69 ?_
          refine mm_iast hx hb hK hW hS 52 rfl (ww_in (by decide) (by decide)) dX5_saysNow_72 (fun S72 H locs f72 hW hS => ?_)
          refine lv_aload_n hx hb dX5_saysNow_73 rfl (lv_at hl 3 rfl) ?_
          refine mm_geta hx hb hts hown hK hW 52 rfl q1737 dX5_saysNow_74 ?_
          refine lv_iconst (v := 1) hx hb dX5_saysNow_77 (by decide) ?_
          refine lv_aload_n hx hb dX5_saysNow_78 rfl (lv_at hl 3 rfl) ?_
          refine mm_geti hx hb hts hown hK hW 1 rfl (by decide) q1686 dX5_saysNow_79 ?_
          refine lv_bipush (v := 24) hx hb dX5_saysNow_82 (by decide) ?_
          refine nv_idiv hx hb dX5_saysNow_84 (by decide) (fun v84 e84 => ?_)
          refine mm_iast hx hb hK hW hS 52 rfl (ww_in (by decide) (by decide)) dX5_saysNow_85 (fun S85 H locs f85 hW hS => ?_)
          refine lv_aload_n hx hb dX5_saysNow_86 rfl (lv_at hl 3 rfl) ?_
          refine mm_geta hx hb hts hown hK hW 52 rfl q1737 dX5_saysNow_87 ?_
          refine lv_iconst (v := 2) hx hb dX5_saysNow_90 (by decide) ?_
          refine lv_iload_n hx hb dX5_saysNow_91 rfl (lv_at hl 5 rfl) ?_
          refine wm_join (P := fun w105 : Int32 => w105 = (if 0 ≤ m then rd_ S85 17 m else 0)) (j := 105) (rest := [.int 2, .ref (o + 36)]) (ls := ls) (fun w105 ew105 => ?_) (fun J105 => ?_)
          · skip
            refine mm_iast hx hb hK hW hS 52 rfl (ww_in (by decide) (by decide)) dX5_saysNow_105 (fun S105 H locs f105 hW hS => ?_)
            refine lv_aload_n hx hb dX5_saysNow_106 rfl (lv_at hl 3 rfl) ?_
            refine mm_geta hx hb hts hown hK hW 52 rfl q1737 dX5_saysNow_107 ?_
            refine lv_iconst (v := 3) hx hb dX5_saysNow_110 (by decide) ?_
            refine lv_iload_n hx hb dX5_saysNow_111 rfl (lv_at hl 5 rfl) ?_
            refine wm_join (P := fun w125 : Int32 => w125 = (if 0 ≤ m then rd_ S105 18 m else 0)) (j := 125) (rest := [.int 3, .ref (o + 36)]) (ls := ls) (fun w125 ew125 => ?_) (fun J125 => ?_)
            · skip
              refine mm_iast hx hb hK hW hS 52 rfl (ww_in (by decide) (by decide)) dX5_saysNow_125 (fun S125 H locs f125 hW hS => ?_)
              refine lv_aload_n hx hb dX5_saysNow_126 rfl (lv_at hl 3 rfl) ?_
              refine mm_geta hx hb hts hown hK hW 52 rfl q1737 dX5_saysNow_127 ?_
              refine lv_iconst (v := 4) hx hb dX5_saysNow_130 (by decide) ?_
              refine lv_iload_n hx hb dX5_saysNow_131 rfl (lv_at hl 5 rfl) ?_
              refine wm_join (P := fun w145 : Int32 => w145 = (if 0 ≤ m then rd_ S125 19 m else 0)) (j := 145) (rest := [.int 4, .ref (o + 36)]) (ls := ls) (fun w145 ew145 => ?_) (fun J145 => ?_)
              · skip
                refine mm_iast hx hb hK hW hS 52 rfl (ww_in (by decide) (by decide)) dX5_saysNow_145 (fun S145 H locs f145 hW hS => ?_)
                refine lv_aload_n hx hb dX5_saysNow_146 rfl (lv_at hl 3 rfl) ?_
                refine mm_geta hx hb hts hown hK hW 52 rfl q1737 dX5_saysNow_147 ?_
                refine lv_iconst (v := 5) hx hb dX5_saysNow_150 (by decide) ?_
                refine lv_aload_n hx hb dX5_saysNow_151 rfl (lv_at hl 3 rfl) ?_
                refine mm_callp (As := []) (rest := [.int 5, .ref (o + 36)]) (n := 0) ⟨hx, hb, hml, hown, hts⟩ hK (mc_menBelow lQ G o S145 E (iv_B_of (by rw [f145, f125, f105, f85, f72, gm_wr (by decide), gm_wr (by decide), gm_wr (by decide), gm_wr (by decide), gm_wr (by decide)]) hB)) (lw_V q2205 q2207 qs61 q92 q2208) (by decide +kernel) rfl ⟨Nat.le_of_ble_eq_true rfl, Nat.le_of_ble_eq_true rfl⟩ hW hS hl.1 rfl (Nat.le_of_ble_eq_true rfl) dX5_saysNow_152 ⟨Nat.le_of_ble_eq_true rfl, Nat.le_of_ble_eq_true rfl⟩ (fun v152 H locs e152 hW hS => ?_)
                refine mm_iast hx hb hK hW hS 52 rfl (ww_in (by decide) (by decide)) dX5_saysNow_155 (fun S155 H locs f155 hW hS => ?_)
                refine lv_aload_n hx hb dX5_saysNow_156 rfl (lv_at hl 3 rfl) ?_
                refine mm_geta hx hb hts hown hK hW 52 rfl q1737 dX5_saysNow_157 ?_
                refine lv_bipush (v := 6) hx hb dX5_saysNow_160 (by decide) ?_
                refine lv_aload_n hx hb dX5_saysNow_162 rfl (lv_at hl 3 rfl) ?_
                refine mm_geti hx hb hts hown hK hW 54 rfl (by decide) q1739 dX5_saysNow_163 ?_
                refine mm_iast hx hb hK hW hS 52 rfl (ww_in (by decide) (by decide)) dX5_saysNow_166 (fun S166 H locs f166 hW hS => ?_)
                refine lv_aload_n hx hb dX5_saysNow_167 rfl (lv_at hl 3 rfl) ?_
                refine mm_geta hx hb hts hown hK hW 52 rfl q1737 dX5_saysNow_168 ?_
                refine lv_bipush (v := 7) hx hb dX5_saysNow_171 (by decide) ?_
                refine lv_iload hx hb dX5_saysNow_173 (lv_at hl 1 rfl) ?_
                refine mm_iast hx hb hK hW hS 52 rfl (ww_in (by decide) (by decide)) dX5_saysNow_175 (fun S175 H locs f175 hW hS => ?_)
                have n175 : S175 = sn_S S m (ff_through S) := by rw [f175, f166, f155, e152, f145, ew145, f125, ew125, f105, ew105, f85, e84, f72, hs]; rfl
                refine lv_aload_n hx hb dX5_saysNow_176 rfl (lv_at hl 3 rfl) ?_
                refine lv_iload hx hb dX5_saysNow_177 (lv_at hl 2 rfl) ?_
                refine mm_calli (As := [.int v10]) (rest := []) (n := 1) ⟨hx, hb, hml, hown, hts⟩ hK (mc_gives lQ G o S175 E v10 (by rw [n175]; exact gv_ok_of (sn_fr _ _ _ (by decide)) (sn_fr _ _ _ (by decide)) (sn_fr _ _ _ (by decide)) (sn_fr _ _ _ (by decide)) (sn_fr _ _ _ (by decide)) _ _ _ _ (hX.2.2 v10 t17 ht).1) t17 (by omega)) (lw_V q2209 q2211 qs62 q92 q2212) (by decide +kernel) rfl ⟨Nat.le_of_ble_eq_true rfl, Nat.le_of_ble_eq_true rfl⟩ hW hS hl.1 rfl (Nat.le_of_ble_eq_true rfl) dX5_saysNow_179 ⟨Nat.le_of_ble_eq_true rfl, Nat.le_of_ble_eq_true rfl⟩ (fun v179 S179 H locs e179 f179 hW hS => ?_)
                refine mm_iret hx hb hr hlocks hW hS ?_ dX5_saysNow_182
                have hres : ff_saysNow S w m d = (v179, S179) := by rw [e179, f179, n175, e10]; unfold ff_saysNow; rw [if_pos (by rw [← e10]; exact c17)]
                exact ⟨by rw [hres], by rw [hres], rfl⟩
              refine lv_if_ge (tgt := 139) hx hb dX5_saysNow_132 (by decide) (fun c132 => ?_) (fun c132 => ?_)
              · have t132 : 0 ≤ (m).toInt := ww_le c132
                refine lv_aload_n hx hb dX5_saysNow_139 rfl (lv_at hl 3 rfl) ?_
                refine mm_geta hx hb hts hown hK hW 19 rfl q1704 dX5_saysNow_140 ?_
                refine lv_iload_n hx hb dX5_saysNow_143 rfl (lv_at hl 5 rfl) ?_
                refine mm_iald hx hb hK hW 19 rfl (ww_in (by omega) (by omega)) dX5_saysNow_144 ?_
                exact J145 _ (by subst e10 hs f72 e84 f85 ew105 f105 ew125 f125; simp only [if_pos c17, if_pos c34, if_pos c132])
              · have t132 : (m).toInt < 0 := ww_nle c132
                refine lv_iconst (v := 0) hx hb dX5_saysNow_135 (by decide) ?_
                refine lv_goto (tgt := 145) hx hb dX5_saysNow_136 (by decide) ?_
                exact J145 _ (by subst e10 hs f72 e84 f85 ew105 f105 ew125 f125; simp only [if_pos c17, if_pos c34, if_neg c132])
            refine lv_if_ge (tgt := 119) hx hb dX5_saysNow_112 (by decide) (fun c112 => ?_) (fun c112 => ?_)
            · have t112 : 0 ≤ (m).toInt := ww_le c112
              refine lv_aload_n hx hb dX5_saysNow_119 rfl (lv_at hl 3 rfl) ?_
              refine mm_geta hx hb hts hown hK hW 18 rfl q1703 dX5_saysNow_120 ?_
              refine lv_iload_n hx hb dX5_saysNow_123 rfl (lv_at hl 5 rfl) ?_
              refine mm_iald hx hb hK hW 18 rfl (ww_in (by omega) (by omega)) dX5_saysNow_124 ?_
              exact J125 _ (by subst e10 hs f72 e84 f85 ew105 f105; simp only [if_pos c17, if_pos c34, if_pos c112])
            · have t112 : (m).toInt < 0 := ww_nle c112
              refine lv_iconst (v := 0) hx hb dX5_saysNow_115 (by decide) ?_
              refine lv_goto (tgt := 125) hx hb dX5_saysNow_116 (by decide) ?_
              exact J125 _ (by subst e10 hs f72 e84 f85 ew105 f105; simp only [if_pos c17, if_pos c34, if_neg c112])
          refine lv_if_ge (tgt := 99) hx hb dX5_saysNow_92 (by decide) (fun c92 => ?_) (fun c92 => ?_)
          · have t92 : 0 ≤ (m).toInt := ww_le c92
            refine lv_aload_n hx hb dX5_saysNow_99 rfl (lv_at hl 3 rfl) ?_
            refine mm_geta hx hb hts hown hK hW 17 rfl q1702 dX5_saysNow_100 ?_
            refine lv_iload_n hx hb dX5_saysNow_103 rfl (lv_at hl 5 rfl) ?_
            refine mm_iald hx hb hK hW 17 rfl (ww_in (by omega) (by omega)) dX5_saysNow_104 ?_
            exact J105 _ (by subst e10 hs f72 e84 f85; simp only [if_pos c17, if_pos c34, if_pos c92])
          · have t92 : (m).toInt < 0 := ww_nle c92
            refine lv_iconst (v := 0) hx hb dX5_saysNow_95 (by decide) ?_
            refine lv_goto (tgt := 105) hx hb dX5_saysNow_96 (by decide) ?_
            exact J105 _ (by subst e10 hs f72 e84 f85; simp only [if_pos c17, if_pos c34, if_neg c92])
        · have t34 : (b).toInt < ((fd_ S 4)).toInt := ww_nle c34
          refine lv_iload hx hb dX5_saysNow_37 (lv_at hl 1 rfl) ?_
          refine lv_aload_n hx hb dX5_saysNow_39 rfl (lv_at hl 3 rfl) ?_
          refine mm_geta hx hb hts hown hK hW 12 rfl q1697 dX5_saysNow_40 ?_
          refine lv_iload hx hb dX5_saysNow_43 (lv_at hl 0 rfl) ?_
          refine mm_iald hx hb hK hW 12 rfl (by have := hB.2; exact ww_in (by omega) (by omega)) dX5_saysNow_45 ?_
          refine lv_if_le (tgt := 53) hx hb dX5_saysNow_46 (by decide) (fun c46 => ?_) (fun c46 => ?_)
          · have t46 : ((rd_ S 12 b)).toInt ≤ 0 := ww_le c46
            refine lv_iconst (v := 0) hx hb dX5_saysNow_53 (by decide) ?_
            refine nv_iadd hx hb dX5_saysNow_54 (fun v54 e54 => ?_)
            refine lv_istore (lv' := [(5, .int v54), (6, .int b), (4, .int v10), (0, .ref o), (1, .int w), (2, .int m), (3, .int d)]) hx hb dX5_saysNow_55 hl (by decide) rfl (fun ls hl => ?_)
            obtain ⟨v57, e57⟩ : ∃ yQ : Int32, yQ = b + 1 := ⟨_, rfl⟩
            refine lv_iinc (v := v57) (lv' := [(6, .int v57), (5, .int v54), (4, .int v10), (0, .ref o), (1, .int w), (2, .int m), (3, .int d)]) hx hb dX5_saysNow_57 hl (k := 1) rfl (by rw [e57]; rfl) (by decide) rfl (fun ls hl => ?_)
            refine lv_goto (tgt := 28) hx hb dX5_saysNow_60 (by decide) ?_
            have tb : v57.toInt = b.toInt + 1 := by rw [e57]; exact ww_inc t34
            exact ih28 v54 v57 (by omega) (by omega) (by omega) (by subst e54 e57; simp only [ff_thr_go, if_neg c34, if_pos c46] at hgo28; exact hgo28) ls (lv_sub hl [0, 1, 2, 3, 4, 5, 6] rfl)
          · have t46 : 0 < ((rd_ S 12 b)).toInt := ww_nle c46
            refine lv_iconst (v := 1) hx hb dX5_saysNow_49 (by decide) ?_
            refine lv_goto (tgt := 54) hx hb dX5_saysNow_50 (by decide) ?_
            refine nv_iadd hx hb dX5_saysNow_54 (fun v54 e54 => ?_)
            refine lv_istore (lv' := [(5, .int v54), (6, .int b), (4, .int v10), (0, .ref o), (1, .int w), (2, .int m), (3, .int d)]) hx hb dX5_saysNow_55 hl (by decide) rfl (fun ls hl => ?_)
            obtain ⟨v57, e57⟩ : ∃ yQ : Int32, yQ = b + 1 := ⟨_, rfl⟩
            refine lv_iinc (v := v57) (lv' := [(6, .int v57), (5, .int v54), (4, .int v10), (0, .ref o), (1, .int w), (2, .int m), (3, .int d)]) hx hb dX5_saysNow_57 hl (k := 1) rfl (by rw [e57]; rfl) (by decide) rfl (fun ls hl => ?_)
            refine lv_goto (tgt := 28) hx hb dX5_saysNow_60 (by decide) ?_
            have tb : v57.toInt = b.toInt + 1 := by rw [e57]; exact ww_inc t34
            exact ih28 v54 v57 (by omega) (by omega) (by omega) (by subst e54 e57; simp only [ff_thr_go, if_neg c34, if_neg c46] at hgo28; exact hgo28) ls (lv_sub hl [0, 1, 2, 3, 4, 5, 6] rfl)
    exact L28 121 0 0 (by have := hB.2; show _ - 0 < _; omega) (by decide) hB.1 (rfl) ls (lv_sub hl [0, 1, 2, 3, 4, 5, 6] rfl)
  · have t17 : (v10).toInt < 0 := ww_nle c17
    refine lv_iload_n hx hb dX5_saysNow_20 rfl (lv_at hl 4 rfl) ?_
    refine mm_iret hx hb hr hlocks hW hS ?_ dX5_saysNow_21
    have hres : ff_saysNow S w m d = (d, S) := by subst e10; simp only [ff_saysNow, if_neg c17]
    exact ⟨by rw [hres], by rw [hres], rfl⟩

set_option maxHeartbeats 4000000 in
theorem mc_says (lQ : Launch) (G : wm_G) (o : Nat) (S : mm_S) (E : mm_E) (w : Int32) (m : Int32) (hB : iv_B S) (hX : iv_X S) : mm_Met lQ G o yX5_says (ws_ yX5_says cX5_says 3 (some .int)) 4 S E [.int w, .int m] (some (.int (ff_says S w m).1)) (ff_says S w m).2 E := by
  refine mm_start (by decide +kernel) (Nat.le_of_ble_eq_true rfl) rfl (fun pQ eQ sQ mQ belowQ methQ cQ hx hb hml hr hlocks hts hown hK H hW hS ls hl => ?_)
  have hl : lv_has ls 3 [(0, .ref o), (1, .int w), (2, .int m)] := hl
  generalize hlc : ([] : List Loc) = locs at hS ⊢
  refine lv_iload_n hx hb dX5_says_0 rfl (lv_at hl 1 rfl) ?_
  refine pp_calli (As := [.int w]) (rest := []) (n := 1) ⟨hx, hb, hml, hown, hts⟩ (mc_isWhat lQ w) (lw_S q2132 q2133 q92 q2134) (by decide +kernel) rfl ⟨Nat.le_of_ble_eq_true rfl, Nat.le_of_ble_eq_true rfl⟩ hl.1 rfl (Nat.le_of_ble_eq_true rfl) dX5_says_1 ⟨Nat.le_of_ble_eq_true rfl, Nat.le_of_ble_eq_true rfl⟩ (fun v1 e1 => ?_)
  refine lv_if_eq (tgt := 31) hx hb dX5_says_4 (by decide) (fun c4 => ?_) (fun c4 => ?_)
  · skip
    refine lv_ldcw (v := (-2000000000)) hx hb hown (hts _ q2024) dX5_says_31 ?_
    refine mm_iret hx hb hr hlocks hW hS ?_ dX5_says_34
    have hres : ff_says S w m = ((-2000000000), S) := by subst e1; simp only [ff_says, if_pos c4]
    exact ⟨by rw [hres], by rw [hres], rfl⟩
  · skip
    refine lv_iload_n hx hb dX5_says_7 rfl (lv_at hl 1 rfl) ?_
    refine lv_bipush (v := 10) hx hb dX5_says_8 (by decide) ?_
    refine nv_irem hx hb dX5_says_10 (by decide) (fun v10 e10 => ?_)
    refine lv_iconst (v := 2) hx hb dX5_says_11 (by decide) ?_
    refine lv_icmp_ne (tgt := 23) hx hb dX5_says_12 (by decide) (fun c12 => ?_) (fun c12 => ?_)
    · skip
      refine lv_aload_n hx hb dX5_says_23 rfl (lv_at hl 0 rfl) ?_
      refine lv_iload_n hx hb dX5_says_24 rfl (lv_at hl 2 rfl) ?_
      refine mm_callp (As := [.int m]) (rest := []) (n := 1) ⟨hx, hb, hml, hown, hts⟩ hK (mc_isMan lQ G o S E m hB) (lw_V q2036 q2038 qs40 q92 q2039) (by decide +kernel) rfl ⟨Nat.le_of_ble_eq_true rfl, Nat.le_of_ble_eq_true rfl⟩ hW hS hl.1 rfl (Nat.le_of_ble_eq_true rfl) dX5_says_25 ⟨Nat.le_of_ble_eq_true rfl, Nat.le_of_ble_eq_true rfl⟩ (fun v25 H locs e25 hW hS => ?_)
      refine lv_if_ne (tgt := 35) hx hb dX5_says_28 (by decide) (fun c28 => ?_) (fun c28 => ?_)
      · skip
        have hm := (ff_isMan_t hB (by rw [← e25]; exact c28)).2.2
        refine lv_aload_n hx hb dX5_says_35 rfl (lv_at hl 0 rfl) ?_
        refine lv_iload_n hx hb dX5_says_36 rfl (lv_at hl 1 rfl) ?_
        refine lv_iload_n hx hb dX5_says_37 rfl (lv_at hl 2 rfl) ?_
        refine lv_iload_n hx hb dX5_says_38 rfl (lv_at hl 1 rfl) ?_
        refine lv_bipush (v := 10) hx hb dX5_says_39 (by decide) ?_
        refine nv_irem hx hb dX5_says_41 (by decide) (fun v41 e41 => ?_)
        refine wm_join (P := fun w50 : Int32 => w50 = (if v41 = 0 then 1 else 0)) (j := 50) (rest := [.int m, .int w, .ref o]) (ls := ls) (fun w50 ew50 => ?_) (fun J50 => ?_)
        · skip
          refine mm_calli (As := [.int w, .int m, .int w50]) (rest := []) (n := 3) ⟨hx, hb, hml, hown, hts⟩ hK (mc_saysNow lQ G o S E w m w50 hB hX hm) (lw_V q2201 q2203 qs60 q92 q2204) (by decide +kernel) rfl ⟨Nat.le_of_ble_eq_true rfl, Nat.le_of_ble_eq_true rfl⟩ hW hS hl.1 rfl (Nat.le_of_ble_eq_true rfl) dX5_says_50 ⟨Nat.le_of_ble_eq_true rfl, Nat.le_of_ble_eq_true rfl⟩ (fun v50 S50 H locs e50 f50 hW hS => ?_)
          refine mm_iret hx hb hr hlocks hW hS ?_ dX5_says_53
          have hres : ff_says S w m = (v50, S50) := by subst e1 e10 e25 e41 ew50 e50 f50; simp only [ff_says, if_neg c4, if_neg c12, if_neg c28]
          exact ⟨by rw [hres], by rw [hres], rfl⟩
        refine lv_if_ne (tgt := 49) hx hb dX5_says_42 (by decide) (fun c42 => ?_) (fun c42 => ?_)
        · skip
          refine lv_iconst (v := 0) hx hb dX5_says_49 (by decide) ?_
          exact J50 _ (by subst e1 e10 e25 e41; simp only [if_neg c4, if_neg c12, if_neg c28, if_neg c42])
        · skip
          refine lv_iconst (v := 1) hx hb dX5_says_45 (by decide) ?_
          refine lv_goto (tgt := 50) hx hb dX5_says_46 (by decide) ?_
          exact J50 _ (by subst e1 e10 e25 e41; simp only [if_neg c4, if_neg c12, if_neg c28, if_pos c42])
      · skip
        refine lv_ldcw (v := (-2000000000)) hx hb hown (hts _ q2024) dX5_says_31 ?_
        refine mm_iret hx hb hr hlocks hW hS ?_ dX5_says_34
        have hres : ff_says S w m = ((-2000000000), S) := by subst e1 e10 e25; simp only [ff_says, if_neg c4, if_neg c12, if_pos c28]
        exact ⟨by rw [hres], by rw [hres], rfl⟩
    · skip
      refine lv_iload_n hx hb dX5_says_15 rfl (lv_at hl 2 rfl) ?_
      refine lv_iconst (v := (-1)) hx hb dX5_says_16 (by decide) ?_
      refine lv_icmp_eq (tgt := 35) hx hb dX5_says_17 (by decide) (fun c17 => ?_) (fun c17 => ?_)
      · skip
        have hm : m.toInt < 120 := by rw [c17]; decide
        refine lv_aload_n hx hb dX5_says_35 rfl (lv_at hl 0 rfl) ?_
        refine lv_iload_n hx hb dX5_says_36 rfl (lv_at hl 1 rfl) ?_
        refine lv_iload_n hx hb dX5_says_37 rfl (lv_at hl 2 rfl) ?_
        refine lv_iload_n hx hb dX5_says_38 rfl (lv_at hl 1 rfl) ?_
        refine lv_bipush (v := 10) hx hb dX5_says_39 (by decide) ?_
        refine nv_irem hx hb dX5_says_41 (by decide) (fun v41 e41 => ?_)
        refine wm_join (P := fun w50 : Int32 => w50 = (if v41 = 0 then 1 else 0)) (j := 50) (rest := [.int m, .int w, .ref o]) (ls := ls) (fun w50 ew50 => ?_) (fun J50 => ?_)
        · skip
          refine mm_calli (As := [.int w, .int m, .int w50]) (rest := []) (n := 3) ⟨hx, hb, hml, hown, hts⟩ hK (mc_saysNow lQ G o S E w m w50 hB hX hm) (lw_V q2201 q2203 qs60 q92 q2204) (by decide +kernel) rfl ⟨Nat.le_of_ble_eq_true rfl, Nat.le_of_ble_eq_true rfl⟩ hW hS hl.1 rfl (Nat.le_of_ble_eq_true rfl) dX5_says_50 ⟨Nat.le_of_ble_eq_true rfl, Nat.le_of_ble_eq_true rfl⟩ (fun v50 S50 H locs e50 f50 hW hS => ?_)
          refine mm_iret hx hb hr hlocks hW hS ?_ dX5_says_53
          have hres : ff_says S w m = (v50, S50) := by subst e1 e10 e41 ew50 e50 f50; simp only [ff_says, if_neg c4, if_pos c12, if_pos c17]
          exact ⟨by rw [hres], by rw [hres], rfl⟩
        refine lv_if_ne (tgt := 49) hx hb dX5_says_42 (by decide) (fun c42 => ?_) (fun c42 => ?_)
        · skip
          refine lv_iconst (v := 0) hx hb dX5_says_49 (by decide) ?_
          exact J50 _ (by subst e1 e10 e41; simp only [if_neg c4, if_pos c12, if_pos c17, if_neg c42])
        · skip
          refine lv_iconst (v := 1) hx hb dX5_says_45 (by decide) ?_
          refine lv_goto (tgt := 50) hx hb dX5_says_46 (by decide) ?_
          exact J50 _ (by subst e1 e10 e41; simp only [if_neg c4, if_pos c12, if_pos c17, if_pos c42])
      · skip
        refine lv_goto (tgt := 31) hx hb dX5_says_20 (by decide) ?_
        refine lv_ldcw (v := (-2000000000)) hx hb hown (hts _ q2024) dX5_says_31 ?_
        refine mm_iret hx hb hr hlocks hW hS ?_ dX5_says_34
        have hres : ff_says S w m = ((-2000000000), S) := by subst e1 e10; simp only [ff_says, if_neg c4, if_pos c12, if_neg c17]
        exact ⟨by rw [hres], by rw [hres], rfl⟩

set_option maxHeartbeats 4000000 in
theorem mc_move (lQ : Launch) (G : wm_G) (o : Nat) (S : mm_S) (E : mm_E) (c : Int32) (h : Int32) (hV : iv_V S) : mm_Met lQ G o yX5_move (ws_ yX5_move cX5_move 3 (some .int)) 2 S E [.int c, .int h] (some (.int (ff_move S c h).1)) (ff_move S c h).2 E := by
  refine mm_start (by decide +kernel) (Nat.le_of_ble_eq_true rfl) rfl (fun pQ eQ sQ mQ belowQ methQ cQ hx hb hml hr hlocks hts hown hK H hW hS ls hl => ?_)
  have hl : lv_has ls 3 [(0, .ref o), (1, .int c), (2, .int h)] := hl
  generalize hlc : ([] : List Loc) = locs at hS ⊢
  refine lv_iload_n hx hb dX5_move_0 rfl (lv_at hl 1 rfl) ?_
  refine pp_calli (As := [.int c]) (rest := []) (n := 1) ⟨hx, hb, hml, hown, hts⟩ (mc_isCell lQ c) (lw_S q1976 q1977 q92 q1978) (by decide +kernel) rfl ⟨Nat.le_of_ble_eq_true rfl, Nat.le_of_ble_eq_true rfl⟩ hl.1 rfl (Nat.le_of_ble_eq_true rfl) dX5_move_1 ⟨Nat.le_of_ble_eq_true rfl, Nat.le_of_ble_eq_true rfl⟩ (fun v1 e1 => ?_)
  refine lv_if_eq (tgt := 23) hx hb dX5_move_4 (by decide) (fun c4 => ?_) (fun c4 => ?_)
  · skip
    refine lv_iconst (v := (-1)) hx hb dX5_move_23 (by decide) ?_
    refine mm_iret hx hb hr hlocks hW hS ?_ dX5_move_24
    have hres : ff_move S c h = ((-1), S) := by subst e1; simp only [ff_move, if_pos c4, fd_fw, fd_wn (show (56 : Nat) ≠ 57 by decide), fd_wn (show (56 : Nat) ≠ 58 by decide)]
    exact ⟨by rw [hres], by rw [hres], rfl⟩
  · skip
    refine lv_iload_n hx hb dX5_move_7 rfl (lv_at hl 2 rfl) ?_
    refine lv_aload_n hx hb dX5_move_8 rfl (lv_at hl 0 rfl) ?_
    refine mm_geti hx hb hts hown hK hW 1 rfl (by decide) q1686 dX5_move_9 ?_
    refine lv_iconst (v := 1) hx hb dX5_move_12 (by decide) ?_
    refine nv_iadd hx hb dX5_move_13 (fun v13 e13 => ?_)
    refine lv_sipush (v := 1699) hx hb dX5_move_14 (by decide) ?_
    refine pp_calli (As := [.int h, .int v13, .int 1699]) (rest := []) (n := 3) ⟨hx, hb, hml, hown, hts⟩ (mc_in lQ h v13 1699) (lw_S q1979 q1980 q92 q1981) (by decide +kernel) rfl ⟨Nat.le_of_ble_eq_true rfl, Nat.le_of_ble_eq_true rfl⟩ hl.1 rfl (Nat.le_of_ble_eq_true rfl) dX5_move_17 ⟨Nat.le_of_ble_eq_true rfl, Nat.le_of_ble_eq_true rfl⟩ (fun v17 e17 => ?_)
    refine lv_if_ne (tgt := 25) hx hb dX5_move_20 (by decide) (fun c20 => ?_) (fun c20 => ?_)
    · skip
      refine lv_aload_n hx hb dX5_move_25 rfl (lv_at hl 0 rfl) ?_
      refine mm_geti hx hb hts hown hK hW 56 rfl (by decide) q1741 dX5_move_26 ?_
      refine lv_bipush (v := 60) hx hb dX5_move_29 (by decide) ?_
      refine lv_icmp_ne (tgt := 37) hx hb dX5_move_31 (by decide) (fun c31 => ?_) (fun c31 => ?_)
      · skip
        have hlt : (fd_ S 56).toInt < 60 := by
          have q1 := ww_ne c31
          have q2 := hV.2.1
          have q3 : (60 : Int32).toInt = 60 := by decide
          omega
        refine lv_aload_n hx hb dX5_move_37 rfl (lv_at hl 0 rfl) ?_
        refine mm_geta hx hb hts hown hK hW 57 rfl q1742 dX5_move_38 ?_
        refine lv_aload_n hx hb dX5_move_41 rfl (lv_at hl 0 rfl) ?_
        refine mm_geti hx hb hts hown hK hW 56 rfl (by decide) q1741 dX5_move_42 ?_
        refine lv_iload_n hx hb dX5_move_45 rfl (lv_at hl 1 rfl) ?_
        refine mm_iast hx hb hK hW hS 57 rfl (ww_in hV.1 hlt) dX5_move_46 (fun S46 H locs f46 hW hS => ?_)
        refine lv_aload_n hx hb dX5_move_47 rfl (lv_at hl 0 rfl) ?_
        refine mm_geta hx hb hts hown hK hW 58 rfl q1743 dX5_move_48 ?_
        refine lv_aload_n hx hb dX5_move_51 rfl (lv_at hl 0 rfl) ?_
        refine mm_geti hx hb hts hown hK hW 56 rfl (by decide) q1741 dX5_move_52 ?_
        refine lv_iload_n hx hb dX5_move_55 rfl (lv_at hl 2 rfl) ?_
        refine mm_iast hx hb hK hW hS 58 rfl (by rw [f46, fd_wn (by decide)]; exact ww_in hV.1 hlt) dX5_move_56 (fun S56 H locs f56 hW hS => ?_)
        refine lv_aload_n hx hb dX5_move_57 rfl (lv_at hl 0 rfl) ?_
        refine lv_dup hx hb dX5_move_58 rfl ?_
        refine mm_geti hx hb hts hown hK hW 56 rfl (by decide) q1741 dX5_move_59 ?_
        refine lv_iconst (v := 1) hx hb dX5_move_62 (by decide) ?_
        refine nv_iadd hx hb dX5_move_63 (fun v63 e63 => ?_)
        refine mm_puti hx hb hts hown hK hW hS 56 rfl (by decide) rfl rfl rfl q1741 dX5_move_64 (fun S64 H locs f64 hW hS => ?_)
        refine lv_aload_n hx hb dX5_move_67 rfl (lv_at hl 0 rfl) ?_
        refine mm_geti hx hb hts hown hK hW 56 rfl (by decide) q1741 dX5_move_68 ?_
        refine mm_iret hx hb hr hlocks hW hS ?_ dX5_move_71
        have hres : ff_move S c h = ((fd_ S64 56), S64) := by subst e1 e13 e17 f46 f56 e63 f64; simp only [ff_move, if_neg c4, if_neg c20, if_neg c31, fd_fw, fd_wn (show (56 : Nat) ≠ 57 by decide), fd_wn (show (56 : Nat) ≠ 58 by decide)]
        exact ⟨by rw [hres], by rw [hres], rfl⟩
      · skip
        refine lv_bipush (v := (-3)) hx hb dX5_move_34 (by decide) ?_
        refine mm_iret hx hb hr hlocks hW hS ?_ dX5_move_36
        have hres : ff_move S c h = ((-3), S) := by subst e1 e13 e17; simp only [ff_move, if_neg c4, if_neg c20, if_pos c31, fd_fw, fd_wn (show (56 : Nat) ≠ 57 by decide), fd_wn (show (56 : Nat) ≠ 58 by decide)]
        exact ⟨by rw [hres], by rw [hres], rfl⟩
    · skip
      refine lv_iconst (v := (-1)) hx hb dX5_move_23 (by decide) ?_
      refine mm_iret hx hb hr hlocks hW hS ?_ dX5_move_24
      have hres : ff_move S c h = ((-1), S) := by subst e1 e13 e17; simp only [ff_move, if_neg c4, if_pos c20, fd_fw, fd_wn (show (56 : Nat) ≠ 57 by decide), fd_wn (show (56 : Nat) ≠ 58 by decide)]
      exact ⟨by rw [hres], by rw [hres], rfl⟩

set_option maxHeartbeats 4000000 in
theorem mc_spoons (lQ : Launch) (G : wm_G) (o : Nat) (S : mm_S) (E : mm_E) (v : Int32) : mm_Met lQ G o yX5_spoons (ws_ yX5_spoons cX5_spoons 3 (some .int)) 1 S E [.int v] (some (.int (ff_spoons S v).1)) (ff_spoons S v).2 E := by
  refine mm_start (by decide +kernel) (Nat.le_of_ble_eq_true rfl) rfl (fun pQ eQ sQ mQ belowQ methQ cQ hx hb hml hr hlocks hts hown hK H hW hS ls hl => ?_)
  have hl : lv_has ls 3 [(0, .ref o), (1, .int v)] := hl
  generalize hlc : ([] : List Loc) = locs at hS ⊢
  refine lv_iload_n hx hb dX5_spoons_0 rfl (lv_at hl 1 rfl) ?_
  refine lv_iconst (v := 0) hx hb dX5_spoons_1 (by decide) ?_
  refine lv_sipush (v := 9999) hx hb dX5_spoons_2 (by decide) ?_
  refine pp_calli (As := [.int v, .int 0, .int 9999]) (rest := []) (n := 3) ⟨hx, hb, hml, hown, hts⟩ (mc_in lQ v 0 9999) (lw_S q1979 q1980 q92 q1981) (by decide +kernel) rfl ⟨Nat.le_of_ble_eq_true rfl, Nat.le_of_ble_eq_true rfl⟩ hl.1 rfl (Nat.le_of_ble_eq_true rfl) dX5_spoons_5 ⟨Nat.le_of_ble_eq_true rfl, Nat.le_of_ble_eq_true rfl⟩ (fun v5 e5 => ?_)
  refine lv_if_ne (tgt := 13) hx hb dX5_spoons_8 (by decide) (fun c8 => ?_) (fun c8 => ?_)
  · skip
    refine lv_aload_n hx hb dX5_spoons_13 rfl (lv_at hl 0 rfl) ?_
    refine mm_geti hx hb hts hown hK hW 54 rfl (by decide) q1739 dX5_spoons_14 ?_
    refine lv_istore_n (lv' := [(2, .int (fd_ S 54)), (0, .ref o), (1, .int v)]) hx hb dX5_spoons_17 rfl hl (by decide) rfl (fun ls hl => ?_)
    refine lv_aload_n hx hb dX5_spoons_18 rfl (lv_at hl 1 rfl) ?_
    refine lv_iload_n hx hb dX5_spoons_19 rfl (lv_at hl 2 rfl) ?_
    refine mm_puti hx hb hts hown hK hW hS 54 rfl (by decide) rfl rfl rfl q1739 dX5_spoons_20 (fun S20 H locs f20 hW hS => ?_)
    refine lv_iload_n hx hb dX5_spoons_23 rfl (lv_at hl 0 rfl) ?_
    refine mm_iret hx hb hr hlocks hW hS ?_ dX5_spoons_24
    have hres : ff_spoons S v = ((fd_ S 54), S20) := by subst e5 f20; simp only [ff_spoons, if_neg c8]
    exact ⟨by rw [hres], by rw [hres], rfl⟩
  · skip
    refine lv_iconst (v := (-1)) hx hb dX5_spoons_11 (by decide) ?_
    refine mm_iret hx hb hr hlocks hW hS ?_ dX5_spoons_12
    have hres : ff_spoons S v = ((-1), S) := by subst e5; simp only [ff_spoons, if_pos c8]
    exact ⟨by rw [hres], by rw [hres], rfl⟩
