set_option maxHeartbeats 4000000 in
theorem xc_real (lQ : Launch) (G : wm_G) (o d0 : Nat) (X : mm_S) (E : mm_E) (D : xg) (Hz : Heap) (hWz : xx_W G o d0 X E D Hz) (s : Int32) (i : Int64) (hin : vp_in s 6) (h6 : -6 ≤ (rd_ X 58 s).toInt) (hr3 : rd_ X 58 s = -1 ∨ xr_st (rd_ X 58 s) = 3 ∨ xr_st (rd_ X 58 s) = 4) (hEs : xv_E X E) : xz_Met lQ G o d0 yX0_real (ws_ yX0_real cX0_real 5 (some .double)) 2 0 0 Hz [Value.ref o, va_rf (xx_so D (rd_ X 58 s) s.toNatClampNeg), .long i] (xp_real X E D s i) RX1 (xt_real X E D s i) := by
  refine xz_start (own := RX0) (by decide +kernel) (by simp [lg_sl, va_rf_c, vc_i, vc_r, vc_l]) rfl (fun pQ eQ sQ mQ belowQ methQ cQ hx hb hml hr hlocks htb hts hown hK hN hHz hS ls hl => ?_)
  have hl : lv_has ls 5 [(0, .ref o), (1, va_rf (xx_so D (rd_ X 58 s) s.toNatClampNeg)), (2, .long i)] := by simpa [lv_args, va_rf_c, vc_i, vc_r, vc_l] using hl
  generalize hlc : ([] : List Loc) = locs at hS ⊢
  have hW := hWz
  generalize hHc : Hz = H at hS hW ⊢
  refine xl_aload_n hx hb dX0_real_0 rfl (lv_at hl 1 rfl) ?_
  refine xr_ifnull (tgt := 10) h6 hx hb dX0_real_1 (by decide) (fun c1 => ?_) (fun c1 => ?_)
  · skip
    refine lv_aload_n hx hb dX0_real_10 rfl (lv_at hl 0 rfl) ?_
    refine xx_getr hx hb hts hown hK hW 11 rfl rfl (by decide) (by decide) q280 dX0_real_11 ?_
    obtain ⟨ceT, wT1, wT2, wT3⟩ := xz_torn hK hW
    refine vx_athrow hx hb dX0_real_14 (xz_on (fun x h => (htb x h).elim) hlocks hW hS ?_ wT1 wT2 wT3 (Nat.le_of_ble_eq_true rfl) (Nat.le_of_ble_eq_true rfl))
    exact ⟨rfl, rfl, rfl, by simp only [xf_out, if_pos c1]⟩
  · skip
    refine lv_lload_n hx hb dX0_real_4 rfl (lv_at hl 2 rfl) ?_
    refine lv_lconst (v := 0) hx hb dX0_real_5 (by decide) ?_
    refine W.lcmp hx hb dX0_real_6 ?_
    refine lv_if_ge (tgt := 15) hx hb dX0_real_7 (by decide) (fun c7 => ?_) (fun c7 => ?_)
    · have t7 : 0 ≤ ((lg_cmp i 0)).toInt := ww_le c7
      refine xl_aload_n hx hb dX0_real_15 rfl (lv_at hl 1 rfl) ?_
      refine xr_inst (k := 3) (kI := 3) hx hb hts hown hK hN hW hin h6 (by decide) rfl (nm := "[F") rfl q819 dX0_real_16 ?_
      refine lv_if_eq (tgt := 51) hx hb dX0_real_19 (by decide) (fun c19 => ?_) (fun c19 => ?_)
      · skip
        have h3n : ¬ xr_st (rd_ X 58 s) = 3 := fun y => by unfold xr_is at c19; rw [if_pos y] at c19; exact absurd c19 (by decide)
        have h4 : xr_st (rd_ X 58 s) = 4 := by
          rcases hr3 with y | y | y
          · exact absurd y c1
          · exact absurd y h3n
          · exact y
        refine xl_aload_n hx hb dX0_real_51 rfl (lv_at hl 1 rfl) ?_
        refine xr_cast (k := 4) (kI := 4) hx hb hts hown hK hW hin h6 (by decide) rfl h4 (nm := "[D") rfl q820 dX0_real_52 ?_
        refine lv_astore (lv' := [(4, .ref (xr_a D s)), (0, .ref o), (1, va_rf (xx_so D (rd_ X 58 s) s.toNatClampNeg)), (2, .long i)]) hx hb dX0_real_55 hl (by decide) rfl (fun ls hl => ?_)
        refine lv_lload_n hx hb dX0_real_57 rfl (lv_at hl 3 rfl) ?_
        refine lv_aload hx hb dX0_real_58 (lv_at hl 0 rfl) ?_
        refine xr_len (k := 4) (kI := 4) hx hb hK hW hin h6 (by decide) rfl h4 dX0_real_60 ?_
        refine lv_i2l (v := ((rd_ X 100 s)).toInt64) hx hb dX0_real_61 rfl ?_
        refine W.lcmp hx hb dX0_real_62 ?_
        refine lv_if_lt (tgt := 71) hx hb dX0_real_63 (by decide) (fun c63 => ?_) (fun c63 => ?_)
        · have t63 : ((lg_cmp i (((rd_ X 100 s)).toInt64))).toInt < 0 := ww_lt c63
          refine lv_aload hx hb dX0_real_71 (lv_at hl 0 rfl) ?_
          refine lv_lload_n hx hb dX0_real_73 rfl (lv_at hl 3 rfl) ?_
          refine nv_l2i hx hb dX0_real_74 (fun v74 e74 => ?_)
          refine xr_dald hx hb hK hW hin h6 h4 (by rw [e74]; exact xf_ix0 c7 c63) (by rw [e74]; exact xf_ix1 c7 c63) dX0_real_75 ?_
          refine xz_dret hx hb hr hlocks hW hS ?_ (Nat.le_of_ble_eq_true rfl) (Nat.le_of_ble_eq_true rfl) dX0_real_76
          refine ⟨rfl, rfl, rfl, ?_, ?_⟩
          · simp only [xf_out, if_neg c1, if_pos c7, if_pos c19, if_pos c63]
          · subst e74; unfold xf_dv; rw [if_neg h3n]
        · have t63 : 0 ≤ ((lg_cmp i (((rd_ X 100 s)).toInt64))).toInt := ww_nlt c63
          refine lv_aload_n hx hb dX0_real_66 rfl (lv_at hl 1 rfl) ?_
          refine xx_getr hx hb hts hown hK hW 11 rfl rfl (by decide) (by decide) q280 dX0_real_67 ?_
          obtain ⟨ceT, wT1, wT2, wT3⟩ := xz_torn hK hW
          refine vx_athrow hx hb dX0_real_70 (xz_on (fun x h => (htb x h).elim) hlocks hW hS ?_ wT1 wT2 wT3 (Nat.le_of_ble_eq_true rfl) (Nat.le_of_ble_eq_true rfl))
          exact ⟨rfl, rfl, rfl, by simp only [xf_out, if_neg c1, if_pos c7, if_pos c19, if_neg c63]⟩
      · skip
        have h3a : xr_st (rd_ X 58 s) = 3 := by
          rcases Decidable.em (xr_st (rd_ X 58 s) = 3) with y | y
          · exact y
          · exact absurd (by unfold xr_is; rw [if_neg y]) c19
        obtain ⟨s0, s1⟩ : 0 ≤ s.toInt ∧ s.toInt < (6 : Nat) := vp_in_iff.mp hin
        refine xl_aload_n hx hb dX0_real_22 rfl (lv_at hl 1 rfl) ?_
        refine xr_cast (k := 3) (kI := 3) hx hb hts hown hK hW hin h6 (by decide) rfl h3a (nm := "[F") rfl q819 dX0_real_23 ?_
        refine lv_astore (lv' := [(4, .ref (xr_a D s)), (0, .ref o), (1, va_rf (xx_so D (rd_ X 58 s) s.toNatClampNeg)), (2, .long i)]) hx hb dX0_real_26 hl (by decide) rfl (fun ls hl => ?_)
        refine lv_lload_n hx hb dX0_real_28 rfl (lv_at hl 3 rfl) ?_
        refine lv_aload hx hb dX0_real_29 (lv_at hl 0 rfl) ?_
        refine xr_len (k := 3) (kI := 3) hx hb hK hW hin h6 (by decide) rfl h3a dX0_real_31 ?_
        refine lv_i2l (v := ((rd_ X 100 s)).toInt64) hx hb dX0_real_32 rfl ?_
        refine W.lcmp hx hb dX0_real_33 ?_
        refine lv_if_lt (tgt := 42) hx hb dX0_real_34 (by decide) (fun c34 => ?_) (fun c34 => ?_)
        · have t34 : ((lg_cmp i (((rd_ X 100 s)).toInt64))).toInt < 0 := ww_lt c34
          refine lv_aload hx hb dX0_real_42 (lv_at hl 0 rfl) ?_
          refine lv_lload_n hx hb dX0_real_44 rfl (lv_at hl 3 rfl) ?_
          refine nv_l2i hx hb dX0_real_45 (fun v45 e45 => ?_)
          refine xr_fald hx hb hK hW hin h6 h3a (by rw [e45]; exact xf_ix0 c7 c34) (by rw [e45]; exact xf_ix1 c7 c34) dX0_real_46 ?_
          refine pp_callv (As := [.float (if rd_ X 101 (60 * s + v45) = 0 then FP.l2f (re_ E 0 (60 * s + v45)) else 0x7fc00000)]) (rest := []) (n := 1) ⟨hx, hb, hml, hown, hts⟩ (xc_widened lQ (if rd_ X 101 (60 * s + v45) = 0 then FP.l2f (re_ E 0 (60 * s + v45)) else 0x7fc00000) (xr_fl_n (hEs s v45 s0 (by omega) (by rw [e45]; exact xf_ix0 c7 c34) (by have := (xx_siz hW s s0 (by omega)).2; have := xf_ix1 c7 c34; rw [e45]; omega) (by rw [h3a]; decide)))) (lw_S q825 q826 q84 q827) (by decide +kernel) rfl ⟨Nat.le_of_ble_eq_true rfl, Nat.le_of_ble_eq_true rfl⟩ hl.1 rfl (Nat.le_of_ble_eq_true rfl) dX0_real_47 ⟨Nat.le_of_ble_eq_true rfl, Nat.le_of_ble_eq_true rfl⟩ ?_
          refine xz_dret hx hb hr hlocks hW hS ?_ (Nat.le_of_ble_eq_true rfl) (Nat.le_of_ble_eq_true rfl) dX0_real_50
          refine ⟨rfl, rfl, rfl, ?_, ?_⟩
          · simp only [xf_out, if_neg c1, if_pos c7, if_neg c19, if_pos c34]
          · subst e45; unfold xf_dv; rw [if_pos h3a]
        · have t34 : 0 ≤ ((lg_cmp i (((rd_ X 100 s)).toInt64))).toInt := ww_nlt c34
          refine lv_aload_n hx hb dX0_real_37 rfl (lv_at hl 1 rfl) ?_
          refine xx_getr hx hb hts hown hK hW 11 rfl rfl (by decide) (by decide) q280 dX0_real_38 ?_
          obtain ⟨ceT, wT1, wT2, wT3⟩ := xz_torn hK hW
          refine vx_athrow hx hb dX0_real_41 (xz_on (fun x h => (htb x h).elim) hlocks hW hS ?_ wT1 wT2 wT3 (Nat.le_of_ble_eq_true rfl) (Nat.le_of_ble_eq_true rfl))
          exact ⟨rfl, rfl, rfl, by simp only [xf_out, if_neg c1, if_pos c7, if_neg c19, if_neg c34]⟩
    · have t7 : ((lg_cmp i 0)).toInt < 0 := ww_nle c7
      refine lv_aload_n hx hb dX0_real_10 rfl (lv_at hl 0 rfl) ?_
      refine xx_getr hx hb hts hown hK hW 11 rfl rfl (by decide) (by decide) q280 dX0_real_11 ?_
      obtain ⟨ceT, wT1, wT2, wT3⟩ := xz_torn hK hW
      refine vx_athrow hx hb dX0_real_14 (xz_on (fun x h => (htb x h).elim) hlocks hW hS ?_ wT1 wT2 wT3 (Nat.le_of_ble_eq_true rfl) (Nat.le_of_ble_eq_true rfl))
      exact ⟨rfl, rfl, rfl, by simp only [xf_out, if_neg c1, if_neg c7]⟩

def hX0_log : List (Nat × Nat × Nat × Nat) := [((85 : Nat), (190 : Nat), (227 : Nat), (47 : Nat)), ((85 : Nat), (190 : Nat), (270 : Nat), (0 : Nat)), ((227 : Nat), (233 : Nat), (270 : Nat), (0 : Nat)), ((270 : Nat), (272 : Nat), (270 : Nat), (0 : Nat))]
set_option maxHeartbeats 4000000 in
theorem xc_log (lQ : Launch) (G : wm_G) (o d0 : Nat) (X : mm_S) (E : mm_E) (D : xg) (Hz : Heap) (hWz : xx_W G o d0 X E D Hz) (b : Int32) (s : Int32) (i : Int32) (y : Int32) (n : Int32) (hKs : xv_K X) (hEs : xv_E X E) : xz_Met lQ G o d0 yX0_log (wsW_ yX0_log cX0_log 15 (some .int) hX0_log) 3 0 0 Hz [Value.ref o, .int b, .int s, .int i, .int y, .int n] (fun v X1 E1 D1 _ => E1 = E ∧ D1 = D ∧ v = some (.int (xf_log X E b s i y n).1) ∧ X1 = (xf_log X E b s i y n).2) RX1 (fun _ _ _ _ => False) := by
  refine xz_startH (own := RX0) (by decide +kernel) (Nat.le_of_ble_eq_true rfl) rfl (fun pQ eQ sQ mQ belowQ methQ cQ hx hb hml hr hlocks htb hts hown hK hN hHz hS ls hl => ?_)
  have hl : lv_has ls 15 [(0, .ref o), (1, .int b), (2, .int s), (3, .int i), (4, .int y), (5, .int n)] := hl
  generalize hlc : ([] : List Loc) = locs at hS ⊢
  have hW := hWz
  generalize hHc : Hz = H at hS hW ⊢
  refine lv_aload_n hx hb dX0_log_0 rfl (lv_at hl 0 rfl) ?_
  refine lv_iload_n hx hb dX0_log_1 rfl (lv_at hl 1 rfl) ?_
  refine xw_b (xw_rV (As := [.int b]) (rest := []) (n := 1) ⟨hx, hb, hml, hown, hts⟩ hK hN hW (xc_holeOf lQ G o d0 X E D b) (lw_V q754 q756 qs3 q84 q757) (xr_main hK hW) (by decide +kernel) rfl ⟨Nat.le_of_ble_eq_true rfl, Nat.le_of_ble_eq_true rfl⟩ hl.1 rfl (Nat.le_of_ble_eq_true rfl) dX0_log_2 ⟨Nat.le_of_ble_eq_true rfl, Nat.le_of_ble_eq_true rfl⟩) hS (fun v2 H locs e2 hW hS => ?_)
  refine xl_astore (lv' := [(6, va_rf (xx_o D v2)), (0, .ref o), (1, .int b), (2, .int s), (3, .int i), (4, .int y), (5, .int n)]) hx hb dX0_log_5 hl (by decide) rfl (fun ls hl => ?_)
  refine xl_aload hx hb dX0_log_7 (lv_at hl 0 rfl) ?_
  refine xl_ifnull (tgt := 45) hx hb dX0_log_9 (by decide) (fun c9 => ?_) (fun c9 => ?_)
  · have t9 : (v2).toInt < 0 := ww_lt c9
    refine lv_iconst (v := (-1)) hx hb dX0_log_45 (by decide) ?_
    refine xz_iret hx hb hr hlocks hW hS ?_ (Nat.le_of_ble_eq_true rfl) (Nat.le_of_ble_eq_true rfl) dX0_log_46
    subst e2; refine ⟨rfl, rfl, ?_, ?_⟩ <;> simp only [xf_log, if_pos c9]
  · have t9 : 0 ≤ (v2).toInt := ww_nlt c9
    have hi9 : xh_in X (xf_holeOf X b) := xf_holeOf_q (xv_W hW) (by rw [← e2]; exact c9)
    refine lv_iload_n hx hb dX0_log_12 rfl (lv_at hl 3 rfl) ?_
    refine pp_calli (As := [.int s]) (rest := []) (n := 1) ⟨hx, hb, hml, hown, hts⟩ (xc_isShelf lQ s) (lw_S q816 q817 q84 q818) (by decide +kernel) rfl ⟨Nat.le_of_ble_eq_true rfl, Nat.le_of_ble_eq_true rfl⟩ hl.1 rfl (Nat.le_of_ble_eq_true rfl) dX0_log_13 ⟨Nat.le_of_ble_eq_true rfl, Nat.le_of_ble_eq_true rfl⟩ (fun v13 e13 => ?_)
    refine lv_if_eq (tgt := 45) hx hb dX0_log_16 (by decide) (fun c16 => ?_) (fun c16 => ?_)
    · skip
      refine lv_iconst (v := (-1)) hx hb dX0_log_45 (by decide) ?_
      refine xz_iret hx hb hr hlocks hW hS ?_ (Nat.le_of_ble_eq_true rfl) (Nat.le_of_ble_eq_true rfl) dX0_log_46
      subst e2 e13; refine ⟨rfl, rfl, ?_, ?_⟩ <;> simp only [xf_log, if_neg c9, if_pos c16]
    · skip
      have hs := ff_isShelf_t (s := s) (by rw [← e13]; exact c16)
      have hin : vp_in s 6 := ww_in hs.1 (by omega)
      have h6 := hKs s hs.1 (by omega)
      refine lv_iload hx hb dX0_log_19 (lv_at hl 5 rfl) ?_
      refine lv_i2l (v := (y).toInt64) hx hb dX0_log_21 rfl ?_
      refine lv_lconst (v := 1) hx hb dX0_log_22 (by decide) ?_
      refine lv_ldc2 (v := 60) hx hb hown (hts _ q458) dX0_log_23 ?_
      refine xx_within (rest := []) y 1 60 ⟨hx, hb, hml, hown, hts⟩ rfl (by decide) (by decide) q459 hl.1 rfl rfl (Nat.le_of_ble_eq_true rfl) rfl rfl ⟨Nat.le_of_ble_eq_true rfl, Nat.le_of_ble_eq_true rfl⟩ dX0_log_26 (fun v26 e26 => ?_)
      refine lv_if_eq (tgt := 45) hx hb dX0_log_29 (by decide) (fun c29 => ?_) (fun c29 => ?_)
      · skip
        refine lv_iconst (v := (-1)) hx hb dX0_log_45 (by decide) ?_
        refine xz_iret hx hb hr hlocks hW hS ?_ (Nat.le_of_ble_eq_true rfl) (Nat.le_of_ble_eq_true rfl) dX0_log_46
        subst e2 e13 e26; refine ⟨rfl, rfl, ?_, ?_⟩ <;> simp only [xf_log, if_neg c9, if_neg c16, if_pos c29]
      · skip
        obtain ⟨y0, y1⟩ := ff_in_t (v := y) (a := 1) (b := 60) (by rw [← e26]; exact c29)
        have y0 : 1 ≤ y.toInt := y0
        have y1 : y.toInt ≤ 60 := y1
        refine lv_iload hx hb dX0_log_32 (lv_at hl 6 rfl) ?_
        refine lv_i2l (v := (n).toInt64) hx hb dX0_log_34 rfl ?_
        refine lv_lconst (v := 1) hx hb dX0_log_35 (by decide) ?_
        refine lv_ldc2 (v := 60) hx hb hown (hts _ q458) dX0_log_36 ?_
        refine xx_within (rest := []) n 1 60 ⟨hx, hb, hml, hown, hts⟩ rfl (by decide) (by decide) q459 hl.1 rfl rfl (Nat.le_of_ble_eq_true rfl) rfl rfl ⟨Nat.le_of_ble_eq_true rfl, Nat.le_of_ble_eq_true rfl⟩ dX0_log_39 (fun v39 e39 => ?_)
        refine lv_if_ne (tgt := 47) hx hb dX0_log_42 (by decide) (fun c42 => ?_) (fun c42 => ?_)
        · skip
          obtain ⟨n0, n1⟩ := ff_in_t (v := n) (a := 1) (b := 60) (by rw [← e39]; exact c42)
          have n0 : 1 ≤ n.toInt := n0
          have n1 : n.toInt ≤ 60 := n1
          refine lv_aload_n hx hb dX0_log_47 rfl (lv_at hl 1 rfl) ?_
          refine xx_getr hx hb hts hown hK hW 58 rfl rfl (by decide) (by decide) q331 dX0_log_48 ?_
          refine lv_iload_n hx hb dX0_log_51 rfl (lv_at hl 3 rfl) ?_
          refine xx_kald hx hb hK hW hin dX0_log_52 ?_
          refine xl_astore (lv' := [(7, va_rf (xx_so D (rd_ X 58 s) s.toNatClampNeg)), (6, va_rf (xx_o D v2)), (0, .ref o), (1, .int b), (2, .int s), (3, .int i), (4, .int y), (5, .int n)]) hx hb dX0_log_53 hl (by decide) (by simp [va_rf_c]) (fun ls hl => ?_)
          refine xl_aload hx hb dX0_log_55 (lv_at hl 0 rfl) ?_
          refine xr_ifnull (tgt := 79) h6 hx hb dX0_log_57 (by decide) (fun c57 => ?_) (fun c57 => ?_)
          · skip
            have hr3 : rd_ X 58 s = -1 ∨ xr_st (rd_ X 58 s) = 3 ∨ xr_st (rd_ X 58 s) = 4 := Or.inl c57
            have hlog : xf_log X E b s i y n = xf_logE v2 y (xf_logR X E v2 s i y n) := by subst e2 e13 e26 e39; simp only [xf_log, if_neg c9, if_neg c16, if_neg c29, if_neg c42, if_pos c57]
            refine lv_iconst (v := 0) hx hb dX0_log_79 (by decide) ?_
            refine lv_istore (lv' := [(8, .int 0), (7, va_rf (xx_so D (rd_ X 58 s) s.toNatClampNeg)), (6, va_rf (xx_o D v2)), (0, .ref o), (1, .int b), (2, .int s), (3, .int i), (4, .int y), (5, .int n)]) hx hb dX0_log_80 hl (by decide) (by simp [va_rf_c]) (fun ls hl => ?_)
            refine lv_iconst (v := 0) hx hb dX0_log_82 (by decide) ?_
            refine lv_istore (lv' := [(9, .int 0), (8, .int 0), (7, va_rf (xx_so D (rd_ X 58 s) s.toNatClampNeg)), (6, va_rf (xx_o D v2)), (0, .ref o), (1, .int b), (2, .int s), (3, .int i), (4, .int y), (5, .int n)]) hx hb dX0_log_83 hl (by decide) rfl (fun ls hl => ?_)
            have L85 : ∀ (fu85 : Nat) (k : Int32) (X85 : mm_S) (H : Heap) (locs : List Loc), (n.toInt - k.toInt < fu85) → (0 ≤ k.toInt) → (k.toInt ≤ n.toInt) → (fr_ [70, 71] X X85) → (xh_in X85 v2) → (xf_logG E v2 s i y n fu85 k X85 = xf_logR X E v2 s i y n) → xx_W G o d0 X85 E D H → va_S (xx_F o d0) sQ.heap H locs → ∀ ls : Array Slot, lv_has ls 15 [(9, .int 0), (8, .int k), (7, va_rf (xx_so D (rd_ X 58 s) s.toNatClampNeg)), (6, va_rf (xx_o D v2)), (0, .ref o), (1, .int b), (2, .int s), (3, .int i), (4, .int y), (5, .int n)] → W pQ lQ eQ (wm_rc 3 0 0) sQ mQ ([Value.ref o, .int b, .int s, .int i, .int y, .int n] : List Value).toArray belowQ methQ cQ H locs 0 0 (xz_Q G o d0 (fun v X1 E1 D1 _ => E1 = E ∧ D1 = D ∧ v = some (.int (xf_log X E b s i y n).1) ∧ X1 = (xf_log X E b s i y n).2) RX1 (fun _ _ _ _ => False) belowQ ([Value.ref o, .int b, .int s, .int i, .int y, .int n] : List Value).toArray sQ 0 0) (F0 mQ 85 ls []) := by
              intro fu85
              induction fu85 with
              | zero =>
                intro k X85 H locs hm85 i085 i185 iF85 iH85 hgo85 hW hS ls hl
                exact absurd hm85 (by omega)
              | succ fu85 ih85 =>
                intro k X85 H locs hm85 i085 i185 iF85 iH85 hgo85 hW hS ls hl
                have h58 : rd_ X85 58 s = rd_ X 58 s := by unfold rd_; rw [iF85 58 (by decide)]
                refine lv_iload hx hb dX0_log_85 (lv_at hl 1 rfl) ?_
                refine lv_iload hx hb dX0_log_87 (lv_at hl 9 rfl) ?_
                refine lv_icmp_ge (tgt := 187) hx hb dX0_log_89 (by decide) (fun c89 => ?_) (fun c89 => ?_)
                · have t89 : (n).toInt ≤ (k).toInt := ww_le c89
                  refine lv_iconst (v := 1) hx hb dX0_log_187 (by decide) ?_
                  refine lv_istore (lv' := [(9, .int 1), (8, .int k), (7, va_rf (xx_so D (rd_ X 58 s) s.toNatClampNeg)), (6, va_rf (xx_o D v2)), (0, .ref o), (1, .int b), (2, .int s), (3, .int i), (4, .int y), (5, .int n)]) hx hb dX0_log_188 hl (by decide) rfl (fun ls hl => ?_)
                  refine lv_iload hx hb dX0_log_190 (lv_at hl 8 rfl) ?_
                  refine lv_iload hx hb dX0_log_192 (lv_at hl 1 rfl) ?_
                  refine nv_iadd hx hb dX0_log_194 (fun v194 e194 => ?_)
                  refine lv_istore (lv' := [(10, .int v194), (9, .int 1), (8, .int k), (7, va_rf (xx_so D (rd_ X 58 s) s.toNatClampNeg)), (6, va_rf (xx_o D v2)), (0, .ref o), (1, .int b), (2, .int s), (3, .int i), (4, .int y), (5, .int n)]) hx hb dX0_log_195 hl (by decide) rfl (fun ls hl => ?_)
                  refine lv_iload hx hb dX0_log_197 (lv_at hl 0 rfl) ?_
                  refine lv_bipush (v := 60) hx hb dX0_log_199 (by decide) ?_
                  refine lv_icmp_gt (tgt := 224) hx hb dX0_log_201 (by decide) (fun c201 => ?_) (fun c201 => ?_)
                  · have t201 : 60 < (v194).toInt := ww_lt c201
                    refine lv_goto (tgt := 309) hx hb dX0_log_224 (by decide) ?_
                    refine lv_iload hx hb dX0_log_309 (lv_at hl 2 rfl) ?_
                    refine xz_iret hx hb hr hlocks hW hS ?_ (Nat.le_of_ble_eq_true rfl) (Nat.le_of_ble_eq_true rfl) dX0_log_311
                    have hR : xf_logR X E v2 s i y n = (k, 0, X85) := by
                      rw [← hgo85]
                      subst e194; simp only [xf_logG, if_pos c89, if_pos c201]
                    rw [hlog, hR]
                    exact ⟨rfl, rfl, rfl, rfl⟩
                  · have t201 : (v194).toInt ≤ 60 := ww_nlt c201
                    refine lv_iload hx hb dX0_log_204 (lv_at hl 1 rfl) ?_
                    refine lv_if_ne (tgt := 224) hx hb dX0_log_206 (by decide) (fun c206 => ?_) (fun c206 => ?_)
                    · skip
                      refine lv_goto (tgt := 309) hx hb dX0_log_224 (by decide) ?_
                      refine lv_iload hx hb dX0_log_309 (lv_at hl 2 rfl) ?_
                      refine xz_iret hx hb hr hlocks hW hS ?_ (Nat.le_of_ble_eq_true rfl) (Nat.le_of_ble_eq_true rfl) dX0_log_311
                      have hR : xf_logR X E v2 s i y n = (k, 0, X85) := by
                        rw [← hgo85]
                        subst e194; simp only [xf_logG, if_pos c89, if_neg c201, if_neg c206]
                      rw [hlog, hR]
                      exact ⟨rfl, rfl, rfl, rfl⟩
                    · skip
                      exact absurd c206 (by decide)
                · have t89 : (k).toInt < (n).toInt := ww_nle c89
                  refine lv_iload hx hb dX0_log_92 (lv_at hl 8 rfl) ?_
                  refine lv_iload hx hb dX0_log_94 (lv_at hl 1 rfl) ?_
                  refine nv_iadd hx hb dX0_log_96 (fun v96 e96 => ?_)
                  have t96 : v96.toInt = y.toInt + k.toInt := by rw [e96]; exact ww_add _ _ (by omega) (by omega)
                  refine lv_bipush (v := 60) hx hb dX0_log_97 (by decide) ?_
                  refine lv_icmp_gt (tgt := 187) hx hb dX0_log_99 (by decide) (fun c99 => ?_) (fun c99 => ?_)
                  · have t99 : 60 < (v96).toInt := ww_lt c99
                    refine lv_iconst (v := 1) hx hb dX0_log_187 (by decide) ?_
                    refine lv_istore (lv' := [(9, .int 1), (8, .int k), (7, va_rf (xx_so D (rd_ X 58 s) s.toNatClampNeg)), (6, va_rf (xx_o D v2)), (0, .ref o), (1, .int b), (2, .int s), (3, .int i), (4, .int y), (5, .int n)]) hx hb dX0_log_188 hl (by decide) rfl (fun ls hl => ?_)
                    refine lv_iload hx hb dX0_log_190 (lv_at hl 8 rfl) ?_
                    refine lv_iload hx hb dX0_log_192 (lv_at hl 1 rfl) ?_
                    refine nv_iadd hx hb dX0_log_194 (fun v194 e194 => ?_)
                    refine lv_istore (lv' := [(10, .int v194), (9, .int 1), (8, .int k), (7, va_rf (xx_so D (rd_ X 58 s) s.toNatClampNeg)), (6, va_rf (xx_o D v2)), (0, .ref o), (1, .int b), (2, .int s), (3, .int i), (4, .int y), (5, .int n)]) hx hb dX0_log_195 hl (by decide) rfl (fun ls hl => ?_)
                    refine lv_iload hx hb dX0_log_197 (lv_at hl 0 rfl) ?_
                    refine lv_bipush (v := 60) hx hb dX0_log_199 (by decide) ?_
                    refine lv_icmp_gt (tgt := 224) hx hb dX0_log_201 (by decide) (fun c201 => ?_) (fun c201 => ?_)
                    · have t201 : 60 < (v194).toInt := ww_lt c201
                      refine lv_goto (tgt := 309) hx hb dX0_log_224 (by decide) ?_
                      refine lv_iload hx hb dX0_log_309 (lv_at hl 2 rfl) ?_
                      refine xz_iret hx hb hr hlocks hW hS ?_ (Nat.le_of_ble_eq_true rfl) (Nat.le_of_ble_eq_true rfl) dX0_log_311
                      have hR : xf_logR X E v2 s i y n = (k, 0, X85) := by
                        rw [← hgo85]
                        subst e96 e194; simp only [xf_logG, if_neg c89, if_pos c99, if_pos c201]
                      rw [hlog, hR]
                      exact ⟨rfl, rfl, rfl, rfl⟩
                    · have t201 : (v194).toInt ≤ 60 := ww_nlt c201
                      refine lv_iload hx hb dX0_log_204 (lv_at hl 1 rfl) ?_
                      refine lv_if_ne (tgt := 224) hx hb dX0_log_206 (by decide) (fun c206 => ?_) (fun c206 => ?_)
                      · skip
                        refine lv_goto (tgt := 309) hx hb dX0_log_224 (by decide) ?_
                        refine lv_iload hx hb dX0_log_309 (lv_at hl 2 rfl) ?_
                        refine xz_iret hx hb hr hlocks hW hS ?_ (Nat.le_of_ble_eq_true rfl) (Nat.le_of_ble_eq_true rfl) dX0_log_311
                        have hR : xf_logR X E v2 s i y n = (k, 0, X85) := by
                          rw [← hgo85]
                          subst e96 e194; simp only [xf_logG, if_neg c89, if_pos c99, if_neg c201, if_neg c206]
                        rw [hlog, hR]
                        exact ⟨rfl, rfl, rfl, rfl⟩
                      · skip
                        exact absurd c206 (by decide)
                  · have t99 : (v96).toInt ≤ 60 := ww_nlt c99
                    refine lv_iload hx hb dX0_log_102 (lv_at hl 8 rfl) ?_
                    refine lv_iload hx hb dX0_log_104 (lv_at hl 1 rfl) ?_
                    refine nv_iadd hx hb dX0_log_106 (fun v106 e106 => ?_)
                    have t106 : v106.toInt = y.toInt + k.toInt := by rw [e106]; exact ww_add _ _ (by omega) (by omega)
                    refine lv_istore (lv' := [(10, .int v106), (9, .int 0), (8, .int k), (7, va_rf (xx_so D (rd_ X 58 s) s.toNatClampNeg)), (6, va_rf (xx_o D v2)), (0, .ref o), (1, .int b), (2, .int s), (3, .int i), (4, .int y), (5, .int n)]) hx hb dX0_log_107 hl (by decide) rfl (fun ls hl => ?_)
                    refine lv_aload_n hx hb dX0_log_109 rfl (lv_at hl 5 rfl) ?_
                    refine xl_aload hx hb dX0_log_110 (lv_at hl 3 rfl) ?_
                    refine lv_iload_n hx hb dX0_log_112 rfl (lv_at hl 8 rfl) ?_
                    refine lv_i2l (v := (i).toInt64) hx hb dX0_log_113 rfl ?_
                    refine lv_iload hx hb dX0_log_114 (lv_at hl 2 rfl) ?_
                    refine lv_i2l (v := (k).toInt64) hx hb dX0_log_116 rfl ?_
                    refine nv_ladd hx hb dX0_log_117 (fun v117 e117 => ?_)
                    have hMr := xc_real lQ G o d0 X85 E D _ hW s v117 hin (by rw [h58]; exact h6) (by rw [h58]; exact hr3) (xv_E_fr iF85 hEs)
                    rw [h58] at hMr
                    refine xz_call (xz_rV (d := 2) (mc := 0) (ms := 0) (As := [va_rf (xx_so D (rd_ X 58 s) s.toNatClampNeg), .long v117]) (rest := []) (n := 2) ⟨hx, hb, hml, hown, hts⟩ hK hN hMr (lw_V q821 q823 qs5 q84 q824) (xr_main hK hW) (by decide +kernel) rfl ⟨Nat.le_of_ble_eq_true rfl, Nat.le_of_ble_eq_true rfl⟩ hl.1 rfl (Nat.le_of_ble_eq_true rfl) dX0_log_118 ⟨Nat.le_of_ble_eq_true rfl, Nat.le_of_ble_eq_true rfl⟩) hS (fun qT ceT XT ET DT H locs hPT hW hS wT1 wT2 wT3 => ?_) (fun vT XT ET DT H locs hPT hW hS => ?_)
                    · skip
                      obtain ⟨eXT, eET, eDT, hout⟩ := hPT
                      rw [eXT, eET, eDT] at hW
                      refine vx_catch (name := RX1) hown [] ⟨85, 190, 227, 47⟩ _ (by rw [htb]; rfl) (fun z hz => absurd hz List.not_mem_nil) (by decide) (by decide) (hts _ q126) (va_Nw.use rfl (hN.ca q128)) wT1 wT2 wT3 ?_
                      have hout9 : xf_logR X E v2 s i y n = (k, 1, X85) := by
                              rw [← hgo85]
                              rw [xf_logG]
                              rw [if_neg c89, if_neg (show ¬ 60 < y + k from by rw [← e96]; exact c99), if_neg (show ¬ xf_out X85 s (i.toInt64 + k.toInt64) = 0 from by rw [← e117, hout]; decide)]
                      refine lv_astore (lv' := [(10, .ref qT), (9, .int 0), (8, .int k), (7, va_rf (xx_so D (rd_ X 58 s) s.toNatClampNeg)), (6, va_rf (xx_o D v2)), (0, .ref o), (1, .int b), (2, .int s), (3, .int i), (4, .int y), (5, .int n)]) hx hb dX0_log_227 hl (by decide) rfl (fun ls hl => ?_)
                      refine lv_iload hx hb dX0_log_229 (lv_at hl 2 rfl) ?_
                      refine lv_istore (lv' := [(11, .int k), (10, .ref qT), (9, .int 0), (8, .int k), (7, va_rf (xx_so D (rd_ X 58 s) s.toNatClampNeg)), (6, va_rf (xx_o D v2)), (0, .ref o), (1, .int b), (2, .int s), (3, .int i), (4, .int y), (5, .int n)]) hx hb dX0_log_231 hl (by decide) rfl (fun ls hl => ?_)
                      refine lv_iload hx hb dX0_log_233 (lv_at hl 10 rfl) ?_
                      refine lv_iload hx hb dX0_log_235 (lv_at hl 3 rfl) ?_
                      refine nv_iadd hx hb dX0_log_237 (fun v237 e237 => ?_)
                      have t237 : v237.toInt = y.toInt + k.toInt := by rw [e237]; exact ww_add _ _ (by omega) (by omega)
                      refine lv_istore (lv' := [(12, .int v237), (11, .int k), (10, .ref qT), (9, .int 0), (8, .int k), (7, va_rf (xx_so D (rd_ X 58 s) s.toNatClampNeg)), (6, va_rf (xx_o D v2)), (0, .ref o), (1, .int b), (2, .int s), (3, .int i), (4, .int y), (5, .int n)]) hx hb dX0_log_238 hl (by decide) rfl (fun ls hl => ?_)
                      have L240 : ∀ (fu240 : Nat) (z : Int32) (X240 : mm_S) (H : Heap) (locs : List Loc), (60 - z.toInt + 1 < fu240) → (1 ≤ z.toInt) → (z.toInt ≤ 61) → (xh_in X240 v2) → (xf_logC v2 fu240 z X240 = xf_logC v2 61 v237 X85) → xx_W G o d0 X240 E D H → va_S (xx_F o d0) sQ.heap H locs → ∀ ls : Array Slot, lv_has ls 15 [(12, .int z), (11, .int k), (10, .ref qT), (9, .int 0), (8, .int k), (7, va_rf (xx_so D (rd_ X 58 s) s.toNatClampNeg)), (6, va_rf (xx_o D v2)), (0, .ref o), (1, .int b), (2, .int s), (3, .int i), (4, .int y), (5, .int n)] → W pQ lQ eQ (wm_rc 3 0 0) sQ mQ ([Value.ref o, .int b, .int s, .int i, .int y, .int n] : List Value).toArray belowQ methQ cQ H locs 0 0 (xz_Q G o d0 (fun v X1 E1 D1 _ => E1 = E ∧ D1 = D ∧ v = some (.int (xf_log X E b s i y n).1) ∧ X1 = (xf_log X E b s i y n).2) RX1 (fun _ _ _ _ => False) belowQ ([Value.ref o, .int b, .int s, .int i, .int y, .int n] : List Value).toArray sQ 0 0) (F0 mQ 240 ls []) := by
                        intro fu240
                        induction fu240 with
                        | zero =>
                          intro z X240 H locs hm240 z0240 z1240 jH240 hgo240 hW hS ls hl
                          exact absurd hm240 (by omega)
                        | succ fu240 ih240 =>
                          intro z X240 H locs hm240 z0240 z1240 jH240 hgo240 hW hS ls hl
                          refine lv_iload hx hb dX0_log_240 (lv_at hl 0 rfl) ?_
                          refine lv_bipush (v := 60) hx hb dX0_log_242 (by decide) ?_
                          refine lv_icmp_gt (tgt := 267) hx hb dX0_log_244 (by decide) (fun c244 => ?_) (fun c244 => ?_)
                          · have t244 : 60 < (z).toInt := ww_lt c244
                            refine lv_iload hx hb dX0_log_267 (lv_at hl 1 rfl) ?_
                            refine xz_iret hx hb hr hlocks hW hS ?_ (Nat.le_of_ble_eq_true rfl) (Nat.le_of_ble_eq_true rfl) dX0_log_269
                            rw [hlog, hout9]
                            have hC : xf_logC v2 61 (y + k) X85 = X240 := by rw [← e237, ← hgo240, xf_logC, if_pos c244]
                            exact ⟨rfl, rfl, rfl, hC.symm⟩
                          · have t244 : (z).toInt ≤ 60 := ww_nlt c244
                            refine lv_iload hx hb dX0_log_247 (lv_at hl 3 rfl) ?_
                            refine lv_if_ne (tgt := 267) hx hb dX0_log_249 (by decide) (fun c249 => ?_) (fun c249 => ?_)
                            · skip
                              exact absurd rfl c249
                            · skip
                              refine xl_aload hx hb dX0_log_252 (lv_at hl 6 rfl) ?_
                              refine xl_top jH240.1.1 ?_
                              refine xb_getN hx hb hts hown hK hW jH240.1 (k := 13) (xf_hole jH240.2 (k := 13) (by decide)) (hN.nf q542) rfl (xb_va (j := 4) (xf_hole jH240.2 (k := 13) (by decide)) (by decide)) dX0_log_254 ?_
                              refine lv_iload hx hb dX0_log_257 (lv_at hl 0 rfl) ?_
                              refine lv_iconst (v := 0) hx hb dX0_log_259 (by decide) ?_
                              refine xh_zast hx hb hK hW hS jH240 rfl (ww_in (by omega) (by omega)) dX0_log_260 (fun X260 H locs f260 hW hS => ?_)
                              have jH240 : xh_in X260 v2 := by rw [f260]; exact xh_wa jH240 (by decide) (by decide)
                              obtain ⟨v261, e261⟩ : ∃ yQ : Int32, yQ = z + 1 := ⟨_, rfl⟩
                              refine lv_iinc (v := v261) (lv' := [(12, .int v261), (11, .int k), (10, .ref qT), (9, .int 0), (8, .int k), (7, va_rf (xx_so D (rd_ X 58 s) s.toNatClampNeg)), (6, va_rf (xx_o D v2)), (0, .ref o), (1, .int b), (2, .int s), (3, .int i), (4, .int y), (5, .int n)]) hx hb dX0_log_261 hl (k := 0) rfl (by rw [e261]; rfl) (by decide) rfl (fun ls hl => ?_)
                              refine lv_goto (tgt := 240) hx hb dX0_log_264 (by decide) ?_
                              have tb : v261.toInt = z.toInt + 1 := by rw [e261]; exact ww_inc' (by omega)
                              exact ih240 v261 X260 H locs (by omega) (by omega) (by omega) jH240 (by rw [xf_logC] at hgo240; rw [f260, e261]; simp only [if_neg c244] at hgo240; exact hgo240) hW hS ls (lv_sub hl [0, 1, 2, 3, 4, 5, 6, 7, 8, 9, 10, 11, 12] rfl)
                      exact L240 61 v237 X85 H locs (by show _ < (61 : Int); omega) (by omega) (by omega) iH85 (rfl) hW hS ls (lv_sub hl [0, 1, 2, 3, 4, 5, 6, 7, 8, 9, 10, 11, 12] rfl)
                    obtain ⟨eXT, eET, eDT, hout, evT⟩ := hPT
                    rw [eXT, eET, eDT] at hW
                    rw [evT]
                    refine lv_dstore (lv' := [(11, .double (xf_dv X85 E s v117.toInt32)), (10, .int v106), (9, .int 0), (8, .int k), (7, va_rf (xx_so D (rd_ X 58 s) s.toNatClampNeg)), (6, va_rf (xx_o D v2)), (0, .ref o), (1, .int b), (2, .int s), (3, .int i), (4, .int y), (5, .int n)]) hx hb dX0_log_121 hl (by decide) rfl (fun ls hl => ?_)
                    refine xl_aload hx hb dX0_log_123 (lv_at hl 5 rfl) ?_
                    refine xl_top iH85.1.1 ?_
                    refine xb_getN hx hb hts hown hK hW iH85.1 (k := 12) (xf_hole iH85.2 (k := 12) (by decide)) (hN.nf q540) rfl (xb_va (j := 3) (xf_hole iH85.2 (k := 12) (by decide)) (by decide)) dX0_log_125 ?_
                    refine lv_iload hx hb dX0_log_128 (lv_at hl 1 rfl) ?_
                    refine wm_join (P := fun w171 : Int32 => w171 = xf_logv X85 v2 v106 (xf_dv X85 E s v117.toInt32)) (j := 171) (rest := [.int v106, .ref (xb_ D v2 + 3)]) (ls := ls) (fun w171 ew171 => ?_) (fun J171 => ?_)
                    · skip
                      refine xh_iast hx hb hK hW hS iH85 2 (by decide) 70 rfl (ww_in (by omega) (by omega)) dX0_log_171 (fun X171 H locs f171 hW hS => ?_)
                      have iH85 : xh_in X171 v2 := by rw [f171]; exact xh_wa iH85 (by decide) (by decide)
                      refine xl_aload hx hb dX0_log_172 (lv_at hl 5 rfl) ?_
                      refine xl_top iH85.1.1 ?_
                      refine xb_getN hx hb hts hown hK hW iH85.1 (k := 13) (xf_hole iH85.2 (k := 13) (by decide)) (hN.nf q542) rfl (xb_va (j := 4) (xf_hole iH85.2 (k := 13) (by decide)) (by decide)) dX0_log_174 ?_
                      refine lv_iload hx hb dX0_log_177 (lv_at hl 1 rfl) ?_
                      refine lv_iconst (v := 1) hx hb dX0_log_179 (by decide) ?_
                      refine xh_zast hx hb hK hW hS iH85 rfl (ww_in (by omega) (by omega)) dX0_log_180 (fun X180 H locs f180 hW hS => ?_)
                      have iH85 : xh_in X180 v2 := by rw [f180]; exact xh_wa iH85 (by decide) (by decide)
                      obtain ⟨v181, e181⟩ : ∃ yQ : Int32, yQ = k + 1 := ⟨_, rfl⟩
                      refine lv_iinc (v := v181) (lv' := [(8, .int v181), (11, .double (xf_dv X85 E s v117.toInt32)), (10, .int v106), (9, .int 0), (7, va_rf (xx_so D (rd_ X 58 s) s.toNatClampNeg)), (6, va_rf (xx_o D v2)), (0, .ref o), (1, .int b), (2, .int s), (3, .int i), (4, .int y), (5, .int n)]) hx hb dX0_log_181 hl (k := 3) rfl (by rw [e181]; rfl) (by decide) (by simp [va_rf_c]) (fun ls hl => ?_)
                      refine lv_goto (tgt := 85) hx hb dX0_log_184 (by decide) ?_
                      have tb : v181.toInt = k.toInt + 1 := by rw [e181]; exact ww_inc t89
                      have hs : X180 = xf_logX X85 v2 v106 (xf_dv X85 E s v117.toInt32) := by rw [f180, f171, ew171]; rfl
                      exact ih85 v181 X180 H locs (by omega) (by omega) (by omega) (by rw [hs]; exact (iF85.wa (by decide)).wa (by decide)) iH85 (by rw [hs, e106, e117]; rw [xf_logG] at hgo85; rw [e181]; simp only [if_neg c89, if_neg (show ¬ 60 < y + k from by rw [← e96]; exact c99), if_pos (show xf_out X85 s (i.toInt64 + k.toInt64) = 0 from by rw [← e117]; exact hout)] at hgo85; exact hgo85) hW hS ls (lv_sub hl [3, 0, 4, 5, 6, 7, 8, 9, 10, 11] rfl)
                    refine lv_dload hx hb dX0_log_130 (lv_at hl 0 rfl) ?_
                    refine lv_dload hx hb dX0_log_132 (lv_at hl 0 rfl) ?_
                    refine lv_dcmp hx hb dX0_log_134 ?_
                    refine lv_if_ne (tgt := 144) hx hb dX0_log_135 (by decide) (fun c135 => ?_) (fun c135 => ?_)
                    · skip
                      refine xl_aload hx hb dX0_log_144 (lv_at hl 5 rfl) ?_
                      refine xl_top iH85.1.1 ?_
                      refine xb_getN hx hb hts hown hK hW iH85.1 (k := 13) (xf_hole iH85.2 (k := 13) (by decide)) (hN.nf q542) rfl (xb_va (j := 4) (xf_hole iH85.2 (k := 13) (by decide)) (by decide)) dX0_log_146 ?_
                      refine lv_iload hx hb dX0_log_149 (lv_at hl 1 rfl) ?_
                      refine lv_iconst (v := 1) hx hb dX0_log_151 (by decide) ?_
                      refine nv_isub hx hb dX0_log_152 (fun v152 e152 => ?_)
                      have t152 : v152.toInt = v106.toInt - 1 := by rw [e152]; exact ww_sub1 (by omega)
                      refine xh_zald hx hb hK hW iH85 (ww_in (by omega) (by omega)) dX0_log_153 ?_
                      refine lv_if_eq (tgt := 170) hx hb dX0_log_154 (by decide) (fun c154 => ?_) (fun c154 => ?_)
                      · skip
                        refine lv_iconst (v := 0) hx hb dX0_log_170 (by decide) ?_
                        exact J171 _ (by subst e96 e106 e117 e152; simp only [if_neg c89, if_neg c99, if_neg c135, if_pos c154, xf_logv])
                      · skip
                        refine xl_aload hx hb dX0_log_157 (lv_at hl 5 rfl) ?_
                        refine xl_top iH85.1.1 ?_
                        refine xb_getN hx hb hts hown hK hW iH85.1 (k := 12) (xf_hole iH85.2 (k := 12) (by decide)) (hN.nf q540) rfl (xb_va (j := 3) (xf_hole iH85.2 (k := 12) (by decide)) (by decide)) dX0_log_159 ?_
                        refine lv_iload hx hb dX0_log_162 (lv_at hl 1 rfl) ?_
                        refine lv_iconst (v := 1) hx hb dX0_log_164 (by decide) ?_
                        refine nv_isub hx hb dX0_log_165 (fun v165 e165 => ?_)
                        have t165 : v165.toInt = v106.toInt - 1 := by rw [e165]; exact ww_sub1 (by omega)
                        refine xh_iald hx hb hK hW iH85 2 (by decide) 70 rfl (ww_in (by omega) (by omega)) dX0_log_166 ?_
                        refine lv_goto (tgt := 171) hx hb dX0_log_167 (by decide) ?_
                        exact J171 _ (by subst e96 e106 e117 e152 e165; simp only [if_neg c89, if_neg c99, if_neg c135, if_neg c154, xf_logv])
                    · skip
                      refine lv_dload hx hb dX0_log_138 (lv_at hl 0 rfl) ?_
                      refine lv_d2i hx hb dX0_log_140 ?_
                      refine lv_goto (tgt := 171) hx hb dX0_log_141 (by decide) ?_
                      exact J171 _ (by subst e96 e106 e117; simp only [if_neg c89, if_neg c99, if_pos c135, xf_logv])
            exact L85 61 0 X H locs (by show _ - 0 < (61 : Int); omega) (by decide) (by show 0 ≤ _; omega) (fr_.rf X) (by rw [e2]; exact hi9) (rfl) hW hS ls (lv_sub hl [0, 1, 2, 3, 4, 5, 6, 7, 8, 9] rfl)
          · skip
            refine xl_aload hx hb dX0_log_60 (lv_at hl 0 rfl) ?_
            refine xr_inst (k := 3) (kI := 3) hx hb hts hown hK hN hW hin h6 (by decide) rfl (nm := "[F") rfl q819 dX0_log_62 ?_
            refine lv_if_ne (tgt := 79) hx hb dX0_log_65 (by decide) (fun c65 => ?_) (fun c65 => ?_)
            · skip
              have hr3 : rd_ X 58 s = -1 ∨ xr_st (rd_ X 58 s) = 3 ∨ xr_st (rd_ X 58 s) = 4 := Or.inr (Or.inl (xr_is_t c65))
              have hlog : xf_log X E b s i y n = xf_logE v2 y (xf_logR X E v2 s i y n) := by subst e2 e13 e26 e39; simp only [xf_log, if_neg c9, if_neg c16, if_neg c29, if_neg c42, if_neg c57, if_neg c65]
              refine lv_iconst (v := 0) hx hb dX0_log_79 (by decide) ?_
              refine lv_istore (lv' := [(8, .int 0), (7, va_rf (xx_so D (rd_ X 58 s) s.toNatClampNeg)), (6, va_rf (xx_o D v2)), (0, .ref o), (1, .int b), (2, .int s), (3, .int i), (4, .int y), (5, .int n)]) hx hb dX0_log_80 hl (by decide) (by simp [va_rf_c]) (fun ls hl => ?_)
              refine lv_iconst (v := 0) hx hb dX0_log_82 (by decide) ?_
              refine lv_istore (lv' := [(9, .int 0), (8, .int 0), (7, va_rf (xx_so D (rd_ X 58 s) s.toNatClampNeg)), (6, va_rf (xx_o D v2)), (0, .ref o), (1, .int b), (2, .int s), (3, .int i), (4, .int y), (5, .int n)]) hx hb dX0_log_83 hl (by decide) rfl (fun ls hl => ?_)
              have L85 : ∀ (fu85 : Nat) (k : Int32) (X85 : mm_S) (H : Heap) (locs : List Loc), (n.toInt - k.toInt < fu85) → (0 ≤ k.toInt) → (k.toInt ≤ n.toInt) → (fr_ [70, 71] X X85) → (xh_in X85 v2) → (xf_logG E v2 s i y n fu85 k X85 = xf_logR X E v2 s i y n) → xx_W G o d0 X85 E D H → va_S (xx_F o d0) sQ.heap H locs → ∀ ls : Array Slot, lv_has ls 15 [(9, .int 0), (8, .int k), (7, va_rf (xx_so D (rd_ X 58 s) s.toNatClampNeg)), (6, va_rf (xx_o D v2)), (0, .ref o), (1, .int b), (2, .int s), (3, .int i), (4, .int y), (5, .int n)] → W pQ lQ eQ (wm_rc 3 0 0) sQ mQ ([Value.ref o, .int b, .int s, .int i, .int y, .int n] : List Value).toArray belowQ methQ cQ H locs 0 0 (xz_Q G o d0 (fun v X1 E1 D1 _ => E1 = E ∧ D1 = D ∧ v = some (.int (xf_log X E b s i y n).1) ∧ X1 = (xf_log X E b s i y n).2) RX1 (fun _ _ _ _ => False) belowQ ([Value.ref o, .int b, .int s, .int i, .int y, .int n] : List Value).toArray sQ 0 0) (F0 mQ 85 ls []) := by
                intro fu85
                induction fu85 with
                | zero =>
                  intro k X85 H locs hm85 i085 i185 iF85 iH85 hgo85 hW hS ls hl
                  exact absurd hm85 (by omega)
                | succ fu85 ih85 =>
                  intro k X85 H locs hm85 i085 i185 iF85 iH85 hgo85 hW hS ls hl
                  have h58 : rd_ X85 58 s = rd_ X 58 s := by unfold rd_; rw [iF85 58 (by decide)]
                  refine lv_iload hx hb dX0_log_85 (lv_at hl 1 rfl) ?_
                  refine lv_iload hx hb dX0_log_87 (lv_at hl 9 rfl) ?_
                  refine lv_icmp_ge (tgt := 187) hx hb dX0_log_89 (by decide) (fun c89 => ?_) (fun c89 => ?_)
                  · have t89 : (n).toInt ≤ (k).toInt := ww_le c89
                    refine lv_iconst (v := 1) hx hb dX0_log_187 (by decide) ?_
                    refine lv_istore (lv' := [(9, .int 1), (8, .int k), (7, va_rf (xx_so D (rd_ X 58 s) s.toNatClampNeg)), (6, va_rf (xx_o D v2)), (0, .ref o), (1, .int b), (2, .int s), (3, .int i), (4, .int y), (5, .int n)]) hx hb dX0_log_188 hl (by decide) rfl (fun ls hl => ?_)
                    refine lv_iload hx hb dX0_log_190 (lv_at hl 8 rfl) ?_
                    refine lv_iload hx hb dX0_log_192 (lv_at hl 1 rfl) ?_
                    refine nv_iadd hx hb dX0_log_194 (fun v194 e194 => ?_)
                    refine lv_istore (lv' := [(10, .int v194), (9, .int 1), (8, .int k), (7, va_rf (xx_so D (rd_ X 58 s) s.toNatClampNeg)), (6, va_rf (xx_o D v2)), (0, .ref o), (1, .int b), (2, .int s), (3, .int i), (4, .int y), (5, .int n)]) hx hb dX0_log_195 hl (by decide) rfl (fun ls hl => ?_)
                    refine lv_iload hx hb dX0_log_197 (lv_at hl 0 rfl) ?_
                    refine lv_bipush (v := 60) hx hb dX0_log_199 (by decide) ?_
                    refine lv_icmp_gt (tgt := 224) hx hb dX0_log_201 (by decide) (fun c201 => ?_) (fun c201 => ?_)
                    · have t201 : 60 < (v194).toInt := ww_lt c201
                      refine lv_goto (tgt := 309) hx hb dX0_log_224 (by decide) ?_
                      refine lv_iload hx hb dX0_log_309 (lv_at hl 2 rfl) ?_
                      refine xz_iret hx hb hr hlocks hW hS ?_ (Nat.le_of_ble_eq_true rfl) (Nat.le_of_ble_eq_true rfl) dX0_log_311
                      have hR : xf_logR X E v2 s i y n = (k, 0, X85) := by
                        rw [← hgo85]
                        subst e194; simp only [xf_logG, if_pos c89, if_pos c201]
                      rw [hlog, hR]
                      exact ⟨rfl, rfl, rfl, rfl⟩
                    · have t201 : (v194).toInt ≤ 60 := ww_nlt c201
                      refine lv_iload hx hb dX0_log_204 (lv_at hl 1 rfl) ?_
                      refine lv_if_ne (tgt := 224) hx hb dX0_log_206 (by decide) (fun c206 => ?_) (fun c206 => ?_)
                      · skip
                        refine lv_goto (tgt := 309) hx hb dX0_log_224 (by decide) ?_
                        refine lv_iload hx hb dX0_log_309 (lv_at hl 2 rfl) ?_
                        refine xz_iret hx hb hr hlocks hW hS ?_ (Nat.le_of_ble_eq_true rfl) (Nat.le_of_ble_eq_true rfl) dX0_log_311
                        have hR : xf_logR X E v2 s i y n = (k, 0, X85) := by
                          rw [← hgo85]
                          subst e194; simp only [xf_logG, if_pos c89, if_neg c201, if_neg c206]
                        rw [hlog, hR]
                        exact ⟨rfl, rfl, rfl, rfl⟩
                      · skip
                        exact absurd c206 (by decide)
                  · have t89 : (k).toInt < (n).toInt := ww_nle c89
                    refine lv_iload hx hb dX0_log_92 (lv_at hl 8 rfl) ?_
                    refine lv_iload hx hb dX0_log_94 (lv_at hl 1 rfl) ?_
                    refine nv_iadd hx hb dX0_log_96 (fun v96 e96 => ?_)
                    have t96 : v96.toInt = y.toInt + k.toInt := by rw [e96]; exact ww_add _ _ (by omega) (by omega)
                    refine lv_bipush (v := 60) hx hb dX0_log_97 (by decide) ?_
                    refine lv_icmp_gt (tgt := 187) hx hb dX0_log_99 (by decide) (fun c99 => ?_) (fun c99 => ?_)
                    · have t99 : 60 < (v96).toInt := ww_lt c99
                      refine lv_iconst (v := 1) hx hb dX0_log_187 (by decide) ?_
                      refine lv_istore (lv' := [(9, .int 1), (8, .int k), (7, va_rf (xx_so D (rd_ X 58 s) s.toNatClampNeg)), (6, va_rf (xx_o D v2)), (0, .ref o), (1, .int b), (2, .int s), (3, .int i), (4, .int y), (5, .int n)]) hx hb dX0_log_188 hl (by decide) rfl (fun ls hl => ?_)
                      refine lv_iload hx hb dX0_log_190 (lv_at hl 8 rfl) ?_
                      refine lv_iload hx hb dX0_log_192 (lv_at hl 1 rfl) ?_
                      refine nv_iadd hx hb dX0_log_194 (fun v194 e194 => ?_)
                      refine lv_istore (lv' := [(10, .int v194), (9, .int 1), (8, .int k), (7, va_rf (xx_so D (rd_ X 58 s) s.toNatClampNeg)), (6, va_rf (xx_o D v2)), (0, .ref o), (1, .int b), (2, .int s), (3, .int i), (4, .int y), (5, .int n)]) hx hb dX0_log_195 hl (by decide) rfl (fun ls hl => ?_)
                      refine lv_iload hx hb dX0_log_197 (lv_at hl 0 rfl) ?_
                      refine lv_bipush (v := 60) hx hb dX0_log_199 (by decide) ?_
                      refine lv_icmp_gt (tgt := 224) hx hb dX0_log_201 (by decide) (fun c201 => ?_) (fun c201 => ?_)
                      · have t201 : 60 < (v194).toInt := ww_lt c201
                        refine lv_goto (tgt := 309) hx hb dX0_log_224 (by decide) ?_
                        refine lv_iload hx hb dX0_log_309 (lv_at hl 2 rfl) ?_
                        refine xz_iret hx hb hr hlocks hW hS ?_ (Nat.le_of_ble_eq_true rfl) (Nat.le_of_ble_eq_true rfl) dX0_log_311
                        have hR : xf_logR X E v2 s i y n = (k, 0, X85) := by
                          rw [← hgo85]
                          subst e96 e194; simp only [xf_logG, if_neg c89, if_pos c99, if_pos c201]
                        rw [hlog, hR]
                        exact ⟨rfl, rfl, rfl, rfl⟩
                      · have t201 : (v194).toInt ≤ 60 := ww_nlt c201
                        refine lv_iload hx hb dX0_log_204 (lv_at hl 1 rfl) ?_
                        refine lv_if_ne (tgt := 224) hx hb dX0_log_206 (by decide) (fun c206 => ?_) (fun c206 => ?_)
                        · skip
                          refine lv_goto (tgt := 309) hx hb dX0_log_224 (by decide) ?_
                          refine lv_iload hx hb dX0_log_309 (lv_at hl 2 rfl) ?_
                          refine xz_iret hx hb hr hlocks hW hS ?_ (Nat.le_of_ble_eq_true rfl) (Nat.le_of_ble_eq_true rfl) dX0_log_311
                          have hR : xf_logR X E v2 s i y n = (k, 0, X85) := by
                            rw [← hgo85]
                            subst e96 e194; simp only [xf_logG, if_neg c89, if_pos c99, if_neg c201, if_neg c206]
                          rw [hlog, hR]
                          exact ⟨rfl, rfl, rfl, rfl⟩
                        · skip
                          exact absurd c206 (by decide)
                    · have t99 : (v96).toInt ≤ 60 := ww_nlt c99
                      refine lv_iload hx hb dX0_log_102 (lv_at hl 8 rfl) ?_
                      refine lv_iload hx hb dX0_log_104 (lv_at hl 1 rfl) ?_
                      refine nv_iadd hx hb dX0_log_106 (fun v106 e106 => ?_)
                      have t106 : v106.toInt = y.toInt + k.toInt := by rw [e106]; exact ww_add _ _ (by omega) (by omega)
                      refine lv_istore (lv' := [(10, .int v106), (9, .int 0), (8, .int k), (7, va_rf (xx_so D (rd_ X 58 s) s.toNatClampNeg)), (6, va_rf (xx_o D v2)), (0, .ref o), (1, .int b), (2, .int s), (3, .int i), (4, .int y), (5, .int n)]) hx hb dX0_log_107 hl (by decide) rfl (fun ls hl => ?_)
                      refine lv_aload_n hx hb dX0_log_109 rfl (lv_at hl 5 rfl) ?_
                      refine xl_aload hx hb dX0_log_110 (lv_at hl 3 rfl) ?_
                      refine lv_iload_n hx hb dX0_log_112 rfl (lv_at hl 8 rfl) ?_
                      refine lv_i2l (v := (i).toInt64) hx hb dX0_log_113 rfl ?_
                      refine lv_iload hx hb dX0_log_114 (lv_at hl 2 rfl) ?_
                      refine lv_i2l (v := (k).toInt64) hx hb dX0_log_116 rfl ?_
                      refine nv_ladd hx hb dX0_log_117 (fun v117 e117 => ?_)
                      have hMr := xc_real lQ G o d0 X85 E D _ hW s v117 hin (by rw [h58]; exact h6) (by rw [h58]; exact hr3) (xv_E_fr iF85 hEs)
                      rw [h58] at hMr
                      refine xz_call (xz_rV (d := 2) (mc := 0) (ms := 0) (As := [va_rf (xx_so D (rd_ X 58 s) s.toNatClampNeg), .long v117]) (rest := []) (n := 2) ⟨hx, hb, hml, hown, hts⟩ hK hN hMr (lw_V q821 q823 qs5 q84 q824) (xr_main hK hW) (by decide +kernel) rfl ⟨Nat.le_of_ble_eq_true rfl, Nat.le_of_ble_eq_true rfl⟩ hl.1 rfl (Nat.le_of_ble_eq_true rfl) dX0_log_118 ⟨Nat.le_of_ble_eq_true rfl, Nat.le_of_ble_eq_true rfl⟩) hS (fun qT ceT XT ET DT H locs hPT hW hS wT1 wT2 wT3 => ?_) (fun vT XT ET DT H locs hPT hW hS => ?_)
                      · skip
                        obtain ⟨eXT, eET, eDT, hout⟩ := hPT
                        rw [eXT, eET, eDT] at hW
                        refine vx_catch (name := RX1) hown [] ⟨85, 190, 227, 47⟩ _ (by rw [htb]; rfl) (fun z hz => absurd hz List.not_mem_nil) (by decide) (by decide) (hts _ q126) (va_Nw.use rfl (hN.ca q128)) wT1 wT2 wT3 ?_
                        have hout9 : xf_logR X E v2 s i y n = (k, 1, X85) := by
                                rw [← hgo85]
                                rw [xf_logG]
                                rw [if_neg c89, if_neg (show ¬ 60 < y + k from by rw [← e96]; exact c99), if_neg (show ¬ xf_out X85 s (i.toInt64 + k.toInt64) = 0 from by rw [← e117, hout]; decide)]
                        refine lv_astore (lv' := [(10, .ref qT), (9, .int 0), (8, .int k), (7, va_rf (xx_so D (rd_ X 58 s) s.toNatClampNeg)), (6, va_rf (xx_o D v2)), (0, .ref o), (1, .int b), (2, .int s), (3, .int i), (4, .int y), (5, .int n)]) hx hb dX0_log_227 hl (by decide) rfl (fun ls hl => ?_)
                        refine lv_iload hx hb dX0_log_229 (lv_at hl 2 rfl) ?_
                        refine lv_istore (lv' := [(11, .int k), (10, .ref qT), (9, .int 0), (8, .int k), (7, va_rf (xx_so D (rd_ X 58 s) s.toNatClampNeg)), (6, va_rf (xx_o D v2)), (0, .ref o), (1, .int b), (2, .int s), (3, .int i), (4, .int y), (5, .int n)]) hx hb dX0_log_231 hl (by decide) rfl (fun ls hl => ?_)
                        refine lv_iload hx hb dX0_log_233 (lv_at hl 10 rfl) ?_
                        refine lv_iload hx hb dX0_log_235 (lv_at hl 3 rfl) ?_
                        refine nv_iadd hx hb dX0_log_237 (fun v237 e237 => ?_)
                        have t237 : v237.toInt = y.toInt + k.toInt := by rw [e237]; exact ww_add _ _ (by omega) (by omega)
                        refine lv_istore (lv' := [(12, .int v237), (11, .int k), (10, .ref qT), (9, .int 0), (8, .int k), (7, va_rf (xx_so D (rd_ X 58 s) s.toNatClampNeg)), (6, va_rf (xx_o D v2)), (0, .ref o), (1, .int b), (2, .int s), (3, .int i), (4, .int y), (5, .int n)]) hx hb dX0_log_238 hl (by decide) rfl (fun ls hl => ?_)
                        have L240 : ∀ (fu240 : Nat) (z : Int32) (X240 : mm_S) (H : Heap) (locs : List Loc), (60 - z.toInt + 1 < fu240) → (1 ≤ z.toInt) → (z.toInt ≤ 61) → (xh_in X240 v2) → (xf_logC v2 fu240 z X240 = xf_logC v2 61 v237 X85) → xx_W G o d0 X240 E D H → va_S (xx_F o d0) sQ.heap H locs → ∀ ls : Array Slot, lv_has ls 15 [(12, .int z), (11, .int k), (10, .ref qT), (9, .int 0), (8, .int k), (7, va_rf (xx_so D (rd_ X 58 s) s.toNatClampNeg)), (6, va_rf (xx_o D v2)), (0, .ref o), (1, .int b), (2, .int s), (3, .int i), (4, .int y), (5, .int n)] → W pQ lQ eQ (wm_rc 3 0 0) sQ mQ ([Value.ref o, .int b, .int s, .int i, .int y, .int n] : List Value).toArray belowQ methQ cQ H locs 0 0 (xz_Q G o d0 (fun v X1 E1 D1 _ => E1 = E ∧ D1 = D ∧ v = some (.int (xf_log X E b s i y n).1) ∧ X1 = (xf_log X E b s i y n).2) RX1 (fun _ _ _ _ => False) belowQ ([Value.ref o, .int b, .int s, .int i, .int y, .int n] : List Value).toArray sQ 0 0) (F0 mQ 240 ls []) := by
                          intro fu240
                          induction fu240 with
                          | zero =>
                            intro z X240 H locs hm240 z0240 z1240 jH240 hgo240 hW hS ls hl
                            exact absurd hm240 (by omega)
                          | succ fu240 ih240 =>
                            intro z X240 H locs hm240 z0240 z1240 jH240 hgo240 hW hS ls hl
                            refine lv_iload hx hb dX0_log_240 (lv_at hl 0 rfl) ?_
                            refine lv_bipush (v := 60) hx hb dX0_log_242 (by decide) ?_
                            refine lv_icmp_gt (tgt := 267) hx hb dX0_log_244 (by decide) (fun c244 => ?_) (fun c244 => ?_)
                            · have t244 : 60 < (z).toInt := ww_lt c244
                              refine lv_iload hx hb dX0_log_267 (lv_at hl 1 rfl) ?_
                              refine xz_iret hx hb hr hlocks hW hS ?_ (Nat.le_of_ble_eq_true rfl) (Nat.le_of_ble_eq_true rfl) dX0_log_269
                              rw [hlog, hout9]
                              have hC : xf_logC v2 61 (y + k) X85 = X240 := by rw [← e237, ← hgo240, xf_logC, if_pos c244]
                              exact ⟨rfl, rfl, rfl, hC.symm⟩
                            · have t244 : (z).toInt ≤ 60 := ww_nlt c244
                              refine lv_iload hx hb dX0_log_247 (lv_at hl 3 rfl) ?_
                              refine lv_if_ne (tgt := 267) hx hb dX0_log_249 (by decide) (fun c249 => ?_) (fun c249 => ?_)
                              · skip
                                exact absurd rfl c249
                              · skip
                                refine xl_aload hx hb dX0_log_252 (lv_at hl 6 rfl) ?_
                                refine xl_top jH240.1.1 ?_
                                refine xb_getN hx hb hts hown hK hW jH240.1 (k := 13) (xf_hole jH240.2 (k := 13) (by decide)) (hN.nf q542) rfl (xb_va (j := 4) (xf_hole jH240.2 (k := 13) (by decide)) (by decide)) dX0_log_254 ?_
                                refine lv_iload hx hb dX0_log_257 (lv_at hl 0 rfl) ?_
                                refine lv_iconst (v := 0) hx hb dX0_log_259 (by decide) ?_
                                refine xh_zast hx hb hK hW hS jH240 rfl (ww_in (by omega) (by omega)) dX0_log_260 (fun X260 H locs f260 hW hS => ?_)
                                have jH240 : xh_in X260 v2 := by rw [f260]; exact xh_wa jH240 (by decide) (by decide)
                                obtain ⟨v261, e261⟩ : ∃ yQ : Int32, yQ = z + 1 := ⟨_, rfl⟩
                                refine lv_iinc (v := v261) (lv' := [(12, .int v261), (11, .int k), (10, .ref qT), (9, .int 0), (8, .int k), (7, va_rf (xx_so D (rd_ X 58 s) s.toNatClampNeg)), (6, va_rf (xx_o D v2)), (0, .ref o), (1, .int b), (2, .int s), (3, .int i), (4, .int y), (5, .int n)]) hx hb dX0_log_261 hl (k := 0) rfl (by rw [e261]; rfl) (by decide) rfl (fun ls hl => ?_)
                                refine lv_goto (tgt := 240) hx hb dX0_log_264 (by decide) ?_
                                have tb : v261.toInt = z.toInt + 1 := by rw [e261]; exact ww_inc' (by omega)
                                exact ih240 v261 X260 H locs (by omega) (by omega) (by omega) jH240 (by rw [xf_logC] at hgo240; rw [f260, e261]; simp only [if_neg c244] at hgo240; exact hgo240) hW hS ls (lv_sub hl [0, 1, 2, 3, 4, 5, 6, 7, 8, 9, 10, 11, 12] rfl)
                        exact L240 61 v237 X85 H locs (by show _ < (61 : Int); omega) (by omega) (by omega) iH85 (rfl) hW hS ls (lv_sub hl [0, 1, 2, 3, 4, 5, 6, 7, 8, 9, 10, 11, 12] rfl)
                      obtain ⟨eXT, eET, eDT, hout, evT⟩ := hPT
                      rw [eXT, eET, eDT] at hW
                      rw [evT]
                      refine lv_dstore (lv' := [(11, .double (xf_dv X85 E s v117.toInt32)), (10, .int v106), (9, .int 0), (8, .int k), (7, va_rf (xx_so D (rd_ X 58 s) s.toNatClampNeg)), (6, va_rf (xx_o D v2)), (0, .ref o), (1, .int b), (2, .int s), (3, .int i), (4, .int y), (5, .int n)]) hx hb dX0_log_121 hl (by decide) rfl (fun ls hl => ?_)
                      refine xl_aload hx hb dX0_log_123 (lv_at hl 5 rfl) ?_
                      refine xl_top iH85.1.1 ?_
                      refine xb_getN hx hb hts hown hK hW iH85.1 (k := 12) (xf_hole iH85.2 (k := 12) (by decide)) (hN.nf q540) rfl (xb_va (j := 3) (xf_hole iH85.2 (k := 12) (by decide)) (by decide)) dX0_log_125 ?_
                      refine lv_iload hx hb dX0_log_128 (lv_at hl 1 rfl) ?_
                      refine wm_join (P := fun w171 : Int32 => w171 = xf_logv X85 v2 v106 (xf_dv X85 E s v117.toInt32)) (j := 171) (rest := [.int v106, .ref (xb_ D v2 + 3)]) (ls := ls) (fun w171 ew171 => ?_) (fun J171 => ?_)
                      · skip
                        refine xh_iast hx hb hK hW hS iH85 2 (by decide) 70 rfl (ww_in (by omega) (by omega)) dX0_log_171 (fun X171 H locs f171 hW hS => ?_)
                        have iH85 : xh_in X171 v2 := by rw [f171]; exact xh_wa iH85 (by decide) (by decide)
                        refine xl_aload hx hb dX0_log_172 (lv_at hl 5 rfl) ?_
                        refine xl_top iH85.1.1 ?_
                        refine xb_getN hx hb hts hown hK hW iH85.1 (k := 13) (xf_hole iH85.2 (k := 13) (by decide)) (hN.nf q542) rfl (xb_va (j := 4) (xf_hole iH85.2 (k := 13) (by decide)) (by decide)) dX0_log_174 ?_
                        refine lv_iload hx hb dX0_log_177 (lv_at hl 1 rfl) ?_
                        refine lv_iconst (v := 1) hx hb dX0_log_179 (by decide) ?_
                        refine xh_zast hx hb hK hW hS iH85 rfl (ww_in (by omega) (by omega)) dX0_log_180 (fun X180 H locs f180 hW hS => ?_)
                        have iH85 : xh_in X180 v2 := by rw [f180]; exact xh_wa iH85 (by decide) (by decide)
                        obtain ⟨v181, e181⟩ : ∃ yQ : Int32, yQ = k + 1 := ⟨_, rfl⟩
                        refine lv_iinc (v := v181) (lv' := [(8, .int v181), (11, .double (xf_dv X85 E s v117.toInt32)), (10, .int v106), (9, .int 0), (7, va_rf (xx_so D (rd_ X 58 s) s.toNatClampNeg)), (6, va_rf (xx_o D v2)), (0, .ref o), (1, .int b), (2, .int s), (3, .int i), (4, .int y), (5, .int n)]) hx hb dX0_log_181 hl (k := 3) rfl (by rw [e181]; rfl) (by decide) (by simp [va_rf_c]) (fun ls hl => ?_)
                        refine lv_goto (tgt := 85) hx hb dX0_log_184 (by decide) ?_
                        have tb : v181.toInt = k.toInt + 1 := by rw [e181]; exact ww_inc t89
                        have hs : X180 = xf_logX X85 v2 v106 (xf_dv X85 E s v117.toInt32) := by rw [f180, f171, ew171]; rfl
                        exact ih85 v181 X180 H locs (by omega) (by omega) (by omega) (by rw [hs]; exact (iF85.wa (by decide)).wa (by decide)) iH85 (by rw [hs, e106, e117]; rw [xf_logG] at hgo85; rw [e181]; simp only [if_neg c89, if_neg (show ¬ 60 < y + k from by rw [← e96]; exact c99), if_pos (show xf_out X85 s (i.toInt64 + k.toInt64) = 0 from by rw [← e117]; exact hout)] at hgo85; exact hgo85) hW hS ls (lv_sub hl [3, 0, 4, 5, 6, 7, 8, 9, 10, 11] rfl)
                      refine lv_dload hx hb dX0_log_130 (lv_at hl 0 rfl) ?_
                      refine lv_dload hx hb dX0_log_132 (lv_at hl 0 rfl) ?_
                      refine lv_dcmp hx hb dX0_log_134 ?_
                      refine lv_if_ne (tgt := 144) hx hb dX0_log_135 (by decide) (fun c135 => ?_) (fun c135 => ?_)
                      · skip
                        refine xl_aload hx hb dX0_log_144 (lv_at hl 5 rfl) ?_
                        refine xl_top iH85.1.1 ?_
                        refine xb_getN hx hb hts hown hK hW iH85.1 (k := 13) (xf_hole iH85.2 (k := 13) (by decide)) (hN.nf q542) rfl (xb_va (j := 4) (xf_hole iH85.2 (k := 13) (by decide)) (by decide)) dX0_log_146 ?_
                        refine lv_iload hx hb dX0_log_149 (lv_at hl 1 rfl) ?_
                        refine lv_iconst (v := 1) hx hb dX0_log_151 (by decide) ?_
                        refine nv_isub hx hb dX0_log_152 (fun v152 e152 => ?_)
                        have t152 : v152.toInt = v106.toInt - 1 := by rw [e152]; exact ww_sub1 (by omega)
                        refine xh_zald hx hb hK hW iH85 (ww_in (by omega) (by omega)) dX0_log_153 ?_
                        refine lv_if_eq (tgt := 170) hx hb dX0_log_154 (by decide) (fun c154 => ?_) (fun c154 => ?_)
                        · skip
                          refine lv_iconst (v := 0) hx hb dX0_log_170 (by decide) ?_
                          exact J171 _ (by subst e96 e106 e117 e152; simp only [if_neg c89, if_neg c99, if_neg c135, if_pos c154, xf_logv])
                        · skip
                          refine xl_aload hx hb dX0_log_157 (lv_at hl 5 rfl) ?_
                          refine xl_top iH85.1.1 ?_
                          refine xb_getN hx hb hts hown hK hW iH85.1 (k := 12) (xf_hole iH85.2 (k := 12) (by decide)) (hN.nf q540) rfl (xb_va (j := 3) (xf_hole iH85.2 (k := 12) (by decide)) (by decide)) dX0_log_159 ?_
                          refine lv_iload hx hb dX0_log_162 (lv_at hl 1 rfl) ?_
                          refine lv_iconst (v := 1) hx hb dX0_log_164 (by decide) ?_
                          refine nv_isub hx hb dX0_log_165 (fun v165 e165 => ?_)
                          have t165 : v165.toInt = v106.toInt - 1 := by rw [e165]; exact ww_sub1 (by omega)
                          refine xh_iald hx hb hK hW iH85 2 (by decide) 70 rfl (ww_in (by omega) (by omega)) dX0_log_166 ?_
                          refine lv_goto (tgt := 171) hx hb dX0_log_167 (by decide) ?_
                          exact J171 _ (by subst e96 e106 e117 e152 e165; simp only [if_neg c89, if_neg c99, if_neg c135, if_neg c154, xf_logv])
                      · skip
                        refine lv_dload hx hb dX0_log_138 (lv_at hl 0 rfl) ?_
                        refine lv_d2i hx hb dX0_log_140 ?_
                        refine lv_goto (tgt := 171) hx hb dX0_log_141 (by decide) ?_
                        exact J171 _ (by subst e96 e106 e117; simp only [if_neg c89, if_neg c99, if_pos c135, xf_logv])
              exact L85 61 0 X H locs (by show _ - 0 < (61 : Int); omega) (by decide) (by show 0 ≤ _; omega) (fr_.rf X) (by rw [e2]; exact hi9) (rfl) hW hS ls (lv_sub hl [0, 1, 2, 3, 4, 5, 6, 7, 8, 9] rfl)
            · skip
              refine xl_aload hx hb dX0_log_68 (lv_at hl 0 rfl) ?_
              refine xr_inst (k := 4) (kI := 4) hx hb hts hown hK hN hW hin h6 (by decide) rfl (nm := "[D") rfl q820 dX0_log_70 ?_
              refine lv_if_ne (tgt := 79) hx hb dX0_log_73 (by decide) (fun c73 => ?_) (fun c73 => ?_)
              · skip
                have hr3 : rd_ X 58 s = -1 ∨ xr_st (rd_ X 58 s) = 3 ∨ xr_st (rd_ X 58 s) = 4 := Or.inr (Or.inr (xr_is_t c73))
                have hlog : xf_log X E b s i y n = xf_logE v2 y (xf_logR X E v2 s i y n) := by subst e2 e13 e26 e39; simp only [xf_log, if_neg c9, if_neg c16, if_neg c29, if_neg c42, if_neg c57, if_pos c65, if_neg c73]
                refine lv_iconst (v := 0) hx hb dX0_log_79 (by decide) ?_
                refine lv_istore (lv' := [(8, .int 0), (7, va_rf (xx_so D (rd_ X 58 s) s.toNatClampNeg)), (6, va_rf (xx_o D v2)), (0, .ref o), (1, .int b), (2, .int s), (3, .int i), (4, .int y), (5, .int n)]) hx hb dX0_log_80 hl (by decide) (by simp [va_rf_c]) (fun ls hl => ?_)
                refine lv_iconst (v := 0) hx hb dX0_log_82 (by decide) ?_
                refine lv_istore (lv' := [(9, .int 0), (8, .int 0), (7, va_rf (xx_so D (rd_ X 58 s) s.toNatClampNeg)), (6, va_rf (xx_o D v2)), (0, .ref o), (1, .int b), (2, .int s), (3, .int i), (4, .int y), (5, .int n)]) hx hb dX0_log_83 hl (by decide) rfl (fun ls hl => ?_)
                have L85 : ∀ (fu85 : Nat) (k : Int32) (X85 : mm_S) (H : Heap) (locs : List Loc), (n.toInt - k.toInt < fu85) → (0 ≤ k.toInt) → (k.toInt ≤ n.toInt) → (fr_ [70, 71] X X85) → (xh_in X85 v2) → (xf_logG E v2 s i y n fu85 k X85 = xf_logR X E v2 s i y n) → xx_W G o d0 X85 E D H → va_S (xx_F o d0) sQ.heap H locs → ∀ ls : Array Slot, lv_has ls 15 [(9, .int 0), (8, .int k), (7, va_rf (xx_so D (rd_ X 58 s) s.toNatClampNeg)), (6, va_rf (xx_o D v2)), (0, .ref o), (1, .int b), (2, .int s), (3, .int i), (4, .int y), (5, .int n)] → W pQ lQ eQ (wm_rc 3 0 0) sQ mQ ([Value.ref o, .int b, .int s, .int i, .int y, .int n] : List Value).toArray belowQ methQ cQ H locs 0 0 (xz_Q G o d0 (fun v X1 E1 D1 _ => E1 = E ∧ D1 = D ∧ v = some (.int (xf_log X E b s i y n).1) ∧ X1 = (xf_log X E b s i y n).2) RX1 (fun _ _ _ _ => False) belowQ ([Value.ref o, .int b, .int s, .int i, .int y, .int n] : List Value).toArray sQ 0 0) (F0 mQ 85 ls []) := by
                  intro fu85
                  induction fu85 with
                  | zero =>
                    intro k X85 H locs hm85 i085 i185 iF85 iH85 hgo85 hW hS ls hl
                    exact absurd hm85 (by omega)
                  | succ fu85 ih85 =>
                    intro k X85 H locs hm85 i085 i185 iF85 iH85 hgo85 hW hS ls hl
                    have h58 : rd_ X85 58 s = rd_ X 58 s := by unfold rd_; rw [iF85 58 (by decide)]
                    refine lv_iload hx hb dX0_log_85 (lv_at hl 1 rfl) ?_
                    refine lv_iload hx hb dX0_log_87 (lv_at hl 9 rfl) ?_
                    refine lv_icmp_ge (tgt := 187) hx hb dX0_log_89 (by decide) (fun c89 => ?_) (fun c89 => ?_)
                    · have t89 : (n).toInt ≤ (k).toInt := ww_le c89
                      refine lv_iconst (v := 1) hx hb dX0_log_187 (by decide) ?_
                      refine lv_istore (lv' := [(9, .int 1), (8, .int k), (7, va_rf (xx_so D (rd_ X 58 s) s.toNatClampNeg)), (6, va_rf (xx_o D v2)), (0, .ref o), (1, .int b), (2, .int s), (3, .int i), (4, .int y), (5, .int n)]) hx hb dX0_log_188 hl (by decide) rfl (fun ls hl => ?_)
                      refine lv_iload hx hb dX0_log_190 (lv_at hl 8 rfl) ?_
                      refine lv_iload hx hb dX0_log_192 (lv_at hl 1 rfl) ?_
                      refine nv_iadd hx hb dX0_log_194 (fun v194 e194 => ?_)
                      refine lv_istore (lv' := [(10, .int v194), (9, .int 1), (8, .int k), (7, va_rf (xx_so D (rd_ X 58 s) s.toNatClampNeg)), (6, va_rf (xx_o D v2)), (0, .ref o), (1, .int b), (2, .int s), (3, .int i), (4, .int y), (5, .int n)]) hx hb dX0_log_195 hl (by decide) rfl (fun ls hl => ?_)
                      refine lv_iload hx hb dX0_log_197 (lv_at hl 0 rfl) ?_
                      refine lv_bipush (v := 60) hx hb dX0_log_199 (by decide) ?_
                      refine lv_icmp_gt (tgt := 224) hx hb dX0_log_201 (by decide) (fun c201 => ?_) (fun c201 => ?_)
                      · have t201 : 60 < (v194).toInt := ww_lt c201
                        refine lv_goto (tgt := 309) hx hb dX0_log_224 (by decide) ?_
                        refine lv_iload hx hb dX0_log_309 (lv_at hl 2 rfl) ?_
                        refine xz_iret hx hb hr hlocks hW hS ?_ (Nat.le_of_ble_eq_true rfl) (Nat.le_of_ble_eq_true rfl) dX0_log_311
                        have hR : xf_logR X E v2 s i y n = (k, 0, X85) := by
                          rw [← hgo85]
                          subst e194; simp only [xf_logG, if_pos c89, if_pos c201]
                        rw [hlog, hR]
                        exact ⟨rfl, rfl, rfl, rfl⟩
                      · have t201 : (v194).toInt ≤ 60 := ww_nlt c201
                        refine lv_iload hx hb dX0_log_204 (lv_at hl 1 rfl) ?_
                        refine lv_if_ne (tgt := 224) hx hb dX0_log_206 (by decide) (fun c206 => ?_) (fun c206 => ?_)
                        · skip
                          refine lv_goto (tgt := 309) hx hb dX0_log_224 (by decide) ?_
                          refine lv_iload hx hb dX0_log_309 (lv_at hl 2 rfl) ?_
                          refine xz_iret hx hb hr hlocks hW hS ?_ (Nat.le_of_ble_eq_true rfl) (Nat.le_of_ble_eq_true rfl) dX0_log_311
                          have hR : xf_logR X E v2 s i y n = (k, 0, X85) := by
                            rw [← hgo85]
                            subst e194; simp only [xf_logG, if_pos c89, if_neg c201, if_neg c206]
                          rw [hlog, hR]
                          exact ⟨rfl, rfl, rfl, rfl⟩
                        · skip
                          exact absurd c206 (by decide)
                    · have t89 : (k).toInt < (n).toInt := ww_nle c89
                      refine lv_iload hx hb dX0_log_92 (lv_at hl 8 rfl) ?_
                      refine lv_iload hx hb dX0_log_94 (lv_at hl 1 rfl) ?_
                      refine nv_iadd hx hb dX0_log_96 (fun v96 e96 => ?_)
                      have t96 : v96.toInt = y.toInt + k.toInt := by rw [e96]; exact ww_add _ _ (by omega) (by omega)
                      refine lv_bipush (v := 60) hx hb dX0_log_97 (by decide) ?_
                      refine lv_icmp_gt (tgt := 187) hx hb dX0_log_99 (by decide) (fun c99 => ?_) (fun c99 => ?_)
                      · have t99 : 60 < (v96).toInt := ww_lt c99
                        refine lv_iconst (v := 1) hx hb dX0_log_187 (by decide) ?_
                        refine lv_istore (lv' := [(9, .int 1), (8, .int k), (7, va_rf (xx_so D (rd_ X 58 s) s.toNatClampNeg)), (6, va_rf (xx_o D v2)), (0, .ref o), (1, .int b), (2, .int s), (3, .int i), (4, .int y), (5, .int n)]) hx hb dX0_log_188 hl (by decide) rfl (fun ls hl => ?_)
                        refine lv_iload hx hb dX0_log_190 (lv_at hl 8 rfl) ?_
                        refine lv_iload hx hb dX0_log_192 (lv_at hl 1 rfl) ?_
                        refine nv_iadd hx hb dX0_log_194 (fun v194 e194 => ?_)
                        refine lv_istore (lv' := [(10, .int v194), (9, .int 1), (8, .int k), (7, va_rf (xx_so D (rd_ X 58 s) s.toNatClampNeg)), (6, va_rf (xx_o D v2)), (0, .ref o), (1, .int b), (2, .int s), (3, .int i), (4, .int y), (5, .int n)]) hx hb dX0_log_195 hl (by decide) rfl (fun ls hl => ?_)
                        refine lv_iload hx hb dX0_log_197 (lv_at hl 0 rfl) ?_
                        refine lv_bipush (v := 60) hx hb dX0_log_199 (by decide) ?_
                        refine lv_icmp_gt (tgt := 224) hx hb dX0_log_201 (by decide) (fun c201 => ?_) (fun c201 => ?_)
                        · have t201 : 60 < (v194).toInt := ww_lt c201
                          refine lv_goto (tgt := 309) hx hb dX0_log_224 (by decide) ?_
                          refine lv_iload hx hb dX0_log_309 (lv_at hl 2 rfl) ?_
                          refine xz_iret hx hb hr hlocks hW hS ?_ (Nat.le_of_ble_eq_true rfl) (Nat.le_of_ble_eq_true rfl) dX0_log_311
                          have hR : xf_logR X E v2 s i y n = (k, 0, X85) := by
                            rw [← hgo85]
                            subst e96 e194; simp only [xf_logG, if_neg c89, if_pos c99, if_pos c201]
                          rw [hlog, hR]
                          exact ⟨rfl, rfl, rfl, rfl⟩
                        · have t201 : (v194).toInt ≤ 60 := ww_nlt c201
                          refine lv_iload hx hb dX0_log_204 (lv_at hl 1 rfl) ?_
                          refine lv_if_ne (tgt := 224) hx hb dX0_log_206 (by decide) (fun c206 => ?_) (fun c206 => ?_)
                          · skip
                            refine lv_goto (tgt := 309) hx hb dX0_log_224 (by decide) ?_
                            refine lv_iload hx hb dX0_log_309 (lv_at hl 2 rfl) ?_
                            refine xz_iret hx hb hr hlocks hW hS ?_ (Nat.le_of_ble_eq_true rfl) (Nat.le_of_ble_eq_true rfl) dX0_log_311
                            have hR : xf_logR X E v2 s i y n = (k, 0, X85) := by
                              rw [← hgo85]
                              subst e96 e194; simp only [xf_logG, if_neg c89, if_pos c99, if_neg c201, if_neg c206]
                            rw [hlog, hR]
                            exact ⟨rfl, rfl, rfl, rfl⟩
                          · skip
                            exact absurd c206 (by decide)
                      · have t99 : (v96).toInt ≤ 60 := ww_nlt c99
                        refine lv_iload hx hb dX0_log_102 (lv_at hl 8 rfl) ?_
                        refine lv_iload hx hb dX0_log_104 (lv_at hl 1 rfl) ?_
                        refine nv_iadd hx hb dX0_log_106 (fun v106 e106 => ?_)
                        have t106 : v106.toInt = y.toInt + k.toInt := by rw [e106]; exact ww_add _ _ (by omega) (by omega)
                        refine lv_istore (lv' := [(10, .int v106), (9, .int 0), (8, .int k), (7, va_rf (xx_so D (rd_ X 58 s) s.toNatClampNeg)), (6, va_rf (xx_o D v2)), (0, .ref o), (1, .int b), (2, .int s), (3, .int i), (4, .int y), (5, .int n)]) hx hb dX0_log_107 hl (by decide) rfl (fun ls hl => ?_)
                        refine lv_aload_n hx hb dX0_log_109 rfl (lv_at hl 5 rfl) ?_
                        refine xl_aload hx hb dX0_log_110 (lv_at hl 3 rfl) ?_
                        refine lv_iload_n hx hb dX0_log_112 rfl (lv_at hl 8 rfl) ?_
                        refine lv_i2l (v := (i).toInt64) hx hb dX0_log_113 rfl ?_
                        refine lv_iload hx hb dX0_log_114 (lv_at hl 2 rfl) ?_
                        refine lv_i2l (v := (k).toInt64) hx hb dX0_log_116 rfl ?_
                        refine nv_ladd hx hb dX0_log_117 (fun v117 e117 => ?_)
                        have hMr := xc_real lQ G o d0 X85 E D _ hW s v117 hin (by rw [h58]; exact h6) (by rw [h58]; exact hr3) (xv_E_fr iF85 hEs)
                        rw [h58] at hMr
                        refine xz_call (xz_rV (d := 2) (mc := 0) (ms := 0) (As := [va_rf (xx_so D (rd_ X 58 s) s.toNatClampNeg), .long v117]) (rest := []) (n := 2) ⟨hx, hb, hml, hown, hts⟩ hK hN hMr (lw_V q821 q823 qs5 q84 q824) (xr_main hK hW) (by decide +kernel) rfl ⟨Nat.le_of_ble_eq_true rfl, Nat.le_of_ble_eq_true rfl⟩ hl.1 rfl (Nat.le_of_ble_eq_true rfl) dX0_log_118 ⟨Nat.le_of_ble_eq_true rfl, Nat.le_of_ble_eq_true rfl⟩) hS (fun qT ceT XT ET DT H locs hPT hW hS wT1 wT2 wT3 => ?_) (fun vT XT ET DT H locs hPT hW hS => ?_)
                        · skip
                          obtain ⟨eXT, eET, eDT, hout⟩ := hPT
                          rw [eXT, eET, eDT] at hW
                          refine vx_catch (name := RX1) hown [] ⟨85, 190, 227, 47⟩ _ (by rw [htb]; rfl) (fun z hz => absurd hz List.not_mem_nil) (by decide) (by decide) (hts _ q126) (va_Nw.use rfl (hN.ca q128)) wT1 wT2 wT3 ?_
                          have hout9 : xf_logR X E v2 s i y n = (k, 1, X85) := by
                                  rw [← hgo85]
                                  rw [xf_logG]
                                  rw [if_neg c89, if_neg (show ¬ 60 < y + k from by rw [← e96]; exact c99), if_neg (show ¬ xf_out X85 s (i.toInt64 + k.toInt64) = 0 from by rw [← e117, hout]; decide)]
                          refine lv_astore (lv' := [(10, .ref qT), (9, .int 0), (8, .int k), (7, va_rf (xx_so D (rd_ X 58 s) s.toNatClampNeg)), (6, va_rf (xx_o D v2)), (0, .ref o), (1, .int b), (2, .int s), (3, .int i), (4, .int y), (5, .int n)]) hx hb dX0_log_227 hl (by decide) rfl (fun ls hl => ?_)
                          refine lv_iload hx hb dX0_log_229 (lv_at hl 2 rfl) ?_
                          refine lv_istore (lv' := [(11, .int k), (10, .ref qT), (9, .int 0), (8, .int k), (7, va_rf (xx_so D (rd_ X 58 s) s.toNatClampNeg)), (6, va_rf (xx_o D v2)), (0, .ref o), (1, .int b), (2, .int s), (3, .int i), (4, .int y), (5, .int n)]) hx hb dX0_log_231 hl (by decide) rfl (fun ls hl => ?_)
                          refine lv_iload hx hb dX0_log_233 (lv_at hl 10 rfl) ?_
                          refine lv_iload hx hb dX0_log_235 (lv_at hl 3 rfl) ?_
                          refine nv_iadd hx hb dX0_log_237 (fun v237 e237 => ?_)
                          have t237 : v237.toInt = y.toInt + k.toInt := by rw [e237]; exact ww_add _ _ (by omega) (by omega)
                          refine lv_istore (lv' := [(12, .int v237), (11, .int k), (10, .ref qT), (9, .int 0), (8, .int k), (7, va_rf (xx_so D (rd_ X 58 s) s.toNatClampNeg)), (6, va_rf (xx_o D v2)), (0, .ref o), (1, .int b), (2, .int s), (3, .int i), (4, .int y), (5, .int n)]) hx hb dX0_log_238 hl (by decide) rfl (fun ls hl => ?_)
                          have L240 : ∀ (fu240 : Nat) (z : Int32) (X240 : mm_S) (H : Heap) (locs : List Loc), (60 - z.toInt + 1 < fu240) → (1 ≤ z.toInt) → (z.toInt ≤ 61) → (xh_in X240 v2) → (xf_logC v2 fu240 z X240 = xf_logC v2 61 v237 X85) → xx_W G o d0 X240 E D H → va_S (xx_F o d0) sQ.heap H locs → ∀ ls : Array Slot, lv_has ls 15 [(12, .int z), (11, .int k), (10, .ref qT), (9, .int 0), (8, .int k), (7, va_rf (xx_so D (rd_ X 58 s) s.toNatClampNeg)), (6, va_rf (xx_o D v2)), (0, .ref o), (1, .int b), (2, .int s), (3, .int i), (4, .int y), (5, .int n)] → W pQ lQ eQ (wm_rc 3 0 0) sQ mQ ([Value.ref o, .int b, .int s, .int i, .int y, .int n] : List Value).toArray belowQ methQ cQ H locs 0 0 (xz_Q G o d0 (fun v X1 E1 D1 _ => E1 = E ∧ D1 = D ∧ v = some (.int (xf_log X E b s i y n).1) ∧ X1 = (xf_log X E b s i y n).2) RX1 (fun _ _ _ _ => False) belowQ ([Value.ref o, .int b, .int s, .int i, .int y, .int n] : List Value).toArray sQ 0 0) (F0 mQ 240 ls []) := by
                            intro fu240
                            induction fu240 with
                            | zero =>
                              intro z X240 H locs hm240 z0240 z1240 jH240 hgo240 hW hS ls hl
                              exact absurd hm240 (by omega)
                            | succ fu240 ih240 =>
                              intro z X240 H locs hm240 z0240 z1240 jH240 hgo240 hW hS ls hl
                              refine lv_iload hx hb dX0_log_240 (lv_at hl 0 rfl) ?_
                              refine lv_bipush (v := 60) hx hb dX0_log_242 (by decide) ?_
                              refine lv_icmp_gt (tgt := 267) hx hb dX0_log_244 (by decide) (fun c244 => ?_) (fun c244 => ?_)
                              · have t244 : 60 < (z).toInt := ww_lt c244
                                refine lv_iload hx hb dX0_log_267 (lv_at hl 1 rfl) ?_
                                refine xz_iret hx hb hr hlocks hW hS ?_ (Nat.le_of_ble_eq_true rfl) (Nat.le_of_ble_eq_true rfl) dX0_log_269
                                rw [hlog, hout9]
                                have hC : xf_logC v2 61 (y + k) X85 = X240 := by rw [← e237, ← hgo240, xf_logC, if_pos c244]
                                exact ⟨rfl, rfl, rfl, hC.symm⟩
                              · have t244 : (z).toInt ≤ 60 := ww_nlt c244
                                refine lv_iload hx hb dX0_log_247 (lv_at hl 3 rfl) ?_
                                refine lv_if_ne (tgt := 267) hx hb dX0_log_249 (by decide) (fun c249 => ?_) (fun c249 => ?_)
                                · skip
                                  exact absurd rfl c249
                                · skip
                                  refine xl_aload hx hb dX0_log_252 (lv_at hl 6 rfl) ?_
                                  refine xl_top jH240.1.1 ?_
                                  refine xb_getN hx hb hts hown hK hW jH240.1 (k := 13) (xf_hole jH240.2 (k := 13) (by decide)) (hN.nf q542) rfl (xb_va (j := 4) (xf_hole jH240.2 (k := 13) (by decide)) (by decide)) dX0_log_254 ?_
                                  refine lv_iload hx hb dX0_log_257 (lv_at hl 0 rfl) ?_
                                  refine lv_iconst (v := 0) hx hb dX0_log_259 (by decide) ?_
                                  refine xh_zast hx hb hK hW hS jH240 rfl (ww_in (by omega) (by omega)) dX0_log_260 (fun X260 H locs f260 hW hS => ?_)
                                  have jH240 : xh_in X260 v2 := by rw [f260]; exact xh_wa jH240 (by decide) (by decide)
                                  obtain ⟨v261, e261⟩ : ∃ yQ : Int32, yQ = z + 1 := ⟨_, rfl⟩
                                  refine lv_iinc (v := v261) (lv' := [(12, .int v261), (11, .int k), (10, .ref qT), (9, .int 0), (8, .int k), (7, va_rf (xx_so D (rd_ X 58 s) s.toNatClampNeg)), (6, va_rf (xx_o D v2)), (0, .ref o), (1, .int b), (2, .int s), (3, .int i), (4, .int y), (5, .int n)]) hx hb dX0_log_261 hl (k := 0) rfl (by rw [e261]; rfl) (by decide) rfl (fun ls hl => ?_)
                                  refine lv_goto (tgt := 240) hx hb dX0_log_264 (by decide) ?_
                                  have tb : v261.toInt = z.toInt + 1 := by rw [e261]; exact ww_inc' (by omega)
                                  exact ih240 v261 X260 H locs (by omega) (by omega) (by omega) jH240 (by rw [xf_logC] at hgo240; rw [f260, e261]; simp only [if_neg c244] at hgo240; exact hgo240) hW hS ls (lv_sub hl [0, 1, 2, 3, 4, 5, 6, 7, 8, 9, 10, 11, 12] rfl)
                          exact L240 61 v237 X85 H locs (by show _ < (61 : Int); omega) (by omega) (by omega) iH85 (rfl) hW hS ls (lv_sub hl [0, 1, 2, 3, 4, 5, 6, 7, 8, 9, 10, 11, 12] rfl)
                        obtain ⟨eXT, eET, eDT, hout, evT⟩ := hPT
                        rw [eXT, eET, eDT] at hW
                        rw [evT]
                        refine lv_dstore (lv' := [(11, .double (xf_dv X85 E s v117.toInt32)), (10, .int v106), (9, .int 0), (8, .int k), (7, va_rf (xx_so D (rd_ X 58 s) s.toNatClampNeg)), (6, va_rf (xx_o D v2)), (0, .ref o), (1, .int b), (2, .int s), (3, .int i), (4, .int y), (5, .int n)]) hx hb dX0_log_121 hl (by decide) rfl (fun ls hl => ?_)
                        refine xl_aload hx hb dX0_log_123 (lv_at hl 5 rfl) ?_
                        refine xl_top iH85.1.1 ?_
                        refine xb_getN hx hb hts hown hK hW iH85.1 (k := 12) (xf_hole iH85.2 (k := 12) (by decide)) (hN.nf q540) rfl (xb_va (j := 3) (xf_hole iH85.2 (k := 12) (by decide)) (by decide)) dX0_log_125 ?_
                        refine lv_iload hx hb dX0_log_128 (lv_at hl 1 rfl) ?_
                        refine wm_join (P := fun w171 : Int32 => w171 = xf_logv X85 v2 v106 (xf_dv X85 E s v117.toInt32)) (j := 171) (rest := [.int v106, .ref (xb_ D v2 + 3)]) (ls := ls) (fun w171 ew171 => ?_) (fun J171 => ?_)
                        · skip
                          refine xh_iast hx hb hK hW hS iH85 2 (by decide) 70 rfl (ww_in (by omega) (by omega)) dX0_log_171 (fun X171 H locs f171 hW hS => ?_)
                          have iH85 : xh_in X171 v2 := by rw [f171]; exact xh_wa iH85 (by decide) (by decide)
                          refine xl_aload hx hb dX0_log_172 (lv_at hl 5 rfl) ?_
                          refine xl_top iH85.1.1 ?_
                          refine xb_getN hx hb hts hown hK hW iH85.1 (k := 13) (xf_hole iH85.2 (k := 13) (by decide)) (hN.nf q542) rfl (xb_va (j := 4) (xf_hole iH85.2 (k := 13) (by decide)) (by decide)) dX0_log_174 ?_
                          refine lv_iload hx hb dX0_log_177 (lv_at hl 1 rfl) ?_
                          refine lv_iconst (v := 1) hx hb dX0_log_179 (by decide) ?_
                          refine xh_zast hx hb hK hW hS iH85 rfl (ww_in (by omega) (by omega)) dX0_log_180 (fun X180 H locs f180 hW hS => ?_)
                          have iH85 : xh_in X180 v2 := by rw [f180]; exact xh_wa iH85 (by decide) (by decide)
                          obtain ⟨v181, e181⟩ : ∃ yQ : Int32, yQ = k + 1 := ⟨_, rfl⟩
                          refine lv_iinc (v := v181) (lv' := [(8, .int v181), (11, .double (xf_dv X85 E s v117.toInt32)), (10, .int v106), (9, .int 0), (7, va_rf (xx_so D (rd_ X 58 s) s.toNatClampNeg)), (6, va_rf (xx_o D v2)), (0, .ref o), (1, .int b), (2, .int s), (3, .int i), (4, .int y), (5, .int n)]) hx hb dX0_log_181 hl (k := 3) rfl (by rw [e181]; rfl) (by decide) (by simp [va_rf_c]) (fun ls hl => ?_)
                          refine lv_goto (tgt := 85) hx hb dX0_log_184 (by decide) ?_
                          have tb : v181.toInt = k.toInt + 1 := by rw [e181]; exact ww_inc t89
                          have hs : X180 = xf_logX X85 v2 v106 (xf_dv X85 E s v117.toInt32) := by rw [f180, f171, ew171]; rfl
                          exact ih85 v181 X180 H locs (by omega) (by omega) (by omega) (by rw [hs]; exact (iF85.wa (by decide)).wa (by decide)) iH85 (by rw [hs, e106, e117]; rw [xf_logG] at hgo85; rw [e181]; simp only [if_neg c89, if_neg (show ¬ 60 < y + k from by rw [← e96]; exact c99), if_pos (show xf_out X85 s (i.toInt64 + k.toInt64) = 0 from by rw [← e117]; exact hout)] at hgo85; exact hgo85) hW hS ls (lv_sub hl [3, 0, 4, 5, 6, 7, 8, 9, 10, 11] rfl)
                        refine lv_dload hx hb dX0_log_130 (lv_at hl 0 rfl) ?_
                        refine lv_dload hx hb dX0_log_132 (lv_at hl 0 rfl) ?_
                        refine lv_dcmp hx hb dX0_log_134 ?_
                        refine lv_if_ne (tgt := 144) hx hb dX0_log_135 (by decide) (fun c135 => ?_) (fun c135 => ?_)
                        · skip
                          refine xl_aload hx hb dX0_log_144 (lv_at hl 5 rfl) ?_
                          refine xl_top iH85.1.1 ?_
                          refine xb_getN hx hb hts hown hK hW iH85.1 (k := 13) (xf_hole iH85.2 (k := 13) (by decide)) (hN.nf q542) rfl (xb_va (j := 4) (xf_hole iH85.2 (k := 13) (by decide)) (by decide)) dX0_log_146 ?_
                          refine lv_iload hx hb dX0_log_149 (lv_at hl 1 rfl) ?_
                          refine lv_iconst (v := 1) hx hb dX0_log_151 (by decide) ?_
                          refine nv_isub hx hb dX0_log_152 (fun v152 e152 => ?_)
                          have t152 : v152.toInt = v106.toInt - 1 := by rw [e152]; exact ww_sub1 (by omega)
                          refine xh_zald hx hb hK hW iH85 (ww_in (by omega) (by omega)) dX0_log_153 ?_
                          refine lv_if_eq (tgt := 170) hx hb dX0_log_154 (by decide) (fun c154 => ?_) (fun c154 => ?_)
                          · skip
                            refine lv_iconst (v := 0) hx hb dX0_log_170 (by decide) ?_
                            exact J171 _ (by subst e96 e106 e117 e152; simp only [if_neg c89, if_neg c99, if_neg c135, if_pos c154, xf_logv])
                          · skip
                            refine xl_aload hx hb dX0_log_157 (lv_at hl 5 rfl) ?_
                            refine xl_top iH85.1.1 ?_
                            refine xb_getN hx hb hts hown hK hW iH85.1 (k := 12) (xf_hole iH85.2 (k := 12) (by decide)) (hN.nf q540) rfl (xb_va (j := 3) (xf_hole iH85.2 (k := 12) (by decide)) (by decide)) dX0_log_159 ?_
                            refine lv_iload hx hb dX0_log_162 (lv_at hl 1 rfl) ?_
                            refine lv_iconst (v := 1) hx hb dX0_log_164 (by decide) ?_
                            refine nv_isub hx hb dX0_log_165 (fun v165 e165 => ?_)
                            have t165 : v165.toInt = v106.toInt - 1 := by rw [e165]; exact ww_sub1 (by omega)
                            refine xh_iald hx hb hK hW iH85 2 (by decide) 70 rfl (ww_in (by omega) (by omega)) dX0_log_166 ?_
                            refine lv_goto (tgt := 171) hx hb dX0_log_167 (by decide) ?_
                            exact J171 _ (by subst e96 e106 e117 e152 e165; simp only [if_neg c89, if_neg c99, if_neg c135, if_neg c154, xf_logv])
                        · skip
                          refine lv_dload hx hb dX0_log_138 (lv_at hl 0 rfl) ?_
                          refine lv_d2i hx hb dX0_log_140 ?_
                          refine lv_goto (tgt := 171) hx hb dX0_log_141 (by decide) ?_
                          exact J171 _ (by subst e96 e106 e117; simp only [if_neg c89, if_neg c99, if_pos c135, xf_logv])
                exact L85 61 0 X H locs (by show _ - 0 < (61 : Int); omega) (by decide) (by show 0 ≤ _; omega) (fr_.rf X) (by rw [e2]; exact hi9) (rfl) hW hS ls (lv_sub hl [0, 1, 2, 3, 4, 5, 6, 7, 8, 9] rfl)
              · skip
                refine lv_bipush (v := (-12)) hx hb dX0_log_76 (by decide) ?_
                refine xz_iret hx hb hr hlocks hW hS ?_ (Nat.le_of_ble_eq_true rfl) (Nat.le_of_ble_eq_true rfl) dX0_log_78
                subst e2 e13 e26 e39; refine ⟨rfl, rfl, ?_, ?_⟩ <;> simp only [xf_log, if_neg c9, if_neg c16, if_neg c29, if_neg c42, if_neg c57, if_pos c65, if_pos c73]
        · skip
          refine lv_iconst (v := (-1)) hx hb dX0_log_45 (by decide) ?_
          refine xz_iret hx hb hr hlocks hW hS ?_ (Nat.le_of_ble_eq_true rfl) (Nat.le_of_ble_eq_true rfl) dX0_log_46
          subst e2 e13 e26 e39; refine ⟨rfl, rfl, ?_, ?_⟩ <;> simp only [xf_log, if_neg c9, if_neg c16, if_neg c29, if_pos c42]
