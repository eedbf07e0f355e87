theorem re_ws (E : mm_E) (k : Nat) (i : Int32) (v : Int64) : re_ (we_ E k i v) k i = v := by
  unfold re_ we_
  rw [mm_ue_a, if_pos rfl]

set_option maxHeartbeats 4000000 in
theorem xc_widened (lQ : Launch) (fv : UInt32) (hne : Op.cmpValue (FP.fcmp fv fv) .l = 0 → vf_n64 (FP.f2d fv)) : pp_Met lQ yX0_widened (ws_ yX0_widened cX0_widened 1 (some .double)) 0 [.float fv] (some (.double (xr_wide fv))) := by
  refine pp_start (own := RX0) (by decide +kernel) (Nat.le_of_ble_eq_true rfl) rfl (fun pQ eQ sQ mQ belowQ methQ cQ hx hb hml hr hlocks hts hown ls hl => ?_)
  have hl : lv_has ls 1 [(0, .float fv)] := hl
  refine lv_fload_n hx hb dX0_widened_0 rfl (lv_at hl 0 rfl) ?_
  refine lv_fload_n hx hb dX0_widened_1 rfl (lv_at hl 0 rfl) ?_
  refine lv_fcmp hx hb dX0_widened_2 ?_
  refine lv_if_eq (tgt := 12) hx hb dX0_widened_3 (by decide) (fun c3 => ?_) (fun c3 => ?_)
  · skip
    refine lv_fload_n hx hb dX0_widened_12 rfl (lv_at hl 0 rfl) ?_
    refine lv_f2d hx hb dX0_widened_13 (hne c3) ?_
    refine pp_dret hx hb hr hlocks ?_ dX0_widened_14
    unfold xr_wide; first | rw [if_pos c3] | rw [if_neg c3]
  · skip
    refine lv_ldc2d (v := 9221120237041090560) hx hb hown (hts _ q828) dX0_widened_6 ?_
    refine lv_goto (tgt := 14) hx hb dX0_widened_9 (by decide) ?_
    refine pp_dret hx hb hr hlocks ?_ dX0_widened_14
    unfold xr_wide; first | rw [if_pos c3] | rw [if_neg c3]

set_option maxHeartbeats 4000000 in
theorem xc_whole (lQ : Launch) (dv : UInt64) : pp_Met lQ yX0_whole (ws_ yX0_whole cX0_whole 2 (some .long)) 0 [.double dv] (some (.long (xr_whole dv))) := by
  refine pp_start (own := RX0) (by decide +kernel) (Nat.le_of_ble_eq_true rfl) rfl (fun pQ eQ sQ mQ belowQ methQ cQ hx hb hml hr hlocks hts hown ls hl => ?_)
  have hl : lv_has ls 2 [(0, .double dv)] := hl
  refine lv_dload_n hx hb dX0_whole_0 rfl (lv_at hl 0 rfl) ?_
  refine lv_dload_n hx hb dX0_whole_1 rfl (lv_at hl 0 rfl) ?_
  refine lv_dcmp hx hb dX0_whole_2 ?_
  refine lv_if_eq (tgt := 12) hx hb dX0_whole_3 (by decide) (fun c3 => ?_) (fun c3 => ?_)
  · skip
    refine lv_dload_n hx hb dX0_whole_12 rfl (lv_at hl 0 rfl) ?_
    refine lv_d2l hx hb dX0_whole_13 ?_
    refine pp_lret hx hb hr hlocks ?_ dX0_whole_14
    unfold xr_whole; first | rw [if_pos c3] | rw [if_neg c3]
  · skip
    refine lv_ldc2 (v := 9223372036854775807) hx hb hown (hts _ q1630) dX0_whole_6 ?_
    refine lv_goto (tgt := 14) hx hb dX0_whole_9 (by decide) ?_
    refine pp_lret hx hb hr hlocks ?_ dX0_whole_14
    unfold xr_whole; first | rw [if_pos c3] | rw [if_neg c3]

set_option maxHeartbeats 4000000 in
theorem xc_sortOf (lQ : Launch) (G : wm_G) (o d0 : Nat) (X : mm_S) (E : mm_E) (D : xg) (s : Int32) (hin : vp_in s 6) (h6 : -6 ≤ (rd_ X 58 s).toInt) : xw_Met lQ G o d0 yX0_sortOf (ws_ yX0_sortOf cX0_sortOf 1 (some .int)) 0 X E D ([va_rf (xx_so D (rd_ X 58 s) s.toNatClampNeg)] : List Value) (some (.int (xr_st (rd_ X 58 s)))) X E := by
  refine xw_start (own := RX0) (by decide +kernel) (by simp [lg_sl, va_rf_c, vc_i, vc_r, vc_l]) rfl (fun pQ eQ sQ mQ belowQ methQ cQ hx hb hml hr hlocks hts hown hK hN H hW hS ls hl => ?_)
  have hl : lv_has ls 1 [(0, va_rf (xx_so D (rd_ X 58 s) s.toNatClampNeg))] := by simpa [lv_args, va_rf_c, vc_i, vc_r, vc_l] using hl
  generalize hlc : ([] : List Loc) = locs at hS ⊢
  refine xl_aload_n hx hb dX0_sortOf_0 rfl (lv_at hl 0 rfl) ?_
  refine xr_inst (k := 0) (kI := 0) hx hb hts hown hK hN hW hin h6 (by decide) rfl (nm := "[B") rfl q1606 dX0_sortOf_1 ?_
  refine lv_if_eq (tgt := 11) hx hb dX0_sortOf_4 (by decide) (fun c4 => ?_) (fun c4 => ?_)
  · skip
    refine xl_aload_n hx hb dX0_sortOf_11 rfl (lv_at hl 0 rfl) ?_
    refine xr_inst (k := 1) (kI := 1) hx hb hts hown hK hN hW hin h6 (by decide) rfl (nm := "[C") rfl q1607 dX0_sortOf_12 ?_
    refine lv_if_eq (tgt := 22) hx hb dX0_sortOf_15 (by decide) (fun c15 => ?_) (fun c15 => ?_)
    · skip
      refine xl_aload_n hx hb dX0_sortOf_22 rfl (lv_at hl 0 rfl) ?_
      refine xr_inst (k := 2) (kI := 2) hx hb hts hown hK hN hW hin h6 (by decide) rfl (nm := "[I") rfl q1608 dX0_sortOf_23 ?_
      refine lv_if_eq (tgt := 33) hx hb dX0_sortOf_26 (by decide) (fun c26 => ?_) (fun c26 => ?_)
      · skip
        refine xl_aload_n hx hb dX0_sortOf_33 rfl (lv_at hl 0 rfl) ?_
        refine xr_inst (k := 3) (kI := 3) hx hb hts hown hK hN hW hin h6 (by decide) rfl (nm := "[F") rfl q819 dX0_sortOf_34 ?_
        refine lv_if_eq (tgt := 44) hx hb dX0_sortOf_37 (by decide) (fun c37 => ?_) (fun c37 => ?_)
        · skip
          refine xl_aload_n hx hb dX0_sortOf_44 rfl (lv_at hl 0 rfl) ?_
          refine xr_inst (k := 4) (kI := 4) hx hb hts hown hK hN hW hin h6 (by decide) rfl (nm := "[D") rfl q820 dX0_sortOf_45 ?_
          refine lv_if_eq (tgt := 55) hx hb dX0_sortOf_48 (by decide) (fun c48 => ?_) (fun c48 => ?_)
          · skip
            refine lv_iconst (v := (-1)) hx hb dX0_sortOf_55 (by decide) ?_
            refine xw_iret hx hb hr hlocks hW hS ?_ dX0_sortOf_56
            have hres : xr_st (rd_ X 58 s) = (-1) := by rw [← xr_sort h6]; simp only [if_pos c4, if_pos c15, if_pos c26, if_pos c37, if_pos c48]
            exact ⟨by rw [hres], rfl, rfl⟩
          · skip
            refine lv_iconst (v := 4) hx hb dX0_sortOf_51 (by decide) ?_
            refine lv_goto (tgt := 56) hx hb dX0_sortOf_52 (by decide) ?_
            refine xw_iret hx hb hr hlocks hW hS ?_ dX0_sortOf_56
            have hres : xr_st (rd_ X 58 s) = 4 := by rw [← xr_sort h6]; simp only [if_pos c4, if_pos c15, if_pos c26, if_pos c37, if_neg c48]
            exact ⟨by rw [hres], rfl, rfl⟩
        · skip
          refine lv_iconst (v := 3) hx hb dX0_sortOf_40 (by decide) ?_
          refine lv_goto (tgt := 56) hx hb dX0_sortOf_41 (by decide) ?_
          refine xw_iret hx hb hr hlocks hW hS ?_ dX0_sortOf_56
          have hres : xr_st (rd_ X 58 s) = 3 := by rw [← xr_sort h6]; simp only [if_pos c4, if_pos c15, if_pos c26, if_neg c37]
          exact ⟨by rw [hres], rfl, rfl⟩
      · skip
        refine lv_iconst (v := 2) hx hb dX0_sortOf_29 (by decide) ?_
        refine lv_goto (tgt := 56) hx hb dX0_sortOf_30 (by decide) ?_
        refine xw_iret hx hb hr hlocks hW hS ?_ dX0_sortOf_56
        have hres : xr_st (rd_ X 58 s) = 2 := by rw [← xr_sort h6]; simp only [if_pos c4, if_pos c15, if_neg c26]
        exact ⟨by rw [hres], rfl, rfl⟩
    · skip
      refine lv_iconst (v := 1) hx hb dX0_sortOf_18 (by decide) ?_
      refine lv_goto (tgt := 56) hx hb dX0_sortOf_19 (by decide) ?_
      refine xw_iret hx hb hr hlocks hW hS ?_ dX0_sortOf_56
      have hres : xr_st (rd_ X 58 s) = 1 := by rw [← xr_sort h6]; simp only [if_pos c4, if_neg c15]
      exact ⟨by rw [hres], rfl, rfl⟩
  · skip
    refine lv_iconst (v := 0) hx hb dX0_sortOf_7 (by decide) ?_
    refine lv_goto (tgt := 56) hx hb dX0_sortOf_8 (by decide) ?_
    refine xw_iret hx hb hr hlocks hW hS ?_ dX0_sortOf_56
    have hres : xr_st (rd_ X 58 s) = 0 := by rw [← xr_sort h6]; simp only [if_neg c4]
    exact ⟨by rw [hres], rfl, rfl⟩

set_option maxHeartbeats 4000000 in
theorem xc_sizeOf (lQ : Launch) (G : wm_G) (o d0 : Nat) (X : mm_S) (E : mm_E) (D : xg) (s : Int32) (hin : vp_in s 6) (h6 : -6 ≤ (rd_ X 58 s).toInt) (hno : ¬ xr_st (rd_ X 58 s) = -1) : xw_Met lQ G o d0 yX0_sizeOf (ws_ yX0_sizeOf cX0_sizeOf 1 (some .int)) 1 X E D ([va_rf (xx_so D (rd_ X 58 s) s.toNatClampNeg)] : List Value) (some (.int (rd_ X 100 s))) X E := by
  refine xw_start (own := RX0) (by decide +kernel) (by simp [lg_sl, va_rf_c, vc_i, vc_r, vc_l]) rfl (fun pQ eQ sQ mQ belowQ methQ cQ hx hb hml hr hlocks hts hown hK hN H hW hS ls hl => ?_)
  have hl : lv_has ls 1 [(0, va_rf (xx_so D (rd_ X 58 s) s.toNatClampNeg))] := by simpa [lv_args, va_rf_c, vc_i, vc_r, vc_l] using hl
  generalize hlc : ([] : List Loc) = locs at hS ⊢
  refine xl_aload_n hx hb dX0_sizeOf_0 rfl (lv_at hl 0 rfl) ?_
  refine xw_p (xw_rS (As := [va_rf (xx_so D (rd_ X 58 s) s.toNatClampNeg)]) (rest := []) (n := 1) ⟨hx, hb, hml, hown, hts⟩ hK hN hW (xc_sortOf lQ G o d0 X E D s hin h6) (lw_S q1603 q1604 q84 q1605) (by decide +kernel) rfl ⟨Nat.le_of_ble_eq_true rfl, Nat.le_of_ble_eq_true rfl⟩ hl.1 rfl (Nat.le_of_ble_eq_true rfl) dX0_sizeOf_1 ⟨Nat.le_of_ble_eq_true rfl, Nat.le_of_ble_eq_true rfl⟩) hS (fun v1 H locs e1 hW hS => ?_)
  by_cases k4_0 : v1 = 0
  · skip
    refine lv_tableIn (off := 32) (tgt := 36) hx hb dX0_sizeOf_4 (by rw [k4_0]; decide) (by rw [k4_0]; decide) (by rw [k4_0]; rfl) (by decide) ?_
    refine xl_aload_n hx hb dX0_sizeOf_36 rfl (lv_at hl 0 rfl) ?_
    refine xr_cast (k := 0) (kI := 0) hx hb hts hown hK hW hin h6 (by decide) rfl (by rw [← e1]; exact k4_0) (nm := "[B") rfl q1606 dX0_sizeOf_37 ?_
    refine xr_len (k := 0) (kI := 0) hx hb hK hW hin h6 (by decide) rfl (by rw [← e1]; exact k4_0) dX0_sizeOf_40 ?_
    refine xw_iret hx hb hr hlocks hW hS ?_ dX0_sizeOf_41
    have hres : rd_ X 100 s = (rd_ X 100 s) := by subst e1; rfl
    exact ⟨by rw [hres], rfl, rfl⟩
  · skip
    by_cases k4_1 : v1 = 1
    · skip
      refine lv_tableIn (off := 38) (tgt := 42) hx hb dX0_sizeOf_4 (by rw [k4_1]; decide) (by rw [k4_1]; decide) (by rw [k4_1]; rfl) (by decide) ?_
      refine xl_aload_n hx hb dX0_sizeOf_42 rfl (lv_at hl 0 rfl) ?_
      refine xr_cast (k := 1) (kI := 1) hx hb hts hown hK hW hin h6 (by decide) rfl (by rw [← e1]; exact k4_1) (nm := "[C") rfl q1607 dX0_sizeOf_43 ?_
      refine xr_len (k := 1) (kI := 1) hx hb hK hW hin h6 (by decide) rfl (by rw [← e1]; exact k4_1) dX0_sizeOf_46 ?_
      refine xw_iret hx hb hr hlocks hW hS ?_ dX0_sizeOf_47
      have hres : rd_ X 100 s = (rd_ X 100 s) := by subst e1; rfl
      exact ⟨by rw [hres], rfl, rfl⟩
    · skip
      by_cases k4_2 : v1 = 2
      · skip
        refine lv_tableIn (off := 44) (tgt := 48) hx hb dX0_sizeOf_4 (by rw [k4_2]; decide) (by rw [k4_2]; decide) (by rw [k4_2]; rfl) (by decide) ?_
        refine xl_aload_n hx hb dX0_sizeOf_48 rfl (lv_at hl 0 rfl) ?_
        refine xr_cast (k := 2) (kI := 2) hx hb hts hown hK hW hin h6 (by decide) rfl (by rw [← e1]; exact k4_2) (nm := "[I") rfl q1608 dX0_sizeOf_49 ?_
        refine xr_len (k := 2) (kI := 2) hx hb hK hW hin h6 (by decide) rfl (by rw [← e1]; exact k4_2) dX0_sizeOf_52 ?_
        refine xw_iret hx hb hr hlocks hW hS ?_ dX0_sizeOf_53
        have hres : rd_ X 100 s = (rd_ X 100 s) := by subst e1; rfl
        exact ⟨by rw [hres], rfl, rfl⟩
      · skip
        by_cases k4_3 : v1 = 3
        · skip
          refine lv_tableIn (off := 50) (tgt := 54) hx hb dX0_sizeOf_4 (by rw [k4_3]; decide) (by rw [k4_3]; decide) (by rw [k4_3]; rfl) (by decide) ?_
          refine xl_aload_n hx hb dX0_sizeOf_54 rfl (lv_at hl 0 rfl) ?_
          refine xr_cast (k := 3) (kI := 3) hx hb hts hown hK hW hin h6 (by decide) rfl (by rw [← e1]; exact k4_3) (nm := "[F") rfl q819 dX0_sizeOf_55 ?_
          refine xr_len (k := 3) (kI := 3) hx hb hK hW hin h6 (by decide) rfl (by rw [← e1]; exact k4_3) dX0_sizeOf_58 ?_
          refine xw_iret hx hb hr hlocks hW hS ?_ dX0_sizeOf_59
          have hres : rd_ X 100 s = (rd_ X 100 s) := by subst e1; rfl
          exact ⟨by rw [hres], rfl, rfl⟩
        · skip
          refine lv_tableOut (tgt := 60) hx hb dX0_sizeOf_4 (by have hk4_0 : (v1).toInt ≠ 0 := ww_ne k4_0; have hk4_1 : (v1).toInt ≠ 1 := ww_ne k4_1; have hk4_2 : (v1).toInt ≠ 2 := ww_ne k4_2; have hk4_3 : (v1).toInt ≠ 3 := ww_ne k4_3; omega) (by decide) ?_
          have zl0 : (0 : Int32).toInt = 0 := by decide
          have zl1 : (1 : Int32).toInt = 1 := by decide
          have zl2 : (2 : Int32).toInt = 2 := by decide
          have zl3 : (3 : Int32).toInt = 3 := by decide
          have zl4 : (4 : Int32).toInt = 4 := by decide
          have hk4_0 := ww_ne k4_0
          have hk4_1 := ww_ne k4_1
          have hk4_2 := ww_ne k4_2
          have hk4_3 := ww_ne k4_3
          have h4 : xr_st (rd_ X 58 s) = 4 := by
            rcases xr_st_t h6 with q | q
            · exact absurd q hno
            · rw [e1] at hk4_0 hk4_1 hk4_2 hk4_3
              exact ww_eq (by have : (4 : Int32).toInt = 4 := by decide
                              omega)
          refine xl_aload_n hx hb dX0_sizeOf_60 rfl (lv_at hl 0 rfl) ?_
          refine xr_cast (k := 4) (kI := 4) hx hb hts hown hK hW hin h6 (by decide) rfl h4 (nm := "[D") rfl q820 dX0_sizeOf_61 ?_
          refine xr_len (k := 4) (kI := 4) hx hb hK hW hin h6 (by decide) rfl h4 dX0_sizeOf_64 ?_
          refine xw_iret hx hb hr hlocks hW hS ?_ dX0_sizeOf_65
          have hres : rd_ X 100 s = (rd_ X 100 s) := by subst e1; rfl
          exact ⟨by rw [hres], rfl, rfl⟩

set_option maxHeartbeats 4000000 in
theorem xc_refusal (lQ : Launch) (G : wm_G) (o d0 : Nat) (X : mm_S) (E : mm_E) (D : xg) (s : Int32) (i : Int32) (hKs : xv_K X) : xw_Met lQ G o d0 yX0_refusal (ws_ yX0_refusal cX0_refusal 4 (some .int)) 2 X E D [Value.ref o, .int s, .int i] (some (.int (xf_refusal X s i))) X E := by
  refine xw_start (own := RX0) (by decide +kernel) (Nat.le_of_ble_eq_true rfl) rfl (fun pQ eQ sQ mQ belowQ methQ cQ hx hb hml hr hlocks hts hown hK hN H hW hS ls hl => ?_)
  have hl : lv_has ls 4 [(0, .ref o), (1, .int s), (2, .int i)] := hl
  generalize hlc : ([] : List Loc) = locs at hS ⊢
  refine lv_iload_n hx hb dX0_refusal_0 rfl (lv_at hl 1 rfl) ?_
  refine pp_calli (As := [.int s]) (rest := []) (n := 1) ⟨hx, hb, hml, hown, hts⟩ (xc_isShelf lQ s) (lw_S q816 q817 q84 q818) (by decide +kernel) rfl ⟨Nat.le_of_ble_eq_true rfl, Nat.le_of_ble_eq_true rfl⟩ hl.1 rfl (Nat.le_of_ble_eq_true rfl) dX0_refusal_1 ⟨Nat.le_of_ble_eq_true rfl, Nat.le_of_ble_eq_true rfl⟩ (fun v1 e1 => ?_)
  refine lv_if_ne (tgt := 9) hx hb dX0_refusal_4 (by decide) (fun c4 => ?_) (fun c4 => ?_)
  · skip
    have hs := ff_isShelf_t (s := s) (by rw [← e1]; exact c4)
    have hin : vp_in s 6 := ww_in hs.1 (by omega)
    have h6 := hKs s hs.1 (by omega)
    refine lv_aload_n hx hb dX0_refusal_9 rfl (lv_at hl 0 rfl) ?_
    refine xx_getr hx hb hts hown hK hW 58 rfl rfl (by decide) (by decide) q331 dX0_refusal_10 ?_
    refine lv_iload_n hx hb dX0_refusal_13 rfl (lv_at hl 1 rfl) ?_
    refine xx_kald hx hb hK hW hin dX0_refusal_14 ?_
    refine xl_astore_n (lv' := [(3, va_rf (xx_so D (rd_ X 58 s) s.toNatClampNeg)), (0, .ref o), (1, .int s), (2, .int i)]) hx hb dX0_refusal_15 rfl hl (by decide) rfl (fun ls hl => ?_)
    refine xl_aload_n hx hb dX0_refusal_16 rfl (lv_at hl 0 rfl) ?_
    refine xr_ifnonnull (tgt := 23) h6 hx hb dX0_refusal_17 (by decide) (fun c17 => ?_) (fun c17 => ?_)
    · skip
      refine xl_aload_n hx hb dX0_refusal_23 rfl (lv_at hl 0 rfl) ?_
      refine xw_p (xw_rS (As := [va_rf (xx_so D (rd_ X 58 s) s.toNatClampNeg)]) (rest := []) (n := 1) ⟨hx, hb, hml, hown, hts⟩ hK hN hW (xc_sortOf lQ G o d0 X E D s hin h6) (lw_S q1603 q1604 q84 q1605) (by decide +kernel) rfl ⟨Nat.le_of_ble_eq_true rfl, Nat.le_of_ble_eq_true rfl⟩ hl.1 rfl (Nat.le_of_ble_eq_true rfl) dX0_refusal_24 ⟨Nat.le_of_ble_eq_true rfl, Nat.le_of_ble_eq_true rfl⟩) hS (fun v24 H locs e24 hW hS => ?_)
      refine lv_iconst (v := (-1)) hx hb dX0_refusal_27 (by decide) ?_
      refine lv_icmp_ne (tgt := 34) hx hb dX0_refusal_28 (by decide) (fun c28 => ?_) (fun c28 => ?_)
      · skip
        refine lv_iload_n hx hb dX0_refusal_34 rfl (lv_at hl 3 rfl) ?_
        refine lv_i2l (v := (i).toInt64) hx hb dX0_refusal_35 rfl ?_
        refine lv_lconst (v := 0) hx hb dX0_refusal_36 (by decide) ?_
        refine xl_aload_n hx hb dX0_refusal_37 rfl (lv_at hl 0 rfl) ?_
        refine xw_p (xw_rS (As := [va_rf (xx_so D (rd_ X 58 s) s.toNatClampNeg)]) (rest := [.long 0, .long (i).toInt64]) (n := 1) ⟨hx, hb, hml, hown, hts⟩ hK hN hW (xc_sizeOf lQ G o d0 X E D s hin h6 (by rw [← e24]; exact c28)) (lw_S q1614 q1615 q84 q1616) (by decide +kernel) rfl ⟨Nat.le_of_ble_eq_true rfl, Nat.le_of_ble_eq_true rfl⟩ hl.1 rfl (Nat.le_of_ble_eq_true rfl) dX0_refusal_38 ⟨Nat.le_of_ble_eq_true rfl, Nat.le_of_ble_eq_true rfl⟩) hS (fun v38 H locs e38 hW hS => ?_)
        refine lv_iconst (v := 1) hx hb dX0_refusal_41 (by decide) ?_
        refine nv_isub hx hb dX0_refusal_42 (fun v42 e42 => ?_)
        refine lv_i2l (v := (v42).toInt64) hx hb dX0_refusal_43 rfl ?_
        refine xx_within (rest := []) i 0 v42 ⟨hx, hb, hml, hown, hts⟩ rfl (by decide) rfl q459 hl.1 rfl rfl (Nat.le_of_ble_eq_true rfl) rfl rfl ⟨Nat.le_of_ble_eq_true rfl, Nat.le_of_ble_eq_true rfl⟩ dX0_refusal_44 (fun v44 e44 => ?_)
        refine lv_if_eq (tgt := 54) hx hb dX0_refusal_47 (by decide) (fun c47 => ?_) (fun c47 => ?_)
        · skip
          refine lv_bipush (v := (-13)) hx hb dX0_refusal_54 (by decide) ?_
          refine xw_iret hx hb hr hlocks hW hS ?_ dX0_refusal_56
          have hres : xf_refusal X s i = (-13) := by subst e1 e24 e38 e42 e44; simp only [xf_refusal, if_neg c4, if_neg c17, if_neg c28, if_pos c47]
          exact ⟨by rw [hres], rfl, rfl⟩
        · skip
          refine lv_iconst (v := 0) hx hb dX0_refusal_50 (by decide) ?_
          refine lv_goto (tgt := 56) hx hb dX0_refusal_51 (by decide) ?_
          refine xw_iret hx hb hr hlocks hW hS ?_ dX0_refusal_56
          have hres : xf_refusal X s i = 0 := by subst e1 e24 e38 e42 e44; simp only [xf_refusal, if_neg c4, if_neg c17, if_neg c28, if_neg c47]
          exact ⟨by rw [hres], rfl, rfl⟩
      · skip
        refine lv_bipush (v := (-12)) hx hb dX0_refusal_31 (by decide) ?_
        refine xw_iret hx hb hr hlocks hW hS ?_ dX0_refusal_33
        have hres : xf_refusal X s i = (-12) := by subst e1 e24; simp only [xf_refusal, if_neg c4, if_neg c17, if_pos c28]
        exact ⟨by rw [hres], rfl, rfl⟩
    · skip
      refine lv_bipush (v := (-11)) hx hb dX0_refusal_20 (by decide) ?_
      refine xw_iret hx hb hr hlocks hW hS ?_ dX0_refusal_22
      have hres : xf_refusal X s i = (-11) := by subst e1; simp only [xf_refusal, if_neg c4, if_pos c17]
      exact ⟨by rw [hres], rfl, rfl⟩
  · skip
    refine lv_iconst (v := (-1)) hx hb dX0_refusal_7 (by decide) ?_
    refine xw_iret hx hb hr hlocks hW hS ?_ dX0_refusal_8
    have hres : xf_refusal X s i = (-1) := by subst e1; simp only [xf_refusal, if_pos c4]
    exact ⟨by rw [hres], rfl, rfl⟩

set_option maxHeartbeats 4000000 in
theorem xc_isOfReals (lQ : Launch) (G : wm_G) (o d0 : Nat) (X : mm_S) (E : mm_E) (D : xg) (s : Int32) (hKs : xv_K X) : xw_Met lQ G o d0 yX0_isOfReals (ws_ yX0_isOfReals cX0_isOfReals 2 (some .boolean)) 2 X E D [Value.ref o, .int s] (some (.int (xf_isOfReals X s))) X E := by
  refine xw_start (own := RX0) (by decide +kernel) (Nat.le_of_ble_eq_true rfl) rfl (fun pQ eQ sQ mQ belowQ methQ cQ hx hb hml hr hlocks hts hown hK hN H hW hS ls hl => ?_)
  have hl : lv_has ls 2 [(0, .ref o), (1, .int s)] := hl
  generalize hlc : ([] : List Loc) = locs at hS ⊢
  refine lv_iload_n hx hb dX0_isOfReals_0 rfl (lv_at hl 1 rfl) ?_
  refine pp_calli (As := [.int s]) (rest := []) (n := 1) ⟨hx, hb, hml, hown, hts⟩ (xc_isShelf lQ s) (lw_S q816 q817 q84 q818) (by decide +kernel) rfl ⟨Nat.le_of_ble_eq_true rfl, Nat.le_of_ble_eq_true rfl⟩ hl.1 rfl (Nat.le_of_ble_eq_true rfl) dX0_isOfReals_1 ⟨Nat.le_of_ble_eq_true rfl, Nat.le_of_ble_eq_true rfl⟩ (fun v1 e1 => ?_)
  refine lv_if_eq (tgt := 24) hx hb dX0_isOfReals_4 (by decide) (fun c4 => ?_) (fun c4 => ?_)
  · skip
    refine lv_iconst (v := 0) hx hb dX0_isOfReals_24 (by decide) ?_
    refine xw_zret hx hb hr hlocks hW hS rfl ?_ dX0_isOfReals_25
    have hres : xf_isOfReals X s = 0 := by subst e1; simp only [xf_isOfReals, if_pos c4]
    exact ⟨by rw [hres], rfl, rfl⟩
  · skip
    have hs := ff_isShelf_t (s := s) (by rw [← e1]; exact c4)
    have hin : vp_in s 6 := ww_in hs.1 (by omega)
    have h6 := hKs s hs.1 (by omega)
    refine lv_aload_n hx hb dX0_isOfReals_7 rfl (lv_at hl 0 rfl) ?_
    refine xx_getr hx hb hts hown hK hW 58 rfl rfl (by decide) (by decide) q331 dX0_isOfReals_8 ?_
    refine lv_iload_n hx hb dX0_isOfReals_11 rfl (lv_at hl 1 rfl) ?_
    refine xx_kald hx hb hK hW hin dX0_isOfReals_12 ?_
    refine xw_p (xw_rS (As := [va_rf (xx_so D (rd_ X 58 s) s.toNatClampNeg)]) (rest := []) (n := 1) ⟨hx, hb, hml, hown, hts⟩ hK hN hW (xc_sortOf lQ G o d0 X E D s hin h6) (lw_S q1603 q1604 q84 q1605) (by decide +kernel) rfl ⟨Nat.le_of_ble_eq_true rfl, Nat.le_of_ble_eq_true rfl⟩ hl.1 rfl (Nat.le_of_ble_eq_true rfl) dX0_isOfReals_13 ⟨Nat.le_of_ble_eq_true rfl, Nat.le_of_ble_eq_true rfl⟩) hS (fun v13 H locs e13 hW hS => ?_)
    refine lv_iconst (v := 2) hx hb dX0_isOfReals_16 (by decide) ?_
    refine lv_icmp_le (tgt := 24) hx hb dX0_isOfReals_17 (by decide) (fun c17 => ?_) (fun c17 => ?_)
    · have t17 : (v13).toInt ≤ 2 := ww_le c17
      refine lv_iconst (v := 0) hx hb dX0_isOfReals_24 (by decide) ?_
      refine xw_zret hx hb hr hlocks hW hS rfl ?_ dX0_isOfReals_25
      have hres : xf_isOfReals X s = 0 := by subst e1 e13; simp only [xf_isOfReals, if_neg c4, if_pos c17]
      exact ⟨by rw [hres], rfl, rfl⟩
    · have t17 : 2 < (v13).toInt := ww_nle c17
      refine lv_iconst (v := 1) hx hb dX0_isOfReals_20 (by decide) ?_
      refine lv_goto (tgt := 25) hx hb dX0_isOfReals_21 (by decide) ?_
      refine xw_zret hx hb hr hlocks hW hS rfl ?_ dX0_isOfReals_25
      have hres : xf_isOfReals X s = 1 := by subst e1 e13; simp only [xf_isOfReals, if_neg c4, if_neg c17]
      exact ⟨by rw [hres], rfl, rfl⟩

set_option maxHeartbeats 4000000 in
theorem xc_put (lQ : Launch) (G : wm_G) (o d0 : Nat) (X : mm_S) (E : mm_E) (D : xg) (s : Int32) (i : Int32) (v : Int64) (hKs : xv_K X) : xw_Met lQ G o d0 yX0_put (ws_ yX0_put cX0_put 7 (some .int)) 3 X E D [Value.ref o, .int s, .int i, .long v] (some (.int (xf_put X E s i v).1)) (xf_put X E s i v).2.1 (xf_put X E s i v).2.2 := by
  refine xw_start (own := RX0) (by decide +kernel) (Nat.le_of_ble_eq_true rfl) rfl (fun pQ eQ sQ mQ belowQ methQ cQ hx hb hml hr hlocks hts hown hK hN H hW hS ls hl => ?_)
  have hl : lv_has ls 7 [(0, .ref o), (1, .int s), (2, .int i), (3, .long v)] := hl
  generalize hlc : ([] : List Loc) = locs at hS ⊢
  refine lv_aload_n hx hb dX0_put_0 rfl (lv_at hl 0 rfl) ?_
  refine lv_iload_n hx hb dX0_put_1 rfl (lv_at hl 1 rfl) ?_
  refine xw_p (xw_rV (As := [.int s]) (rest := []) (n := 1) ⟨hx, hb, hml, hown, hts⟩ hK hN hW (xc_isOfReals lQ G o d0 X E D s hKs) (lw_V q1599 q1601 qs35 q84 q1602) (xr_main hK hW) (by decide +kernel) rfl ⟨Nat.le_of_ble_eq_true rfl, Nat.le_of_ble_eq_true rfl⟩ hl.1 rfl (Nat.le_of_ble_eq_true rfl) dX0_put_2 ⟨Nat.le_of_ble_eq_true rfl, Nat.le_of_ble_eq_true rfl⟩) hS (fun v2 H locs e2 hW hS => ?_)
  refine lv_if_eq (tgt := 23) hx hb dX0_put_5 (by decide) (fun c5 => ?_) (fun c5 => ?_)
  · skip
    refine lv_aload_n hx hb dX0_put_23 rfl (lv_at hl 0 rfl) ?_
    refine lv_iload_n hx hb dX0_put_24 rfl (lv_at hl 1 rfl) ?_
    refine lv_iload_n hx hb dX0_put_25 rfl (lv_at hl 2 rfl) ?_
    refine xw_p (xw_rV (As := [.int s, .int i]) (rest := []) (n := 2) ⟨hx, hb, hml, hown, hts⟩ hK hN hW (xc_refusal lQ G o d0 X E D s i hKs) (lw_V q1610 q1612 qs36 q84 q1613) (xr_main hK hW) (by decide +kernel) rfl ⟨Nat.le_of_ble_eq_true rfl, Nat.le_of_ble_eq_true rfl⟩ hl.1 rfl (Nat.le_of_ble_eq_true rfl) dX0_put_26 ⟨Nat.le_of_ble_eq_true rfl, Nat.le_of_ble_eq_true rfl⟩) hS (fun v26 H locs e26 hW hS => ?_)
    refine lv_istore (lv' := [(5, .int v26), (0, .ref o), (1, .int s), (2, .int i), (3, .long v)]) hx hb dX0_put_29 hl (by decide) rfl (fun ls hl => ?_)
    refine lv_iload hx hb dX0_put_31 (lv_at hl 0 rfl) ?_
    refine lv_if_eq (tgt := 39) hx hb dX0_put_33 (by decide) (fun c33 => ?_) (fun c33 => ?_)
    · skip
      obtain ⟨⟨s0, s1⟩, ⟨q0, q1⟩, i0, i1⟩ := xf_ref_t hKs (xx_siz hW) (s := s) (i := i) (by rw [← e26]; exact c33)
      have hin : vp_in s 6 := ww_in s0 (by omega)
      have h6 := hKs s s0 (by omega)
      refine lv_aload_n hx hb dX0_put_39 rfl (lv_at hl 1 rfl) ?_
      refine xx_getr hx hb hts hown hK hW 58 rfl rfl (by decide) (by decide) q331 dX0_put_40 ?_
      refine lv_iload_n hx hb dX0_put_43 rfl (lv_at hl 2 rfl) ?_
      refine xx_kald hx hb hK hW hin dX0_put_44 ?_
      refine xl_astore (lv' := [(6, va_rf (xx_so D (rd_ X 58 s) s.toNatClampNeg)), (5, .int v26), (0, .ref o), (1, .int s), (2, .int i), (3, .long v)]) hx hb dX0_put_45 hl (by decide) rfl (fun ls hl => ?_)
      refine xl_aload hx hb dX0_put_47 (lv_at hl 0 rfl) ?_
      refine xw_p (xw_rS (As := [va_rf (xx_so D (rd_ X 58 s) s.toNatClampNeg)]) (rest := []) (n := 1) ⟨hx, hb, hml, hown, hts⟩ hK hN hW (xc_sortOf lQ G o d0 X E D s hin h6) (lw_S q1603 q1604 q84 q1605) (by decide +kernel) rfl ⟨Nat.le_of_ble_eq_true rfl, Nat.le_of_ble_eq_true rfl⟩ hl.1 rfl (Nat.le_of_ble_eq_true rfl) dX0_put_49 ⟨Nat.le_of_ble_eq_true rfl, Nat.le_of_ble_eq_true rfl⟩) hS (fun v49 H locs e49 hW hS => ?_)
      by_cases k52_0 : v49 = 0
      · skip
        refine lv_tableIn (off := 32) (tgt := 84) hx hb dX0_put_52 (by rw [k52_0]; decide) (by rw [k52_0]; decide) (by rw [k52_0]; rfl) (by decide) ?_
        refine xl_aload hx hb dX0_put_84 (lv_at hl 0 rfl) ?_
        refine xr_cast (k := 0) (kI := 0) hx hb hts hown hK hW hin h6 (by decide) rfl (by rw [← e49]; exact k52_0) (nm := "[B") rfl q1606 dX0_put_86 ?_
        refine lv_iload_n hx hb dX0_put_89 rfl (lv_at hl 4 rfl) ?_
        refine lv_lload_n hx hb dX0_put_90 rfl (lv_at hl 5 rfl) ?_
        refine nv_l2i hx hb dX0_put_91 (fun v91 e91 => ?_)
        refine nv_i2b hx hb dX0_put_92 (fun v92 e92 => ?_)
        refine xr_bast (ev := v92.toInt64) hx hb hK hW hS hin h6 (by rw [← e49]; exact k52_0) i0 i1 (by rw [e92, xr_i8, xr_64]) dX0_put_93 (fun X93 E93 H locs f93 g93 hW hS => ?_)
        refine lv_goto (tgt := 143) hx hb dX0_put_94 (by decide) ?_
        refine lv_iconst (v := 1) hx hb dX0_put_143 (by decide) ?_
        refine xw_iret hx hb hr hlocks hW hS ?_ dX0_put_144
        have hpv : xr_pv (xr_st (rd_ X 58 s)) v = re_ E93 0 (60 * s + i) := by
          first
          | (rw [g93, e92, e91, re_ws]; unfold xr_pv; rw [← e49, if_pos k52_0])
          | (rw [g106, e105, e104, re_ws]; unfold xr_pv; rw [← e49, if_neg k52_0, if_pos k52_1])
          | (rw [g118, e117, re_ws]; unfold xr_pv; rw [← e49, if_neg k52_0, if_neg k52_1, if_pos k52_2])
          | (rw [g130, re_ws]; unfold xr_pv; rw [← e49, if_neg k52_0, if_neg k52_1, if_neg k52_2])
          | (rw [g142, re_ws]; unfold xr_pv; rw [← e49, if_neg k52_0, if_neg k52_1, if_neg k52_2])
        have hp : xf_putP X E s i v = (1, X93, E93) := by
          unfold xf_putP
          rw [if_pos (by rw [← e26]; exact c33), hpv]
          first
          | (rw [f93, g93, re_ws])
          | (rw [f106, g106, re_ws])
          | (rw [f118, g118, re_ws])
          | (rw [f130, g130, re_ws])
          | (rw [f142, g142, re_ws])
        have hres : xf_put X E s i v = (1, X93, E93) := by
          unfold xf_put
          first
          | rw [if_pos (by rw [← e2]; exact c5), hp]
          | rw [if_neg (by rw [← e2]; exact c5), if_neg (by rw [← e15]; exact c18), hp]
        exact ⟨by rw [hres], by rw [hres], by rw [hres]⟩
      · skip
        by_cases k52_1 : v49 = 1
        · skip
          refine lv_tableIn (off := 45) (tgt := 97) hx hb dX0_put_52 (by rw [k52_1]; decide) (by rw [k52_1]; decide) (by rw [k52_1]; rfl) (by decide) ?_
          refine xl_aload hx hb dX0_put_97 (lv_at hl 0 rfl) ?_
          refine xr_cast (k := 1) (kI := 1) hx hb hts hown hK hW hin h6 (by decide) rfl (by rw [← e49]; exact k52_1) (nm := "[C") rfl q1607 dX0_put_99 ?_
          refine lv_iload_n hx hb dX0_put_102 rfl (lv_at hl 4 rfl) ?_
          refine lv_lload_n hx hb dX0_put_103 rfl (lv_at hl 5 rfl) ?_
          refine nv_l2i hx hb dX0_put_104 (fun v104 e104 => ?_)
          refine nv_i2c hx hb dX0_put_105 (fun v105 e105 => ?_)
          refine xr_cast_ (ev := v105.toInt64) hx hb hK hW hS hin h6 (by rw [← e49]; exact k52_1) i0 i1 (by rw [e105, xr_i16, xr_64]) dX0_put_106 (fun X106 E106 H locs f106 g106 hW hS => ?_)
          refine lv_goto (tgt := 143) hx hb dX0_put_107 (by decide) ?_
          refine lv_iconst (v := 1) hx hb dX0_put_143 (by decide) ?_
          refine xw_iret hx hb hr hlocks hW hS ?_ dX0_put_144
          have hpv : xr_pv (xr_st (rd_ X 58 s)) v = re_ E106 0 (60 * s + i) := by
            first
            | (rw [g93, e92, e91, re_ws]; unfold xr_pv; rw [← e49, if_pos k52_0])
            | (rw [g106, e105, e104, re_ws]; unfold xr_pv; rw [← e49, if_neg k52_0, if_pos k52_1])
            | (rw [g118, e117, re_ws]; unfold xr_pv; rw [← e49, if_neg k52_0, if_neg k52_1, if_pos k52_2])
            | (rw [g130, re_ws]; unfold xr_pv; rw [← e49, if_neg k52_0, if_neg k52_1, if_neg k52_2])
            | (rw [g142, re_ws]; unfold xr_pv; rw [← e49, if_neg k52_0, if_neg k52_1, if_neg k52_2])
          have hp : xf_putP X E s i v = (1, X106, E106) := by
            unfold xf_putP
            rw [if_pos (by rw [← e26]; exact c33), hpv]
            first
            | (rw [f93, g93, re_ws])
            | (rw [f106, g106, re_ws])
            | (rw [f118, g118, re_ws])
            | (rw [f130, g130, re_ws])
            | (rw [f142, g142, re_ws])
          have hres : xf_put X E s i v = (1, X106, E106) := by
            unfold xf_put
            first
            | rw [if_pos (by rw [← e2]; exact c5), hp]
            | rw [if_neg (by rw [← e2]; exact c5), if_neg (by rw [← e15]; exact c18), hp]
          exact ⟨by rw [hres], by rw [hres], by rw [hres]⟩
        · skip
          by_cases k52_2 : v49 = 2
          · skip
            refine lv_tableIn (off := 58) (tgt := 110) hx hb dX0_put_52 (by rw [k52_2]; decide) (by rw [k52_2]; decide) (by rw [k52_2]; rfl) (by decide) ?_
            refine xl_aload hx hb dX0_put_110 (lv_at hl 0 rfl) ?_
            refine xr_cast (k := 2) (kI := 2) hx hb hts hown hK hW hin h6 (by decide) rfl (by rw [← e49]; exact k52_2) (nm := "[I") rfl q1608 dX0_put_112 ?_
            refine lv_iload_n hx hb dX0_put_115 rfl (lv_at hl 4 rfl) ?_
            refine lv_lload_n hx hb dX0_put_116 rfl (lv_at hl 5 rfl) ?_
            refine nv_l2i hx hb dX0_put_117 (fun v117 e117 => ?_)
            refine xr_iast (ev := v117.toInt64) hx hb hK hW hS hin h6 (by rw [← e49]; exact k52_2) i0 i1 (by rw [xr_64]) dX0_put_118 (fun X118 E118 H locs f118 g118 hW hS => ?_)
            refine lv_goto (tgt := 143) hx hb dX0_put_119 (by decide) ?_
            refine lv_iconst (v := 1) hx hb dX0_put_143 (by decide) ?_
            refine xw_iret hx hb hr hlocks hW hS ?_ dX0_put_144
            have hpv : xr_pv (xr_st (rd_ X 58 s)) v = re_ E118 0 (60 * s + i) := by
              first
              | (rw [g93, e92, e91, re_ws]; unfold xr_pv; rw [← e49, if_pos k52_0])
              | (rw [g106, e105, e104, re_ws]; unfold xr_pv; rw [← e49, if_neg k52_0, if_pos k52_1])
              | (rw [g118, e117, re_ws]; unfold xr_pv; rw [← e49, if_neg k52_0, if_neg k52_1, if_pos k52_2])
              | (rw [g130, re_ws]; unfold xr_pv; rw [← e49, if_neg k52_0, if_neg k52_1, if_neg k52_2])
              | (rw [g142, re_ws]; unfold xr_pv; rw [← e49, if_neg k52_0, if_neg k52_1, if_neg k52_2])
            have hp : xf_putP X E s i v = (1, X118, E118) := by
              unfold xf_putP
              rw [if_pos (by rw [← e26]; exact c33), hpv]
              first
              | (rw [f93, g93, re_ws])
              | (rw [f106, g106, re_ws])
              | (rw [f118, g118, re_ws])
              | (rw [f130, g130, re_ws])
              | (rw [f142, g142, re_ws])
            have hres : xf_put X E s i v = (1, X118, E118) := by
              unfold xf_put
              first
              | rw [if_pos (by rw [← e2]; exact c5), hp]
              | rw [if_neg (by rw [← e2]; exact c5), if_neg (by rw [← e15]; exact c18), hp]
            exact ⟨by rw [hres], by rw [hres], by rw [hres]⟩
          · skip
            by_cases k52_3 : v49 = 3
            · skip
              refine lv_tableIn (off := 70) (tgt := 122) hx hb dX0_put_52 (by rw [k52_3]; decide) (by rw [k52_3]; decide) (by rw [k52_3]; rfl) (by decide) ?_
              refine xl_aload hx hb dX0_put_122 (lv_at hl 0 rfl) ?_
              refine xr_cast (k := 3) (kI := 3) hx hb hts hown hK hW hin h6 (by decide) rfl (by rw [← e49]; exact k52_3) (nm := "[F") rfl q819 dX0_put_124 ?_
              refine lv_iload_n hx hb dX0_put_127 rfl (lv_at hl 4 rfl) ?_
              refine lv_lload_n hx hb dX0_put_128 rfl (lv_at hl 5 rfl) ?_
              refine lv_l2f hx hb dX0_put_129 ?_
              refine xr_fast (z := 0) (ev := v) hx hb hK hW hS hin h6 (by rw [← e49]; exact k52_3) i0 i1 dX0_put_130 (fun X130 E130 H locs f130 g130 hW hS => ?_)
              refine lv_goto (tgt := 143) hx hb dX0_put_131 (by decide) ?_
              refine lv_iconst (v := 1) hx hb dX0_put_143 (by decide) ?_
              refine xw_iret hx hb hr hlocks hW hS ?_ dX0_put_144
              have hpv : xr_pv (xr_st (rd_ X 58 s)) v = re_ E130 0 (60 * s + i) := by
                first
                | (rw [g93, e92, e91, re_ws]; unfold xr_pv; rw [← e49, if_pos k52_0])
                | (rw [g106, e105, e104, re_ws]; unfold xr_pv; rw [← e49, if_neg k52_0, if_pos k52_1])
                | (rw [g118, e117, re_ws]; unfold xr_pv; rw [← e49, if_neg k52_0, if_neg k52_1, if_pos k52_2])
                | (rw [g130, re_ws]; unfold xr_pv; rw [← e49, if_neg k52_0, if_neg k52_1, if_neg k52_2])
                | (rw [g142, re_ws]; unfold xr_pv; rw [← e49, if_neg k52_0, if_neg k52_1, if_neg k52_2])
              have hp : xf_putP X E s i v = (1, X130, E130) := by
                unfold xf_putP
                rw [if_pos (by rw [← e26]; exact c33), hpv]
                first
                | (rw [f93, g93, re_ws])
                | (rw [f106, g106, re_ws])
                | (rw [f118, g118, re_ws])
                | (rw [f130, g130, re_ws])
                | (rw [f142, g142, re_ws])
              have hres : xf_put X E s i v = (1, X130, E130) := by
                unfold xf_put
                first
                | rw [if_pos (by rw [← e2]; exact c5), hp]
                | rw [if_neg (by rw [← e2]; exact c5), if_neg (by rw [← e15]; exact c18), hp]
              exact ⟨by rw [hres], by rw [hres], by rw [hres]⟩
            · skip
              refine lv_tableOut (tgt := 134) hx hb dX0_put_52 (by have hk52_0 : (v49).toInt ≠ 0 := ww_ne k52_0; have hk52_1 : (v49).toInt ≠ 1 := ww_ne k52_1; have hk52_2 : (v49).toInt ≠ 2 := ww_ne k52_2; have hk52_3 : (v49).toInt ≠ 3 := ww_ne k52_3; omega) (by decide) ?_
              have zl0 : (0 : Int32).toInt = 0 := by decide
              have zl1 : (1 : Int32).toInt = 1 := by decide
              have zl2 : (2 : Int32).toInt = 2 := by decide
              have zl3 : (3 : Int32).toInt = 3 := by decide
              have zl4 : (4 : Int32).toInt = 4 := by decide
              have hk52_0 := ww_ne k52_0
              have hk52_1 := ww_ne k52_1
              have hk52_2 := ww_ne k52_2
              have hk52_3 := ww_ne k52_3
              have h4 : xr_st (rd_ X 58 s) = 4 := by
                rw [e49] at hk52_0 hk52_1 hk52_2 hk52_3
                exact ww_eq (by have : (4 : Int32).toInt = 4 := by decide
                                omega)
              refine xl_aload hx hb dX0_put_134 (lv_at hl 0 rfl) ?_
              refine xr_cast (k := 4) (kI := 4) hx hb hts hown hK hW hin h6 (by decide) rfl h4 (nm := "[D") rfl q820 dX0_put_136 ?_
              refine lv_iload_n hx hb dX0_put_139 rfl (lv_at hl 4 rfl) ?_
              refine lv_lload_n hx hb dX0_put_140 rfl (lv_at hl 5 rfl) ?_
              refine lv_l2d hx hb dX0_put_141 ?_
              refine xr_dast (z := 0) (ev := v) hx hb hK hW hS hin h6 h4 i0 i1 dX0_put_142 (fun X142 E142 H locs f142 g142 hW hS => ?_)
              refine lv_iconst (v := 1) hx hb dX0_put_143 (by decide) ?_
              refine xw_iret hx hb hr hlocks hW hS ?_ dX0_put_144
              have hpv : xr_pv (xr_st (rd_ X 58 s)) v = re_ E142 0 (60 * s + i) := by
                first
                | (rw [g93, e92, e91, re_ws]; unfold xr_pv; rw [← e49, if_pos k52_0])
                | (rw [g106, e105, e104, re_ws]; unfold xr_pv; rw [← e49, if_neg k52_0, if_pos k52_1])
                | (rw [g118, e117, re_ws]; unfold xr_pv; rw [← e49, if_neg k52_0, if_neg k52_1, if_pos k52_2])
                | (rw [g130, re_ws]; unfold xr_pv; rw [← e49, if_neg k52_0, if_neg k52_1, if_neg k52_2])
                | (rw [g142, re_ws]; unfold xr_pv; rw [← e49, if_neg k52_0, if_neg k52_1, if_neg k52_2])
              have hp : xf_putP X E s i v = (1, X142, E142) := by
                unfold xf_putP
                rw [if_pos (by rw [← e26]; exact c33), hpv]
                first
                | (rw [f93, g93, re_ws])
                | (rw [f106, g106, re_ws])
                | (rw [f118, g118, re_ws])
                | (rw [f130, g130, re_ws])
                | (rw [f142, g142, re_ws])
              have hres : xf_put X E s i v = (1, X142, E142) := by
                unfold xf_put
                first
                | rw [if_pos (by rw [← e2]; exact c5), hp]
                | rw [if_neg (by rw [← e2]; exact c5), if_neg (by rw [← e15]; exact c18), hp]
              exact ⟨by rw [hres], by rw [hres], by rw [hres]⟩
    · skip
      refine lv_iload hx hb dX0_put_36 (lv_at hl 0 rfl) ?_
      refine xw_iret hx hb hr hlocks hW hS ?_ dX0_put_38
      have hres : xf_put X E s i v = (v26, X, E) := by subst e2 e26; simp only [xf_put, xf_putP, if_pos c5, if_neg c33]
      exact ⟨by rw [hres], by rw [hres], by rw [hres]⟩
  · skip
    refine lv_lload_n hx hb dX0_put_8 rfl (lv_at hl 3 rfl) ?_
    refine lv_ldc2 (v := (-9999)) hx hb hown (hts _ q1609) dX0_put_9 ?_
    refine lv_ldc2 (v := 9999) hx hb hown (hts _ q1215) dX0_put_12 ?_
    refine pp_calli (As := [.long v, .long (-9999), .long 9999]) (rest := []) (n := 3) ⟨hx, hb, hml, hown, hts⟩ (xc_within lQ v (-9999) 9999) (lw_S q459 q460 q84 q461) (by decide +kernel) rfl ⟨Nat.le_of_ble_eq_true rfl, Nat.le_of_ble_eq_true rfl⟩ hl.1 rfl (Nat.le_of_ble_eq_true rfl) dX0_put_15 ⟨Nat.le_of_ble_eq_true rfl, Nat.le_of_ble_eq_true rfl⟩ (fun v15 e15 => ?_)
    refine lv_if_ne (tgt := 23) hx hb dX0_put_18 (by decide) (fun c18 => ?_) (fun c18 => ?_)
    · skip
      refine lv_aload_n hx hb dX0_put_23 rfl (lv_at hl 0 rfl) ?_
      refine lv_iload_n hx hb dX0_put_24 rfl (lv_at hl 1 rfl) ?_
      refine lv_iload_n hx hb dX0_put_25 rfl (lv_at hl 2 rfl) ?_
      refine xw_p (xw_rV (As := [.int s, .int i]) (rest := []) (n := 2) ⟨hx, hb, hml, hown, hts⟩ hK hN hW (xc_refusal lQ G o d0 X E D s i hKs) (lw_V q1610 q1612 qs36 q84 q1613) (xr_main hK hW) (by decide +kernel) rfl ⟨Nat.le_of_ble_eq_true rfl, Nat.le_of_ble_eq_true rfl⟩ hl.1 rfl (Nat.le_of_ble_eq_true rfl) dX0_put_26 ⟨Nat.le_of_ble_eq_true rfl, Nat.le_of_ble_eq_true rfl⟩) hS (fun v26 H locs e26 hW hS => ?_)
      refine lv_istore (lv' := [(5, .int v26), (0, .ref o), (1, .int s), (2, .int i), (3, .long v)]) hx hb dX0_put_29 hl (by decide) rfl (fun ls hl => ?_)
      refine lv_iload hx hb dX0_put_31 (lv_at hl 0 rfl) ?_
      refine lv_if_eq (tgt := 39) hx hb dX0_put_33 (by decide) (fun c33 => ?_) (fun c33 => ?_)
      · skip
        obtain ⟨⟨s0, s1⟩, ⟨q0, q1⟩, i0, i1⟩ := xf_ref_t hKs (xx_siz hW) (s := s) (i := i) (by rw [← e26]; exact c33)
        have hin : vp_in s 6 := ww_in s0 (by omega)
        have h6 := hKs s s0 (by omega)
        refine lv_aload_n hx hb dX0_put_39 rfl (lv_at hl 1 rfl) ?_
        refine xx_getr hx hb hts hown hK hW 58 rfl rfl (by decide) (by decide) q331 dX0_put_40 ?_
        refine lv_iload_n hx hb dX0_put_43 rfl (lv_at hl 2 rfl) ?_
        refine xx_kald hx hb hK hW hin dX0_put_44 ?_
        refine xl_astore (lv' := [(6, va_rf (xx_so D (rd_ X 58 s) s.toNatClampNeg)), (5, .int v26), (0, .ref o), (1, .int s), (2, .int i), (3, .long v)]) hx hb dX0_put_45 hl (by decide) rfl (fun ls hl => ?_)
        refine xl_aload hx hb dX0_put_47 (lv_at hl 0 rfl) ?_
        refine xw_p (xw_rS (As := [va_rf (xx_so D (rd_ X 58 s) s.toNatClampNeg)]) (rest := []) (n := 1) ⟨hx, hb, hml, hown, hts⟩ hK hN hW (xc_sortOf lQ G o d0 X E D s hin h6) (lw_S q1603 q1604 q84 q1605) (by decide +kernel) rfl ⟨Nat.le_of_ble_eq_true rfl, Nat.le_of_ble_eq_true rfl⟩ hl.1 rfl (Nat.le_of_ble_eq_true rfl) dX0_put_49 ⟨Nat.le_of_ble_eq_true rfl, Nat.le_of_ble_eq_true rfl⟩) hS (fun v49 H locs e49 hW hS => ?_)
        by_cases k52_0 : v49 = 0
        · skip
          refine lv_tableIn (off := 32) (tgt := 84) hx hb dX0_put_52 (by rw [k52_0]; decide) (by rw [k52_0]; decide) (by rw [k52_0]; rfl) (by decide) ?_
          refine xl_aload hx hb dX0_put_84 (lv_at hl 0 rfl) ?_
          refine xr_cast (k := 0) (kI := 0) hx hb hts hown hK hW hin h6 (by decide) rfl (by rw [← e49]; exact k52_0) (nm := "[B") rfl q1606 dX0_put_86 ?_
          refine lv_iload_n hx hb dX0_put_89 rfl (lv_at hl 4 rfl) ?_
          refine lv_lload_n hx hb dX0_put_90 rfl (lv_at hl 5 rfl) ?_
          refine nv_l2i hx hb dX0_put_91 (fun v91 e91 => ?_)
          refine nv_i2b hx hb dX0_put_92 (fun v92 e92 => ?_)
          refine xr_bast (ev := v92.toInt64) hx hb hK hW hS hin h6 (by rw [← e49]; exact k52_0) i0 i1 (by rw [e92, xr_i8, xr_64]) dX0_put_93 (fun X93 E93 H locs f93 g93 hW hS => ?_)
          refine lv_goto (tgt := 143) hx hb dX0_put_94 (by decide) ?_
          refine lv_iconst (v := 1) hx hb dX0_put_143 (by decide) ?_
          refine xw_iret hx hb hr hlocks hW hS ?_ dX0_put_144
          have hpv : xr_pv (xr_st (rd_ X 58 s)) v = re_ E93 0 (60 * s + i) := by
            first
            | (rw [g93, e92, e91, re_ws]; unfold xr_pv; rw [← e49, if_pos k52_0])
            | (rw [g106, e105, e104, re_ws]; unfold xr_pv; rw [← e49, if_neg k52_0, if_pos k52_1])
            | (rw [g118, e117, re_ws]; unfold xr_pv; rw [← e49, if_neg k52_0, if_neg k52_1, if_pos k52_2])
            | (rw [g130, re_ws]; unfold xr_pv; rw [← e49, if_neg k52_0, if_neg k52_1, if_neg k52_2])
            | (rw [g142, re_ws]; unfold xr_pv; rw [← e49, if_neg k52_0, if_neg k52_1, if_neg k52_2])
          have hp : xf_putP X E s i v = (1, X93, E93) := by
            unfold xf_putP
            rw [if_pos (by rw [← e26]; exact c33), hpv]
            first
            | (rw [f93, g93, re_ws])
            | (rw [f106, g106, re_ws])
            | (rw [f118, g118, re_ws])
            | (rw [f130, g130, re_ws])
            | (rw [f142, g142, re_ws])
          have hres : xf_put X E s i v = (1, X93, E93) := by
            unfold xf_put
            first
            | rw [if_pos (by rw [← e2]; exact c5), hp]
            | rw [if_neg (by rw [← e2]; exact c5), if_neg (by rw [← e15]; exact c18), hp]
          exact ⟨by rw [hres], by rw [hres], by rw [hres]⟩
        · skip
          by_cases k52_1 : v49 = 1
          · skip
            refine lv_tableIn (off := 45) (tgt := 97) hx hb dX0_put_52 (by rw [k52_1]; decide) (by rw [k52_1]; decide) (by rw [k52_1]; rfl) (by decide) ?_
            refine xl_aload hx hb dX0_put_97 (lv_at hl 0 rfl) ?_
            refine xr_cast (k := 1) (kI := 1) hx hb hts hown hK hW hin h6 (by decide) rfl (by rw [← e49]; exact k52_1) (nm := "[C") rfl q1607 dX0_put_99 ?_
            refine lv_iload_n hx hb dX0_put_102 rfl (lv_at hl 4 rfl) ?_
            refine lv_lload_n hx hb dX0_put_103 rfl (lv_at hl 5 rfl) ?_
            refine nv_l2i hx hb dX0_put_104 (fun v104 e104 => ?_)
            refine nv_i2c hx hb dX0_put_105 (fun v105 e105 => ?_)
            refine xr_cast_ (ev := v105.toInt64) hx hb hK hW hS hin h6 (by rw [← e49]; exact k52_1) i0 i1 (by rw [e105, xr_i16, xr_64]) dX0_put_106 (fun X106 E106 H locs f106 g106 hW hS => ?_)
            refine lv_goto (tgt := 143) hx hb dX0_put_107 (by decide) ?_
            refine lv_iconst (v := 1) hx hb dX0_put_143 (by decide) ?_
            refine xw_iret hx hb hr hlocks hW hS ?_ dX0_put_144
            have hpv : xr_pv (xr_st (rd_ X 58 s)) v = re_ E106 0 (60 * s + i) := by
              first
              | (rw [g93, e92, e91, re_ws]; unfold xr_pv; rw [← e49, if_pos k52_0])
              | (rw [g106, e105, e104, re_ws]; unfold xr_pv; rw [← e49, if_neg k52_0, if_pos k52_1])
              | (rw [g118, e117, re_ws]; unfold xr_pv; rw [← e49, if_neg k52_0, if_neg k52_1, if_pos k52_2])
              | (rw [g130, re_ws]; unfold xr_pv; rw [← e49, if_neg k52_0, if_neg k52_1, if_neg k52_2])
              | (rw [g142, re_ws]; unfold xr_pv; rw [← e49, if_neg k52_0, if_neg k52_1, if_neg k52_2])
            have hp : xf_putP X E s i v = (1, X106, E106) := by
              unfold xf_putP
              rw [if_pos (by rw [← e26]; exact c33), hpv]
              first
              | (rw [f93, g93, re_ws])
              | (rw [f106, g106, re_ws])
              | (rw [f118, g118, re_ws])
              | (rw [f130, g130, re_ws])
              | (rw [f142, g142, re_ws])
            have hres : xf_put X E s i v = (1, X106, E106) := by
              unfold xf_put
              first
              | rw [if_pos (by rw [← e2]; exact c5), hp]
              | rw [if_neg (by rw [← e2]; exact c5), if_neg (by rw [← e15]; exact c18), hp]
            exact ⟨by rw [hres], by rw [hres], by rw [hres]⟩
          · skip
            by_cases k52_2 : v49 = 2
            · skip
              refine lv_tableIn (off := 58) (tgt := 110) hx hb dX0_put_52 (by rw [k52_2]; decide) (by rw [k52_2]; decide) (by rw [k52_2]; rfl) (by decide) ?_
              refine xl_aload hx hb dX0_put_110 (lv_at hl 0 rfl) ?_
              refine xr_cast (k := 2) (kI := 2) hx hb hts hown hK hW hin h6 (by decide) rfl (by rw [← e49]; exact k52_2) (nm := "[I") rfl q1608 dX0_put_112 ?_
              refine lv_iload_n hx hb dX0_put_115 rfl (lv_at hl 4 rfl) ?_
              refine lv_lload_n hx hb dX0_put_116 rfl (lv_at hl 5 rfl) ?_
              refine nv_l2i hx hb dX0_put_117 (fun v117 e117 => ?_)
              refine xr_iast (ev := v117.toInt64) hx hb hK hW hS hin h6 (by rw [← e49]; exact k52_2) i0 i1 (by rw [xr_64]) dX0_put_118 (fun X118 E118 H locs f118 g118 hW hS => ?_)
              refine lv_goto (tgt := 143) hx hb dX0_put_119 (by decide) ?_
              refine lv_iconst (v := 1) hx hb dX0_put_143 (by decide) ?_
              refine xw_iret hx hb hr hlocks hW hS ?_ dX0_put_144
              have hpv : xr_pv (xr_st (rd_ X 58 s)) v = re_ E118 0 (60 * s + i) := by
                first
                | (rw [g93, e92, e91, re_ws]; unfold xr_pv; rw [← e49, if_pos k52_0])
                | (rw [g106, e105, e104, re_ws]; unfold xr_pv; rw [← e49, if_neg k52_0, if_pos k52_1])
                | (rw [g118, e117, re_ws]; unfold xr_pv; rw [← e49, if_neg k52_0, if_neg k52_1, if_pos k52_2])
                | (rw [g130, re_ws]; unfold xr_pv; rw [← e49, if_neg k52_0, if_neg k52_1, if_neg k52_2])
                | (rw [g142, re_ws]; unfold xr_pv; rw [← e49, if_neg k52_0, if_neg k52_1, if_neg k52_2])
              have hp : xf_putP X E s i v = (1, X118, E118) := by
                unfold xf_putP
                rw [if_pos (by rw [← e26]; exact c33), hpv]
                first
                | (rw [f93, g93, re_ws])
                | (rw [f106, g106, re_ws])
                | (rw [f118, g118, re_ws])
                | (rw [f130, g130, re_ws])
                | (rw [f142, g142, re_ws])
              have hres : xf_put X E s i v = (1, X118, E118) := by
                unfold xf_put
                first
                | rw [if_pos (by rw [← e2]; exact c5), hp]
                | rw [if_neg (by rw [← e2]; exact c5), if_neg (by rw [← e15]; exact c18), hp]
              exact ⟨by rw [hres], by rw [hres], by rw [hres]⟩
            · skip
              by_cases k52_3 : v49 = 3
              · skip
                refine lv_tableIn (off := 70) (tgt := 122) hx hb dX0_put_52 (by rw [k52_3]; decide) (by rw [k52_3]; decide) (by rw [k52_3]; rfl) (by decide) ?_
                refine xl_aload hx hb dX0_put_122 (lv_at hl 0 rfl) ?_
                refine xr_cast (k := 3) (kI := 3) hx hb hts hown hK hW hin h6 (by decide) rfl (by rw [← e49]; exact k52_3) (nm := "[F") rfl q819 dX0_put_124 ?_
                refine lv_iload_n hx hb dX0_put_127 rfl (lv_at hl 4 rfl) ?_
                refine lv_lload_n hx hb dX0_put_128 rfl (lv_at hl 5 rfl) ?_
                refine lv_l2f hx hb dX0_put_129 ?_
                refine xr_fast (z := 0) (ev := v) hx hb hK hW hS hin h6 (by rw [← e49]; exact k52_3) i0 i1 dX0_put_130 (fun X130 E130 H locs f130 g130 hW hS => ?_)
                refine lv_goto (tgt := 143) hx hb dX0_put_131 (by decide) ?_
                refine lv_iconst (v := 1) hx hb dX0_put_143 (by decide) ?_
                refine xw_iret hx hb hr hlocks hW hS ?_ dX0_put_144
                have hpv : xr_pv (xr_st (rd_ X 58 s)) v = re_ E130 0 (60 * s + i) := by
                  first
                  | (rw [g93, e92, e91, re_ws]; unfold xr_pv; rw [← e49, if_pos k52_0])
                  | (rw [g106, e105, e104, re_ws]; unfold xr_pv; rw [← e49, if_neg k52_0, if_pos k52_1])
                  | (rw [g118, e117, re_ws]; unfold xr_pv; rw [← e49, if_neg k52_0, if_neg k52_1, if_pos k52_2])
                  | (rw [g130, re_ws]; unfold xr_pv; rw [← e49, if_neg k52_0, if_neg k52_1, if_neg k52_2])
                  | (rw [g142, re_ws]; unfold xr_pv; rw [← e49, if_neg k52_0, if_neg k52_1, if_neg k52_2])
                have hp : xf_putP X E s i v = (1, X130, E130) := by
                  unfold xf_putP
                  rw [if_pos (by rw [← e26]; exact c33), hpv]
                  first
                  | (rw [f93, g93, re_ws])
                  | (rw [f106, g106, re_ws])
                  | (rw [f118, g118, re_ws])
                  | (rw [f130, g130, re_ws])
                  | (rw [f142, g142, re_ws])
                have hres : xf_put X E s i v = (1, X130, E130) := by
                  unfold xf_put
                  first
                  | rw [if_pos (by rw [← e2]; exact c5), hp]
                  | rw [if_neg (by rw [← e2]; exact c5), if_neg (by rw [← e15]; exact c18), hp]
                exact ⟨by rw [hres], by rw [hres], by rw [hres]⟩
              · skip
                refine lv_tableOut (tgt := 134) hx hb dX0_put_52 (by have hk52_0 : (v49).toInt ≠ 0 := ww_ne k52_0; have hk52_1 : (v49).toInt ≠ 1 := ww_ne k52_1; have hk52_2 : (v49).toInt ≠ 2 := ww_ne k52_2; have hk52_3 : (v49).toInt ≠ 3 := ww_ne k52_3; omega) (by decide) ?_
                have zl0 : (0 : Int32).toInt = 0 := by decide
                have zl1 : (1 : Int32).toInt = 1 := by decide
                have zl2 : (2 : Int32).toInt = 2 := by decide
                have zl3 : (3 : Int32).toInt = 3 := by decide
                have zl4 : (4 : Int32).toInt = 4 := by decide
                have hk52_0 := ww_ne k52_0
                have hk52_1 := ww_ne k52_1
                have hk52_2 := ww_ne k52_2
                have hk52_3 := ww_ne k52_3
                have h4 : xr_st (rd_ X 58 s) = 4 := by
                  rw [e49] at hk52_0 hk52_1 hk52_2 hk52_3
                  exact ww_eq (by have : (4 : Int32).toInt = 4 := by decide
                                  omega)
                refine xl_aload hx hb dX0_put_134 (lv_at hl 0 rfl) ?_
                refine xr_cast (k := 4) (kI := 4) hx hb hts hown hK hW hin h6 (by decide) rfl h4 (nm := "[D") rfl q820 dX0_put_136 ?_
                refine lv_iload_n hx hb dX0_put_139 rfl (lv_at hl 4 rfl) ?_
                refine lv_lload_n hx hb dX0_put_140 rfl (lv_at hl 5 rfl) ?_
                refine lv_l2d hx hb dX0_put_141 ?_
                refine xr_dast (z := 0) (ev := v) hx hb hK hW hS hin h6 h4 i0 i1 dX0_put_142 (fun X142 E142 H locs f142 g142 hW hS => ?_)
                refine lv_iconst (v := 1) hx hb dX0_put_143 (by decide) ?_
                refine xw_iret hx hb hr hlocks hW hS ?_ dX0_put_144
                have hpv : xr_pv (xr_st (rd_ X 58 s)) v = re_ E142 0 (60 * s + i) := by
                  first
                  | (rw [g93, e92, e91, re_ws]; unfold xr_pv; rw [← e49, if_pos k52_0])
                  | (rw [g106, e105, e104, re_ws]; unfold xr_pv; rw [← e49, if_neg k52_0, if_pos k52_1])
                  | (rw [g118, e117, re_ws]; unfold xr_pv; rw [← e49, if_neg k52_0, if_neg k52_1, if_pos k52_2])
                  | (rw [g130, re_ws]; unfold xr_pv; rw [← e49, if_neg k52_0, if_neg k52_1, if_neg k52_2])
                  | (rw [g142, re_ws]; unfold xr_pv; rw [← e49, if_neg k52_0, if_neg k52_1, if_neg k52_2])
                have hp : xf_putP X E s i v = (1, X142, E142) := by
                  unfold xf_putP
                  rw [if_pos (by rw [← e26]; exact c33), hpv]
                  first
                  | (rw [f93, g93, re_ws])
                  | (rw [f106, g106, re_ws])
                  | (rw [f118, g118, re_ws])
                  | (rw [f130, g130, re_ws])
                  | (rw [f142, g142, re_ws])
                have hres : xf_put X E s i v = (1, X142, E142) := by
                  unfold xf_put
                  first
                  | rw [if_pos (by rw [← e2]; exact c5), hp]
                  | rw [if_neg (by rw [← e2]; exact c5), if_neg (by rw [← e15]; exact c18), hp]
                exact ⟨by rw [hres], by rw [hres], by rw [hres]⟩
      · skip
        refine lv_iload hx hb dX0_put_36 (lv_at hl 0 rfl) ?_
        refine xw_iret hx hb hr hlocks hW hS ?_ dX0_put_38
        have hres : xf_put X E s i v = (v26, X, E) := by subst e2 e15 e26; simp only [xf_put, xf_putP, if_neg c5, if_neg c18, if_neg c33]
        exact ⟨by rw [hres], by rw [hres], by rw [hres]⟩
    · skip
      refine lv_iconst (v := (-1)) hx hb dX0_put_21 (by decide) ?_
      refine xw_iret hx hb hr hlocks hW hS ?_ dX0_put_22
      have hres : xf_put X E s i v = ((-1), X, E) := by subst e2 e15; simp only [xf_put, xf_putP, if_neg c5, if_pos c18]
      exact ⟨by rw [hres], by rw [hres], by rw [hres]⟩

set_option maxHeartbeats 4000000 in
theorem xc_blank (lQ : Launch) (G : wm_G) (o d0 : Nat) (X : mm_S) (E : mm_E) (D : xg) (s : Int32) (i : Int32) (hKs : xv_K X) : xw_Met lQ G o d0 yX0_blank (ws_ yX0_blank cX0_blank 5 (some .int)) 3 X E D [Value.ref o, .int s, .int i] (some (.int (xf_blank X E s i).1)) (xf_blank X E s i).2.1 (xf_blank X E s i).2.2 := by
  refine xw_start (own := RX0) (by decide +kernel) (Nat.le_of_ble_eq_true rfl) rfl (fun pQ eQ sQ mQ belowQ methQ cQ hx hb hml hr hlocks hts hown hK hN H hW hS ls hl => ?_)
  have hl : lv_has ls 5 [(0, .ref o), (1, .int s), (2, .int i)] := hl
  generalize hlc : ([] : List Loc) = locs at hS ⊢
  refine lv_aload_n hx hb dX0_blank_0 rfl (lv_at hl 0 rfl) ?_
  refine lv_iload_n hx hb dX0_blank_1 rfl (lv_at hl 1 rfl) ?_
  refine lv_iload_n hx hb dX0_blank_2 rfl (lv_at hl 2 rfl) ?_
  refine xw_p (xw_rV (As := [.int s, .int i]) (rest := []) (n := 2) ⟨hx, hb, hml, hown, hts⟩ hK hN hW (xc_refusal lQ G o d0 X E D s i hKs) (lw_V q1610 q1612 qs36 q84 q1613) (xr_main hK hW) (by decide +kernel) rfl ⟨Nat.le_of_ble_eq_true rfl, Nat.le_of_ble_eq_true rfl⟩ hl.1 rfl (Nat.le_of_ble_eq_true rfl) dX0_blank_3 ⟨Nat.le_of_ble_eq_true rfl, Nat.le_of_ble_eq_true rfl⟩) hS (fun v3 H locs e3 hW hS => ?_)
  refine lv_istore_n (lv' := [(3, .int v3), (0, .ref o), (1, .int s), (2, .int i)]) hx hb dX0_blank_6 rfl hl (by decide) rfl (fun ls hl => ?_)
  refine lv_iload_n hx hb dX0_blank_7 rfl (lv_at hl 0 rfl) ?_
  refine lv_iconst (v := (-1)) hx hb dX0_blank_8 (by decide) ?_
  refine lv_icmp_eq (tgt := 24) hx hb dX0_blank_9 (by decide) (fun c9 => ?_) (fun c9 => ?_)
  · skip
    refine lv_iload_n hx hb dX0_blank_24 rfl (lv_at hl 0 rfl) ?_
    refine xw_iret hx hb hr hlocks hW hS ?_ dX0_blank_25
    have hres : xf_blank X E s i = (v3, X, E) := by subst e3; simp only [xf_blank, if_pos c9]
    exact ⟨by rw [hres], by rw [hres], by rw [hres]⟩
  · skip
    refine lv_iload_n hx hb dX0_blank_12 rfl (lv_at hl 0 rfl) ?_
    refine lv_bipush (v := (-11)) hx hb dX0_blank_13 (by decide) ?_
    refine lv_icmp_eq (tgt := 24) hx hb dX0_blank_15 (by decide) (fun c15 => ?_) (fun c15 => ?_)
    · skip
      refine lv_iload_n hx hb dX0_blank_24 rfl (lv_at hl 0 rfl) ?_
      refine xw_iret hx hb hr hlocks hW hS ?_ dX0_blank_25
      have hres : xf_blank X E s i = (v3, X, E) := by subst e3; simp only [xf_blank, if_neg c9, if_pos c15]
      exact ⟨by rw [hres], by rw [hres], by rw [hres]⟩
    · skip
      refine lv_iload_n hx hb dX0_blank_18 rfl (lv_at hl 0 rfl) ?_
      refine lv_bipush (v := (-12)) hx hb dX0_blank_19 (by decide) ?_
      refine lv_icmp_ne (tgt := 26) hx hb dX0_blank_21 (by decide) (fun c21 => ?_) (fun c21 => ?_)
      · skip
        refine lv_aload_n hx hb dX0_blank_26 rfl (lv_at hl 1 rfl) ?_
        refine lv_iload_n hx hb dX0_blank_27 rfl (lv_at hl 2 rfl) ?_
        refine xw_p (xw_rV (As := [.int s]) (rest := []) (n := 1) ⟨hx, hb, hml, hown, hts⟩ hK hN hW (xc_isOfReals lQ G o d0 X E D s hKs) (lw_V q1599 q1601 qs35 q84 q1602) (xr_main hK hW) (by decide +kernel) rfl ⟨Nat.le_of_ble_eq_true rfl, Nat.le_of_ble_eq_true rfl⟩ hl.1 rfl (Nat.le_of_ble_eq_true rfl) dX0_blank_28 ⟨Nat.le_of_ble_eq_true rfl, Nat.le_of_ble_eq_true rfl⟩) hS (fun v28 H locs e28 hW hS => ?_)
        refine lv_if_ne (tgt := 37) hx hb dX0_blank_31 (by decide) (fun c31 => ?_) (fun c31 => ?_)
        · skip
          refine lv_iload_n hx hb dX0_blank_37 rfl (lv_at hl 0 rfl) ?_
          refine lv_if_eq (tgt := 43) hx hb dX0_blank_38 (by decide) (fun c38 => ?_) (fun c38 => ?_)
          · skip
            obtain ⟨⟨s0, s1⟩, ⟨q0, q1⟩, i0, i1⟩ := xf_ref_t hKs (xx_siz hW) (s := s) (i := i) (by rw [← e3]; exact c38)
            have hin : vp_in s 6 := ww_in s0 (by omega)
            have h6 := hKs s s0 (by omega)
            have h3 : 3 ≤ (xr_st (rd_ X 58 s)).toInt := by
              have z : ¬ xf_isOfReals X s = 0 := by rw [← e28]; exact c31
              unfold xf_isOfReals at z
              split at z
              · exact absurd rfl z
              · split at z
                · exact absurd rfl z
                · rename_i y
                  have := ww_nle y
                  have e : (2 : Int32).toInt = 2 := by decide
                  omega
            refine lv_aload_n hx hb dX0_blank_43 rfl (lv_at hl 1 rfl) ?_
            refine xx_getr hx hb hts hown hK hW 58 rfl rfl (by decide) (by decide) q331 dX0_blank_44 ?_
            refine lv_iload_n hx hb dX0_blank_47 rfl (lv_at hl 2 rfl) ?_
            refine xx_kald hx hb hK hW hin dX0_blank_48 ?_
            refine xl_astore (lv' := [(4, va_rf (xx_so D (rd_ X 58 s) s.toNatClampNeg)), (3, .int v3), (0, .ref o), (1, .int s), (2, .int i)]) hx hb dX0_blank_49 hl (by decide) rfl (fun ls hl => ?_)
            refine xl_aload hx hb dX0_blank_51 (lv_at hl 0 rfl) ?_
            refine xr_inst (k := 3) (kI := 3) hx hb hts hown hK hN hW hin h6 (by decide) rfl (nm := "[F") rfl q819 dX0_blank_53 ?_
            refine lv_if_eq (tgt := 72) hx hb dX0_blank_56 (by decide) (fun c56 => ?_) (fun c56 => ?_)
            · skip
              have h4 : xr_st (rd_ X 58 s) = 4 := by
                have z : ¬ xr_st (rd_ X 58 s) = 3 := fun y => by unfold xr_is at c56; rw [if_pos y] at c56; exact absurd c56 (by decide)
                have z2 := ww_ne z
                have e : (3 : Int32).toInt = 3 := by decide
                exact ww_eq (by have : (4 : Int32).toInt = 4 := by decide
                                omega)
              refine xl_aload hx hb dX0_blank_72 (lv_at hl 0 rfl) ?_
              refine xr_cast (k := 4) (kI := 4) hx hb hts hown hK hW hin h6 (by decide) rfl h4 (nm := "[D") rfl q820 dX0_blank_74 ?_
              refine lv_iload_n hx hb dX0_blank_77 rfl (lv_at hl 4 rfl) ?_
              refine lv_ldc2d (v := 9221120237041090560) hx hb hown (hts _ q828) dX0_blank_78 ?_
              refine xr_dast (z := 1) (ev := re_ E 0 (60 * s + i)) hx hb hK hW hS hin h6 h4 i0 i1 dX0_blank_81 (fun X81 E81 H locs f81 g81 hW hS => ?_)
              refine lv_iconst (v := 1) hx hb dX0_blank_82 (by decide) ?_
              refine xw_iret hx hb hr hlocks hW hS ?_ dX0_blank_83
              have hres : xf_blank X E s i = (1, X81, E81) := by subst e3 e28 f81 g81; simp only [xf_blank, if_neg c9, if_neg c15, if_neg c21, if_neg c31, if_pos c38, if_pos c56]
              exact ⟨by rw [hres], by rw [hres], by rw [hres]⟩
            · skip
              have h3a : xr_st (rd_ X 58 s) = 3 := by
                rcases Decidable.em (xr_st (rd_ X 58 s) = 3) with y | y
                · exact y
                · exact absurd (by unfold xr_is; rw [if_neg y]) c56
              refine xl_aload hx hb dX0_blank_59 (lv_at hl 0 rfl) ?_
              refine xr_cast (k := 3) (kI := 3) hx hb hts hown hK hW hin h6 (by decide) rfl h3a (nm := "[F") rfl q819 dX0_blank_61 ?_
              refine lv_iload_n hx hb dX0_blank_64 rfl (lv_at hl 4 rfl) ?_
              refine xl_ldcwf (v := 2143289344) hx hb hown (hts _ q1621) dX0_blank_65 ?_
              refine xr_fast (z := 1) (ev := re_ E 0 (60 * s + i)) hx hb hK hW hS hin h6 h3a i0 i1 dX0_blank_68 (fun X68 E68 H locs f68 g68 hW hS => ?_)
              refine lv_goto (tgt := 82) hx hb dX0_blank_69 (by decide) ?_
              refine lv_iconst (v := 1) hx hb dX0_blank_82 (by decide) ?_
              refine xw_iret hx hb hr hlocks hW hS ?_ dX0_blank_83
              have hres : xf_blank X E s i = (1, X68, E68) := by subst e3 e28 f68 g68; simp only [xf_blank, if_neg c9, if_neg c15, if_neg c21, if_neg c31, if_pos c38, if_neg c56]
              exact ⟨by rw [hres], by rw [hres], by rw [hres]⟩
          · skip
            refine lv_iload_n hx hb dX0_blank_41 rfl (lv_at hl 0 rfl) ?_
            refine xw_iret hx hb hr hlocks hW hS ?_ dX0_blank_42
            have hres : xf_blank X E s i = (v3, X, E) := by subst e3 e28; simp only [xf_blank, if_neg c9, if_neg c15, if_neg c21, if_neg c31, if_neg c38]
            exact ⟨by rw [hres], by rw [hres], by rw [hres]⟩
        · skip
          refine lv_bipush (v := (-12)) hx hb dX0_blank_34 (by decide) ?_
          refine xw_iret hx hb hr hlocks hW hS ?_ dX0_blank_36
          have hres : xf_blank X E s i = ((-12), X, E) := by subst e3 e28; simp only [xf_blank, if_neg c9, if_neg c15, if_neg c21, if_pos c31]
          exact ⟨by rw [hres], by rw [hres], by rw [hres]⟩
      · skip
        refine lv_iload_n hx hb dX0_blank_24 rfl (lv_at hl 0 rfl) ?_
        refine xw_iret hx hb hr hlocks hW hS ?_ dX0_blank_25
        have hres : xf_blank X E s i = (v3, X, E) := by subst e3; simp only [xf_blank, if_neg c9, if_neg c15, if_pos c21]
        exact ⟨by rw [hres], by rw [hres], by rw [hres]⟩

set_option maxHeartbeats 4000000 in
theorem xc_element (lQ : Launch) (G : wm_G) (o d0 : Nat) (X : mm_S) (E : mm_E) (D : xg) (s : Int32) (i : Int32) (hKs : xv_K X) (hEs : xv_E X E) : xw_Met lQ G o d0 yX0_element (ws_ yX0_element cX0_element 4 (some .long)) 3 X E D [Value.ref o, .int s, .int i] (some (.long (xf_element X E s i))) X E := by
  refine xw_start (own := RX0) (by decide +kernel) (Nat.le_of_ble_eq_true rfl) rfl (fun pQ eQ sQ mQ belowQ methQ cQ hx hb hml hr hlocks hts hown hK hN H hW hS ls hl => ?_)
  have hl : lv_has ls 4 [(0, .ref o), (1, .int s), (2, .int i)] := hl
  generalize hlc : ([] : List Loc) = locs at hS ⊢
  refine lv_aload_n hx hb dX0_element_0 rfl (lv_at hl 0 rfl) ?_
  refine lv_iload_n hx hb dX0_element_1 rfl (lv_at hl 1 rfl) ?_
  refine lv_iload_n hx hb dX0_element_2 rfl (lv_at hl 2 rfl) ?_
  refine xw_p (xw_rV (As := [.int s, .int i]) (rest := []) (n := 2) ⟨hx, hb, hml, hown, hts⟩ hK hN hW (xc_refusal lQ G o d0 X E D s i hKs) (lw_V q1610 q1612 qs36 q84 q1613) (xr_main hK hW) (by decide +kernel) rfl ⟨Nat.le_of_ble_eq_true rfl, Nat.le_of_ble_eq_true rfl⟩ hl.1 rfl (Nat.le_of_ble_eq_true rfl) dX0_element_3 ⟨Nat.le_of_ble_eq_true rfl, Nat.le_of_ble_eq_true rfl⟩) hS (fun v3 H locs e3 hW hS => ?_)
  refine lv_if_eq (tgt := 13) hx hb dX0_element_6 (by decide) (fun c6 => ?_) (fun c6 => ?_)
  · skip
    obtain ⟨⟨s0, s1⟩, ⟨q0, q1⟩, i0, i1⟩ := xf_ref_t hKs (xx_siz hW) (s := s) (i := i) (by rw [← e3]; exact c6)
    have hin : vp_in s 6 := ww_in s0 (by omega)
    have h6 := hKs s s0 (by omega)
    refine lv_aload_n hx hb dX0_element_13 rfl (lv_at hl 0 rfl) ?_
    refine xx_getr hx hb hts hown hK hW 58 rfl rfl (by decide) (by decide) q331 dX0_element_14 ?_
    refine lv_iload_n hx hb dX0_element_17 rfl (lv_at hl 1 rfl) ?_
    refine xx_kald hx hb hK hW hin dX0_element_18 ?_
    refine xl_astore_n (lv' := [(3, va_rf (xx_so D (rd_ X 58 s) s.toNatClampNeg)), (0, .ref o), (1, .int s), (2, .int i)]) hx hb dX0_element_19 rfl hl (by decide) rfl (fun ls hl => ?_)
    refine xl_aload_n hx hb dX0_element_20 rfl (lv_at hl 0 rfl) ?_
    refine xw_p (xw_rS (As := [va_rf (xx_so D (rd_ X 58 s) s.toNatClampNeg)]) (rest := []) (n := 1) ⟨hx, hb, hml, hown, hts⟩ hK hN hW (xc_sortOf lQ G o d0 X E D s hin h6) (lw_S q1603 q1604 q84 q1605) (by decide +kernel) rfl ⟨Nat.le_of_ble_eq_true rfl, Nat.le_of_ble_eq_true rfl⟩ hl.1 rfl (Nat.le_of_ble_eq_true rfl) dX0_element_21 ⟨Nat.le_of_ble_eq_true rfl, Nat.le_of_ble_eq_true rfl⟩) hS (fun v21 H locs e21 hW hS => ?_)
    by_cases k24_0 : v21 = 0
    · skip
      refine lv_tableIn (off := 32) (tgt := 56) hx hb dX0_element_24 (by rw [k24_0]; decide) (by rw [k24_0]; decide) (by rw [k24_0]; rfl) (by decide) ?_
      refine xl_aload_n hx hb dX0_element_56 rfl (lv_at hl 0 rfl) ?_
      refine xr_cast (k := 0) (kI := 0) hx hb hts hown hK hW hin h6 (by decide) rfl (by rw [← e21]; exact k24_0) (nm := "[B") rfl q1606 dX0_element_57 ?_
      refine lv_iload_n hx hb dX0_element_60 rfl (lv_at hl 3 rfl) ?_
      refine xr_bald hx hb hK hW hin h6 (by rw [← e21]; exact k24_0) i0 i1 dX0_element_61 ?_
      refine lv_i2l (v := ((re_ E 0 (60 * s + i)).toInt32).toInt64) hx hb dX0_element_62 rfl ?_
      refine xw_lret hx hb hr hlocks hW hS ?_ dX0_element_63
      have hres : xf_element X E s i = (re_ E 0 (60 * s + i)).toInt32.toInt64 := by
        unfold xf_element xr_el
        rw [if_pos (by rw [← e3]; exact c6), ← e21, if_pos k24_0]
      exact ⟨by rw [hres], rfl, rfl⟩
    · skip
      by_cases k24_1 : v21 = 1
      · skip
        refine lv_tableIn (off := 40) (tgt := 64) hx hb dX0_element_24 (by rw [k24_1]; decide) (by rw [k24_1]; decide) (by rw [k24_1]; rfl) (by decide) ?_
        refine xl_aload_n hx hb dX0_element_64 rfl (lv_at hl 0 rfl) ?_
        refine xr_cast (k := 1) (kI := 1) hx hb hts hown hK hW hin h6 (by decide) rfl (by rw [← e21]; exact k24_1) (nm := "[C") rfl q1607 dX0_element_65 ?_
        refine lv_iload_n hx hb dX0_element_68 rfl (lv_at hl 3 rfl) ?_
        refine xr_cald hx hb hK hW hin h6 (by rw [← e21]; exact k24_1) i0 i1 dX0_element_69 ?_
        refine lv_i2l (v := ((re_ E 0 (60 * s + i)).toInt32).toInt64) hx hb dX0_element_70 rfl ?_
        refine xw_lret hx hb hr hlocks hW hS ?_ dX0_element_71
        have hres : xf_element X E s i = (re_ E 0 (60 * s + i)).toInt32.toInt64 := by
          unfold xf_element xr_el
          rw [if_pos (by rw [← e3]; exact c6), ← e21, if_neg k24_0, if_pos k24_1]
        exact ⟨by rw [hres], rfl, rfl⟩
      · skip
        by_cases k24_2 : v21 = 2
        · skip
          refine lv_tableIn (off := 48) (tgt := 72) hx hb dX0_element_24 (by rw [k24_2]; decide) (by rw [k24_2]; decide) (by rw [k24_2]; rfl) (by decide) ?_
          refine xl_aload_n hx hb dX0_element_72 rfl (lv_at hl 0 rfl) ?_
          refine xr_cast (k := 2) (kI := 2) hx hb hts hown hK hW hin h6 (by decide) rfl (by rw [← e21]; exact k24_2) (nm := "[I") rfl q1608 dX0_element_73 ?_
          refine lv_iload_n hx hb dX0_element_76 rfl (lv_at hl 3 rfl) ?_
          refine xr_iald hx hb hK hW hin h6 (by rw [← e21]; exact k24_2) i0 i1 dX0_element_77 ?_
          refine lv_i2l (v := ((re_ E 0 (60 * s + i)).toInt32).toInt64) hx hb dX0_element_78 rfl ?_
          refine xw_lret hx hb hr hlocks hW hS ?_ dX0_element_79
          have hres : xf_element X E s i = (re_ E 0 (60 * s + i)).toInt32.toInt64 := by
            unfold xf_element xr_el
            rw [if_pos (by rw [← e3]; exact c6), ← e21, if_neg k24_0, if_neg k24_1, if_pos k24_2]
          exact ⟨by rw [hres], rfl, rfl⟩
        · skip
          by_cases k24_3 : v21 = 3
          · skip
            refine lv_tableIn (off := 56) (tgt := 80) hx hb dX0_element_24 (by rw [k24_3]; decide) (by rw [k24_3]; decide) (by rw [k24_3]; rfl) (by decide) ?_
            refine xl_aload_n hx hb dX0_element_80 rfl (lv_at hl 0 rfl) ?_
            refine xr_cast (k := 3) (kI := 3) hx hb hts hown hK hW hin h6 (by decide) rfl (by rw [← e21]; exact k24_3) (nm := "[F") rfl q819 dX0_element_81 ?_
            refine lv_iload_n hx hb dX0_element_84 rfl (lv_at hl 3 rfl) ?_
            refine xr_fald hx hb hK hW hin h6 (by rw [← e21]; exact k24_3) i0 i1 dX0_element_85 ?_
            refine pp_callv (As := [.float (if rd_ X 101 (60 * s + i) = 0 then FP.l2f (re_ E 0 (60 * s + i)) else 0x7fc00000)]) (rest := []) (n := 1) ⟨hx, hb, hml, hown, hts⟩ (xc_widened lQ (if rd_ X 101 (60 * s + i) = 0 then FP.l2f (re_ E 0 (60 * s + i)) else 0x7fc00000) (xr_fl_n (hEs s i s0 (by omega) i0 (by have := (xx_siz hW s s0 (by omega)).2; omega) (by rw [← e21, k24_3]; decide)))) (lw_S q825 q826 q84 q827) (by decide +kernel) rfl ⟨Nat.le_of_ble_eq_true rfl, Nat.le_of_ble_eq_true rfl⟩ hl.1 rfl (Nat.le_of_ble_eq_true rfl) dX0_element_86 ⟨Nat.le_of_ble_eq_true rfl, Nat.le_of_ble_eq_true rfl⟩ ?_
            refine pp_callv (As := [.double (xr_wide (if rd_ X 101 (60 * s + i) = 0 then FP.l2f (re_ E 0 (60 * s + i)) else 0x7fc00000))]) (rest := []) (n := 1) ⟨hx, hb, hml, hown, hts⟩ (xc_whole lQ (xr_wide (if rd_ X 101 (60 * s + i) = 0 then FP.l2f (re_ E 0 (60 * s + i)) else 0x7fc00000))) (lw_S q1627 q1628 q84 q1629) (by decide +kernel) rfl ⟨Nat.le_of_ble_eq_true rfl, Nat.le_of_ble_eq_true rfl⟩ hl.1 rfl (Nat.le_of_ble_eq_true rfl) dX0_element_89 ⟨Nat.le_of_ble_eq_true rfl, Nat.le_of_ble_eq_true rfl⟩ ?_
            refine xw_lret hx hb hr hlocks hW hS ?_ dX0_element_92
            have hres : xf_element X E s i = xr_whole (xr_wide (if rd_ X 101 (60 * s + i) = 0 then FP.l2f (re_ E 0 (60 * s + i)) else 0x7fc00000)) := by
              unfold xf_element xr_el
              rw [if_pos (by rw [← e3]; exact c6), ← e21, if_neg k24_0, if_neg k24_1, if_neg k24_2, if_pos k24_3]
            exact ⟨by rw [hres], rfl, rfl⟩
          · skip
            refine lv_tableOut (tgt := 93) hx hb dX0_element_24 (by have hk24_0 : (v21).toInt ≠ 0 := ww_ne k24_0; have hk24_1 : (v21).toInt ≠ 1 := ww_ne k24_1; have hk24_2 : (v21).toInt ≠ 2 := ww_ne k24_2; have hk24_3 : (v21).toInt ≠ 3 := ww_ne k24_3; omega) (by decide) ?_
            have zl0 : (0 : Int32).toInt = 0 := by decide
            have zl1 : (1 : Int32).toInt = 1 := by decide
            have zl2 : (2 : Int32).toInt = 2 := by decide
            have zl3 : (3 : Int32).toInt = 3 := by decide
            have zl4 : (4 : Int32).toInt = 4 := by decide
            have hk24_0 := ww_ne k24_0
            have hk24_1 := ww_ne k24_1
            have hk24_2 := ww_ne k24_2
            have hk24_3 := ww_ne k24_3
            have h4 : xr_st (rd_ X 58 s) = 4 := by
              rw [e21] at hk24_0 hk24_1 hk24_2 hk24_3
              exact ww_eq (by have : (4 : Int32).toInt = 4 := by decide
                              omega)
            refine xl_aload_n hx hb dX0_element_93 rfl (lv_at hl 0 rfl) ?_
            refine xr_cast (k := 4) (kI := 4) hx hb hts hown hK hW hin h6 (by decide) rfl h4 (nm := "[D") rfl q820 dX0_element_94 ?_
            refine lv_iload_n hx hb dX0_element_97 rfl (lv_at hl 3 rfl) ?_
            refine xr_dald hx hb hK hW hin h6 h4 i0 i1 dX0_element_98 ?_
            refine pp_callv (As := [.double (if rd_ X 101 (60 * s + i) = 0 then FP.l2d (re_ E 0 (60 * s + i)) else 0x7ff8000000000000)]) (rest := []) (n := 1) ⟨hx, hb, hml, hown, hts⟩ (xc_whole lQ (if rd_ X 101 (60 * s + i) = 0 then FP.l2d (re_ E 0 (60 * s + i)) else 0x7ff8000000000000)) (lw_S q1627 q1628 q84 q1629) (by decide +kernel) rfl ⟨Nat.le_of_ble_eq_true rfl, Nat.le_of_ble_eq_true rfl⟩ hl.1 rfl (Nat.le_of_ble_eq_true rfl) dX0_element_99 ⟨Nat.le_of_ble_eq_true rfl, Nat.le_of_ble_eq_true rfl⟩ ?_
            refine xw_lret hx hb hr hlocks hW hS ?_ dX0_element_102
            have hres : xf_element X E s i = xr_whole (if rd_ X 101 (60 * s + i) = 0 then FP.l2d (re_ E 0 (60 * s + i)) else 0x7ff8000000000000) := by
              unfold xf_element xr_el
              rw [if_pos (by rw [← e3]; exact c6), ← e21, if_neg k24_0, if_neg k24_1, if_neg k24_2, if_neg k24_3]
            exact ⟨by rw [hres], rfl, rfl⟩
  · skip
    refine lv_ldc2 (v := (-9223372036854775808)) hx hb hown (hts _ q1626) dX0_element_9 ?_
    refine xw_lret hx hb hr hlocks hW hS ?_ dX0_element_12
    have hres : xf_element X E s i = (-9223372036854775808) := by subst e3; simp only [xf_element, if_neg c6]
    exact ⟨by rw [hres], rfl, rfl⟩

set_option maxHeartbeats 4000000 in
theorem xc_taken (lQ : Launch) (G : wm_G) (o d0 : Nat) (X : mm_S) (E : mm_E) (D : xg) (s : Int32) (k : Int32) (hKs : xv_K X) : xw_Met lQ G o d0 yX0_taken (ws_ yX0_taken cX0_taken 5 (some .int)) 5 X E D [Value.ref o, .int s, .int k] (some (.int (xf_taken X s k))) X E := by
  refine xw_start (own := RX0) (by decide +kernel) (Nat.le_of_ble_eq_true rfl) rfl (fun pQ eQ sQ mQ belowQ methQ cQ hx hb hml hr hlocks hts hown hK hN H hW hS ls hl => ?_)
  have hl : lv_has ls 5 [(0, .ref o), (1, .int s), (2, .int k)] := hl
  generalize hlc : ([] : List Loc) = locs at hS ⊢
  refine lv_iload_n hx hb dX0_taken_0 rfl (lv_at hl 1 rfl) ?_
  refine pp_calli (As := [.int s]) (rest := []) (n := 1) ⟨hx, hb, hml, hown, hts⟩ (xc_isShelf lQ s) (lw_S q816 q817 q84 q818) (by decide +kernel) rfl ⟨Nat.le_of_ble_eq_true rfl, Nat.le_of_ble_eq_true rfl⟩ hl.1 rfl (Nat.le_of_ble_eq_true rfl) dX0_taken_1 ⟨Nat.le_of_ble_eq_true rfl, Nat.le_of_ble_eq_true rfl⟩ (fun v1 e1 => ?_)
  refine lv_if_eq (tgt := 19) hx hb dX0_taken_4 (by decide) (fun c4 => ?_) (fun c4 => ?_)
  · skip
    refine lv_iconst (v := (-1)) hx hb dX0_taken_19 (by decide) ?_
    refine xw_iret hx hb hr hlocks hW hS ?_ dX0_taken_20
    have hres : xf_taken X s k = (-1) := by subst e1; simp only [xf_taken, if_pos c4]
    exact ⟨by rw [hres], rfl, rfl⟩
  · skip
    have hs := ff_isShelf_t (s := s) (by rw [← e1]; exact c4)
    have hin : vp_in s 6 := ww_in hs.1 (by omega)
    have h6 := hKs s hs.1 (by omega)
    refine lv_iload_n hx hb dX0_taken_7 rfl (lv_at hl 2 rfl) ?_
    refine lv_i2l (v := (k).toInt64) hx hb dX0_taken_8 rfl ?_
    refine lv_lconst (v := 0) hx hb dX0_taken_9 (by decide) ?_
    refine lv_ldc2 (v := 7) hx hb hown (hts _ q1642) dX0_taken_10 ?_
    refine xx_within (rest := []) k 0 7 ⟨hx, hb, hml, hown, hts⟩ rfl (by decide) (by decide) q459 hl.1 rfl rfl (Nat.le_of_ble_eq_true rfl) rfl rfl ⟨Nat.le_of_ble_eq_true rfl, Nat.le_of_ble_eq_true rfl⟩ dX0_taken_13 (fun v13 e13 => ?_)
    refine lv_if_ne (tgt := 21) hx hb dX0_taken_16 (by decide) (fun c16 => ?_) (fun c16 => ?_)
    · skip
      refine lv_aload_n hx hb dX0_taken_21 rfl (lv_at hl 0 rfl) ?_
      refine xx_getr hx hb hts hown hK hW 58 rfl rfl (by decide) (by decide) q331 dX0_taken_22 ?_
      refine lv_iload_n hx hb dX0_taken_25 rfl (lv_at hl 1 rfl) ?_
      refine xx_kald hx hb hK hW hin dX0_taken_26 ?_
      refine xl_astore_n (lv' := [(3, va_rf (xx_so D (rd_ X 58 s) s.toNatClampNeg)), (0, .ref o), (1, .int s), (2, .int k)]) hx hb dX0_taken_27 rfl hl (by decide) rfl (fun ls hl => ?_)
      refine xl_aload_n hx hb dX0_taken_28 rfl (lv_at hl 0 rfl) ?_
      refine xr_ifnonnull (tgt := 35) h6 hx hb dX0_taken_29 (by decide) (fun c29 => ?_) (fun c29 => ?_)
      · skip
        refine xl_aload_n hx hb dX0_taken_35 rfl (lv_at hl 0 rfl) ?_
        refine xr_instB hx hb hts hown hK hN hW hin h6 c29 q122 dX0_taken_36 ?_
        refine lv_if_ne (tgt := 45) hx hb dX0_taken_39 (by decide) (fun c39 => ?_) (fun c39 => ?_)
        · skip
          have hp : 0 ≤ (rd_ X 58 s).toInt := by
            rcases Int.lt_or_le (rd_ X 58 s).toInt 0 with z | z
            · rw [if_pos (ww_lt' (by rw [ww_z0]; exact z))] at c39
              exact absurd rfl c39
            · exact z
          have hib := xr_bod hW hin hp
          obtain ⟨q, hq⟩ : ∃ q : Nat, q = xq X (rd_ X 58 s) := ⟨_, rfl⟩
          have hi : xa_in X (rd_ X 58 s) q := ⟨hib, hq.symm⟩
          refine xl_aload_n hx hb dX0_taken_45 rfl (lv_at hl 0 rfl) ?_
          refine xr_castB hx hb hts hown hK hN hW hin hib q122 dX0_taken_46 ?_
          refine xl_astore (lv' := [(4, va_rf (xx_o D (rd_ X 58 s))), (3, va_rf (xx_so D (rd_ X 58 s) s.toNatClampNeg)), (0, .ref o), (1, .int s), (2, .int k)]) hx hb dX0_taken_49 hl (by decide) (by simp [va_rf_c]) (fun ls hl => ?_)
          refine xl_aload hx hb dX0_taken_51 (lv_at hl 0 rfl) ?_
          refine lv_iload_n hx hb dX0_taken_53 rfl (lv_at hl 4 rfl) ?_
          refine xw_p (xd_isUnder_X0 (rest := []) lQ ⟨hx, hb, hml, hown, hts⟩ hK hN hW hi (xa_8 hW hi) k ⟨Nat.le_of_ble_eq_true rfl, Nat.le_of_ble_eq_true rfl⟩ hl.1 (by rw [xx_o_pos hib.1]; rfl) (Nat.le_of_ble_eq_true rfl) dX0_taken_54 ⟨Nat.le_of_ble_eq_true rfl, Nat.le_of_ble_eq_true rfl⟩) hS (fun v54 H locs e54 hW hS => ?_)
          refine lv_if_eq (tgt := 68) hx hb dX0_taken_57 (by decide) (fun c57 => ?_) (fun c57 => ?_)
          · skip
            refine lv_bipush (v := (-12)) hx hb dX0_taken_68 (by decide) ?_
            refine xw_iret hx hb hr hlocks hW hS ?_ dX0_taken_70
            have hres : xf_taken X s k = (-12) := by unfold xf_taken; rw [if_neg (by rw [← e1]; exact c4), if_neg (by rw [← e13]; exact c16), if_neg c29, if_neg (show ¬ rd_ X 58 s < 0 from ww_nlt' (by rw [ww_00]; exact hp)), ← hq, ← e54, if_pos c57]
            exact ⟨by rw [hres], rfl, rfl⟩
          · skip
            refine xl_aload hx hb dX0_taken_60 (lv_at hl 0 rfl) ?_
            refine xw_p (xd_kind_X0 (rest := []) lQ ⟨hx, hb, hml, hown, hts⟩ hK hN hW hib ⟨Nat.le_of_ble_eq_true rfl, Nat.le_of_ble_eq_true rfl⟩ hl.1 (by rw [xx_o_pos hib.1]; rfl) (Nat.le_of_ble_eq_true rfl) dX0_taken_62 ⟨Nat.le_of_ble_eq_true rfl, Nat.le_of_ble_eq_true rfl⟩) hS (fun v62 H locs e62 hW hS => ?_)
            refine lv_goto (tgt := 70) hx hb dX0_taken_65 (by decide) ?_
            refine xw_iret hx hb hr hlocks hW hS ?_ dX0_taken_70
            have hres : xf_taken X s k = v62 := by unfold xf_taken; rw [if_neg (by rw [← e1]; exact c4), if_neg (by rw [← e13]; exact c16), if_neg c29, if_neg (show ¬ rd_ X 58 s < 0 from ww_nlt' (by rw [ww_00]; exact hp)), ← hq, ← e54, if_neg c57, e62]
            exact ⟨by rw [hres], rfl, rfl⟩
        · skip
          refine lv_bipush (v := (-12)) hx hb dX0_taken_42 (by decide) ?_
          refine xw_iret hx hb hr hlocks hW hS ?_ dX0_taken_44
          have hres : xf_taken X s k = (-12) := by subst e1 e13; unfold xf_taken; rw [if_neg c4, if_neg c16, if_neg c29, if_pos (Decidable.byContradiction fun z => by rw [if_neg z] at c39; exact absurd c39 (by decide))]
          exact ⟨by rw [hres], rfl, rfl⟩
      · skip
        refine lv_bipush (v := (-11)) hx hb dX0_taken_32 (by decide) ?_
        refine xw_iret hx hb hr hlocks hW hS ?_ dX0_taken_34
        have hres : xf_taken X s k = (-11) := by subst e1 e13; simp only [xf_taken, if_neg c4, if_neg c16, if_pos c29]
        exact ⟨by rw [hres], rfl, rfl⟩
    · skip
      refine lv_iconst (v := (-1)) hx hb dX0_taken_19 (by decide) ?_
      refine xw_iret hx hb hr hlocks hW hS ?_ dX0_taken_20
      have hres : xf_taken X s k = (-1) := by subst e1 e13; simp only [xf_taken, if_neg c4, if_pos c16]
      exact ⟨by rw [hres], rfl, rfl⟩
