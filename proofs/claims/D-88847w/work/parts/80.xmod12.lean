set_option maxHeartbeats 4000000 in
theorem xc_shift (lQ : Launch) (G : wm_G) (o d0 : Nat) (X : mm_S) (E : mm_E) (D : xg) (s : Int32) (i : Int32) (u : Int32) (j : Int32) (n : Int32) (hKs : xv_K X) (hF : xv_F X E) : xw_Met lQ G o d0 yX0_shift (ws_ yX0_shift cX0_shift 8 (some .int)) 3 X E D [Value.ref o, .int s, .int i, .int u, .int j, .int n] (some (.int (xf_shift X E s i u j n).1)) (xf_shift X E s i u j n).2.1 (xf_shift X E s i u j n).2.2 := by
  refine xw_start (own := RX0) (by decide +kernel) (Nat.le_of_ble_eq_true rfl) rfl (fun pQ eQ sQ mQ belowQ methQ cQ hx hb hml hr hlocks hts hown hK hN H hW hS ls hl => ?_)
  have hl : lv_has ls 8 [(0, .ref o), (1, .int s), (2, .int i), (3, .int u), (4, .int j), (5, .int n)] := hl
  generalize hlc : ([] : List Loc) = locs at hS ⊢
  refine lv_iload_n hx hb dX0_shift_0 rfl (lv_at hl 1 rfl) ?_
  refine pp_calli (As := [.int s]) (rest := []) (n := 1) ⟨hx, hb, hml, hown, hts⟩ (xc_isShelf lQ s) (lw_S q816 q817 q84 q818) (by decide +kernel) rfl ⟨Nat.le_of_ble_eq_true rfl, Nat.le_of_ble_eq_true rfl⟩ hl.1 rfl (Nat.le_of_ble_eq_true rfl) dX0_shift_1 ⟨Nat.le_of_ble_eq_true rfl, Nat.le_of_ble_eq_true rfl⟩ (fun v1 e1 => ?_)
  refine lv_if_eq (tgt := 14) hx hb dX0_shift_4 (by decide) (fun c4 => ?_) (fun c4 => ?_)
  · skip
    refine lv_iconst (v := (-1)) hx hb dX0_shift_14 (by decide) ?_
    refine xw_iret hx hb hr hlocks hW hS ?_ dX0_shift_15
    have hres : xf_shift X E s i u j n = ((-1), X, E) := by subst e1; simp only [xf_shift, if_pos c4]
    exact ⟨by rw [hres], by rw [hres], by rw [hres]⟩
  · skip
    have hs := ff_isShelf_t (s := s) (by rw [← e1]; exact c4)
    have hins : vp_in s 6 := ww_in hs.1 (by omega)
    have h6s := hKs s hs.1 (by omega)
    refine lv_iload_n hx hb dX0_shift_7 rfl (lv_at hl 3 rfl) ?_
    refine pp_calli (As := [.int u]) (rest := []) (n := 1) ⟨hx, hb, hml, hown, hts⟩ (xc_isShelf lQ u) (lw_S q816 q817 q84 q818) (by decide +kernel) rfl ⟨Nat.le_of_ble_eq_true rfl, Nat.le_of_ble_eq_true rfl⟩ hl.1 rfl (Nat.le_of_ble_eq_true rfl) dX0_shift_8 ⟨Nat.le_of_ble_eq_true rfl, Nat.le_of_ble_eq_true rfl⟩ (fun v8 e8 => ?_)
    refine lv_if_ne (tgt := 16) hx hb dX0_shift_11 (by decide) (fun c11 => ?_) (fun c11 => ?_)
    · skip
      have hu := ff_isShelf_t (s := u) (by rw [← e8]; exact c11)
      have hinu : vp_in u 6 := ww_in hu.1 (by omega)
      have h6u := hKs u hu.1 (by omega)
      refine lv_aload_n hx hb dX0_shift_16 rfl (lv_at hl 0 rfl) ?_
      refine xx_getr hx hb hts hown hK hW 58 rfl rfl (by decide) (by decide) q331 dX0_shift_17 ?_
      refine lv_iload_n hx hb dX0_shift_20 rfl (lv_at hl 1 rfl) ?_
      refine xx_kald hx hb hK hW hins dX0_shift_21 ?_
      refine xl_astore (lv' := [(6, va_rf (xx_so D (rd_ X 58 s) s.toNatClampNeg)), (0, .ref o), (1, .int s), (2, .int i), (3, .int u), (4, .int j), (5, .int n)]) hx hb dX0_shift_22 hl (by decide) rfl (fun ls hl => ?_)
      refine lv_aload_n hx hb dX0_shift_24 rfl (lv_at hl 1 rfl) ?_
      refine xx_getr hx hb hts hown hK hW 58 rfl rfl (by decide) (by decide) q331 dX0_shift_25 ?_
      refine lv_iload_n hx hb dX0_shift_28 rfl (lv_at hl 4 rfl) ?_
      refine xx_kald hx hb hK hW hinu dX0_shift_29 ?_
      refine xl_astore (lv' := [(7, va_rf (xx_so D (rd_ X 58 u) u.toNatClampNeg)), (6, va_rf (xx_so D (rd_ X 58 s) s.toNatClampNeg)), (0, .ref o), (1, .int s), (2, .int i), (3, .int u), (4, .int j), (5, .int n)]) hx hb dX0_shift_30 hl (by decide) (by simp [va_rf_c]) (fun ls hl => ?_)
      refine xl_aload hx hb dX0_shift_32 (lv_at hl 1 rfl) ?_
      refine xr_ifnull (tgt := 42) h6s hx hb dX0_shift_34 (by decide) (fun c34 => ?_) (fun c34 => ?_)
      · skip
        refine lv_bipush (v := (-11)) hx hb dX0_shift_42 (by decide) ?_
        refine xw_iret hx hb hr hlocks hW hS ?_ dX0_shift_44
        have hres : xf_shift X E s i u j n = ((-11), X, E) := by subst e1 e8; simp only [xf_shift, if_neg c4, if_neg c11, if_pos c34]
        exact ⟨by rw [hres], by rw [hres], by rw [hres]⟩
      · skip
        refine xl_aload hx hb dX0_shift_37 (lv_at hl 0 rfl) ?_
        refine xr_ifnonnull (tgt := 45) h6u hx hb dX0_shift_39 (by decide) (fun c39 => ?_) (fun c39 => ?_)
        · skip
          refine xl_aload hx hb dX0_shift_45 (lv_at hl 1 rfl) ?_
          refine xw_p (xw_rS (As := [va_rf (xx_so D (rd_ X 58 s) s.toNatClampNeg)]) (rest := []) (n := 1) ⟨hx, hb, hml, hown, hts⟩ hK hN hW (xc_sortOf lQ G o d0 X E D s hins h6s) (lw_S q1603 q1604 q84 q1605) (by decide +kernel) rfl ⟨Nat.le_of_ble_eq_true rfl, Nat.le_of_ble_eq_true rfl⟩ hl.1 rfl (Nat.le_of_ble_eq_true rfl) dX0_shift_47 ⟨Nat.le_of_ble_eq_true rfl, Nat.le_of_ble_eq_true rfl⟩) hS (fun v47 H locs e47 hW hS => ?_)
          refine lv_iconst (v := (-1)) hx hb dX0_shift_50 (by decide) ?_
          refine lv_icmp_eq (tgt := 67) hx hb dX0_shift_51 (by decide) (fun c51 => ?_) (fun c51 => ?_)
          · skip
            refine lv_bipush (v := (-12)) hx hb dX0_shift_67 (by decide) ?_
            refine xw_iret hx hb hr hlocks hW hS ?_ dX0_shift_69
            have hres : xf_shift X E s i u j n = ((-12), X, E) := by subst e1 e8 e47; simp only [xf_shift, if_neg c4, if_neg c11, if_neg c34, if_neg c39, if_pos c51]
            exact ⟨by rw [hres], by rw [hres], by rw [hres]⟩
          · skip
            have hno : ¬ xr_st (rd_ X 58 s) = -1 := by rw [← e47]; exact c51
            refine xl_aload hx hb dX0_shift_54 (lv_at hl 1 rfl) ?_
            refine xw_p (xw_rS (As := [va_rf (xx_so D (rd_ X 58 s) s.toNatClampNeg)]) (rest := []) (n := 1) ⟨hx, hb, hml, hown, hts⟩ hK hN hW (xc_sortOf lQ G o d0 X E D s hins h6s) (lw_S q1603 q1604 q84 q1605) (by decide +kernel) rfl ⟨Nat.le_of_ble_eq_true rfl, Nat.le_of_ble_eq_true rfl⟩ hl.1 rfl (Nat.le_of_ble_eq_true rfl) dX0_shift_56 ⟨Nat.le_of_ble_eq_true rfl, Nat.le_of_ble_eq_true rfl⟩) hS (fun v56 H locs e56 hW hS => ?_)
            refine xl_aload hx hb dX0_shift_59 (lv_at hl 0 rfl) ?_
            refine xw_p (xw_rS (As := [va_rf (xx_so D (rd_ X 58 u) u.toNatClampNeg)]) (rest := [.int v56]) (n := 1) ⟨hx, hb, hml, hown, hts⟩ hK hN hW (xc_sortOf lQ G o d0 X E D u hinu h6u) (lw_S q1603 q1604 q84 q1605) (by decide +kernel) rfl ⟨Nat.le_of_ble_eq_true rfl, Nat.le_of_ble_eq_true rfl⟩ hl.1 rfl (Nat.le_of_ble_eq_true rfl) dX0_shift_61 ⟨Nat.le_of_ble_eq_true rfl, Nat.le_of_ble_eq_true rfl⟩) hS (fun v61 H locs e61 hW hS => ?_)
            refine lv_icmp_eq (tgt := 70) hx hb dX0_shift_64 (by decide) (fun c64 => ?_) (fun c64 => ?_)
            · skip
              have hsm : xr_st (rd_ X 58 s) = xr_st (rd_ X 58 u) := by rw [← e56, ← e61]; exact c64
              have hnou : ¬ xr_st (rd_ X 58 u) = -1 := by rw [← hsm]; exact hno
              refine lv_iload hx hb dX0_shift_70 (lv_at hl 7 rfl) ?_
              refine lv_if_lt (tgt := 109) hx hb dX0_shift_72 (by decide) (fun c72 => ?_) (fun c72 => ?_)
              · have t72 : (n).toInt < 0 := ww_lt c72
                refine lv_bipush (v := (-13)) hx hb dX0_shift_109 (by decide) ?_
                refine xw_iret hx hb hr hlocks hW hS ?_ dX0_shift_111
                have hres : xf_shift X E s i u j n = ((-13), X, E) := by subst e1 e8 e47 e56 e61; simp only [xf_shift, if_neg c4, if_neg c11, if_neg c34, if_neg c39, if_neg c51, if_pos c64, if_pos c72]
                exact ⟨by rw [hres], by rw [hres], by rw [hres]⟩
              · have t72 : 0 ≤ (n).toInt := ww_nlt c72
                refine lv_iload_n hx hb dX0_shift_75 rfl (lv_at hl 4 rfl) ?_
                refine lv_if_lt (tgt := 109) hx hb dX0_shift_76 (by decide) (fun c76 => ?_) (fun c76 => ?_)
                · have t76 : (i).toInt < 0 := ww_lt c76
                  refine lv_bipush (v := (-13)) hx hb dX0_shift_109 (by decide) ?_
                  refine xw_iret hx hb hr hlocks hW hS ?_ dX0_shift_111
                  have hres : xf_shift X E s i u j n = ((-13), X, E) := by subst e1 e8 e47 e56 e61; simp only [xf_shift, if_neg c4, if_neg c11, if_neg c34, if_neg c39, if_neg c51, if_pos c64, if_neg c72, if_pos c76]
                  exact ⟨by rw [hres], by rw [hres], by rw [hres]⟩
                · have t76 : 0 ≤ (i).toInt := ww_nlt c76
                  refine lv_iload hx hb dX0_shift_79 (lv_at hl 6 rfl) ?_
                  refine lv_if_lt (tgt := 109) hx hb dX0_shift_81 (by decide) (fun c81 => ?_) (fun c81 => ?_)
                  · have t81 : (j).toInt < 0 := ww_lt c81
                    refine lv_bipush (v := (-13)) hx hb dX0_shift_109 (by decide) ?_
                    refine xw_iret hx hb hr hlocks hW hS ?_ dX0_shift_111
                    have hres : xf_shift X E s i u j n = ((-13), X, E) := by subst e1 e8 e47 e56 e61; simp only [xf_shift, if_neg c4, if_neg c11, if_neg c34, if_neg c39, if_neg c51, if_pos c64, if_neg c72, if_neg c76, if_pos c81]
                    exact ⟨by rw [hres], by rw [hres], by rw [hres]⟩
                  · have t81 : 0 ≤ (j).toInt := ww_nlt c81
                    refine lv_iload_n hx hb dX0_shift_84 rfl (lv_at hl 4 rfl) ?_
                    refine xl_aload hx hb dX0_shift_85 (lv_at hl 1 rfl) ?_
                    refine xw_p (xw_rS (As := [va_rf (xx_so D (rd_ X 58 s) s.toNatClampNeg)]) (rest := [.int i]) (n := 1) ⟨hx, hb, hml, hown, hts⟩ hK hN hW (xc_sizeOf lQ G o d0 X E D s hins h6s hno) (lw_S q1614 q1615 q84 q1616) (by decide +kernel) rfl ⟨Nat.le_of_ble_eq_true rfl, Nat.le_of_ble_eq_true rfl⟩ hl.1 rfl (Nat.le_of_ble_eq_true rfl) dX0_shift_87 ⟨Nat.le_of_ble_eq_true rfl, Nat.le_of_ble_eq_true rfl⟩) hS (fun v87 H locs e87 hW hS => ?_)
                    refine lv_iload hx hb dX0_shift_90 (lv_at hl 7 rfl) ?_
                    refine nv_isub hx hb dX0_shift_92 (fun v92 e92 => ?_)
                    refine lv_icmp_gt (tgt := 109) hx hb dX0_shift_93 (by decide) (fun c93 => ?_) (fun c93 => ?_)
                    · have t93 : (v92).toInt < (i).toInt := ww_lt c93
                      refine lv_bipush (v := (-13)) hx hb dX0_shift_109 (by decide) ?_
                      refine xw_iret hx hb hr hlocks hW hS ?_ dX0_shift_111
                      have hres : xf_shift X E s i u j n = ((-13), X, E) := by subst e1 e8 e47 e56 e61 e87 e92; simp only [xf_shift, if_neg c4, if_neg c11, if_neg c34, if_neg c39, if_neg c51, if_pos c64, if_neg c72, if_neg c76, if_neg c81, if_pos c93]
                      exact ⟨by rw [hres], by rw [hres], by rw [hres]⟩
                    · have t93 : (i).toInt ≤ (v92).toInt := ww_nlt c93
                      have z92 : v92.toInt = (rd_ X 100 s).toInt - n.toInt := by rw [e92, e87, ww_sub] <;> (have := xx_siz hW s hs.1 (by omega); have := ww_hi n; omega)
                      refine lv_iload hx hb dX0_shift_96 (lv_at hl 6 rfl) ?_
                      refine xl_aload hx hb dX0_shift_98 (lv_at hl 0 rfl) ?_
                      refine xw_p (xw_rS (As := [va_rf (xx_so D (rd_ X 58 u) u.toNatClampNeg)]) (rest := [.int j]) (n := 1) ⟨hx, hb, hml, hown, hts⟩ hK hN hW (xc_sizeOf lQ G o d0 X E D u hinu h6u hnou) (lw_S q1614 q1615 q84 q1616) (by decide +kernel) rfl ⟨Nat.le_of_ble_eq_true rfl, Nat.le_of_ble_eq_true rfl⟩ hl.1 rfl (Nat.le_of_ble_eq_true rfl) dX0_shift_100 ⟨Nat.le_of_ble_eq_true rfl, Nat.le_of_ble_eq_true rfl⟩) hS (fun v100 H locs e100 hW hS => ?_)
                      refine lv_iload hx hb dX0_shift_103 (lv_at hl 7 rfl) ?_
                      refine nv_isub hx hb dX0_shift_105 (fun v105 e105 => ?_)
                      refine lv_icmp_le (tgt := 112) hx hb dX0_shift_106 (by decide) (fun c106 => ?_) (fun c106 => ?_)
                      · have t106 : (j).toInt ≤ (v105).toInt := ww_le c106
                        have z105 : v105.toInt = (rd_ X 100 u).toInt - n.toInt := by rw [e105, e100, ww_sub] <;> (have := xx_siz hW u hu.1 (by omega); have := ww_hi n; omega)
                        refine xl_aload hx hb dX0_shift_112 (lv_at hl 1 rfl) ?_
                        refine lv_iload_n hx hb dX0_shift_114 rfl (lv_at hl 4 rfl) ?_
                        refine xl_aload hx hb dX0_shift_115 (lv_at hl 0 rfl) ?_
                        refine lv_iload hx hb dX0_shift_117 (lv_at hl 6 rfl) ?_
                        refine lv_iload hx hb dX0_shift_119 (lv_at hl 7 rfl) ?_
                        refine xr_copy (rest := []) hx hb (hml.trans hl.1.symm) hts hown hK hW hS hF hins hinu h6s h6u hno hsm t76 t81 t72 (by omega) (by omega) q1635 q1637 q1636 q113 (by decide) (by decide +kernel) dX0_shift_121 (fun X121 E121 H locs f121 g121 hW hS => ?_)
                        refine lv_iload hx hb dX0_shift_124 (lv_at hl 7 rfl) ?_
                        refine xw_iret hx hb hr hlocks hW hS ?_ dX0_shift_126
                        have hres : xf_shift X E s i u j n = (n, X121, E121) := by subst e1 e8 e47 e56 e61 e87 e92 e100 e105 f121 g121; simp only [xf_shift, if_neg c4, if_neg c11, if_neg c34, if_neg c39, if_neg c51, if_pos c64, if_neg c72, if_neg c76, if_neg c81, if_neg c93, if_pos c106]
                        exact ⟨by rw [hres], by rw [hres], by rw [hres]⟩
                      · have t106 : (v105).toInt < (j).toInt := ww_nle c106
                        refine lv_bipush (v := (-13)) hx hb dX0_shift_109 (by decide) ?_
                        refine xw_iret hx hb hr hlocks hW hS ?_ dX0_shift_111
                        have hres : xf_shift X E s i u j n = ((-13), X, E) := by subst e1 e8 e47 e56 e61 e87 e92 e100 e105; simp only [xf_shift, if_neg c4, if_neg c11, if_neg c34, if_neg c39, if_neg c51, if_pos c64, if_neg c72, if_neg c76, if_neg c81, if_neg c93, if_neg c106]
                        exact ⟨by rw [hres], by rw [hres], by rw [hres]⟩
            · skip
              refine lv_bipush (v := (-12)) hx hb dX0_shift_67 (by decide) ?_
              refine xw_iret hx hb hr hlocks hW hS ?_ dX0_shift_69
              have hres : xf_shift X E s i u j n = ((-12), X, E) := by subst e1 e8 e47 e56 e61; simp only [xf_shift, if_neg c4, if_neg c11, if_neg c34, if_neg c39, if_neg c51, if_neg c64]
              exact ⟨by rw [hres], by rw [hres], by rw [hres]⟩
        · skip
          refine lv_bipush (v := (-11)) hx hb dX0_shift_42 (by decide) ?_
          refine xw_iret hx hb hr hlocks hW hS ?_ dX0_shift_44
          have hres : xf_shift X E s i u j n = ((-11), X, E) := by subst e1 e8; simp only [xf_shift, if_neg c4, if_neg c11, if_neg c34, if_pos c39]
          exact ⟨by rw [hres], by rw [hres], by rw [hres]⟩
    · skip
      refine lv_iconst (v := (-1)) hx hb dX0_shift_14 (by decide) ?_
      refine xw_iret hx hb hr hlocks hW hS ?_ dX0_shift_15
      have hres : xf_shift X E s i u j n = ((-1), X, E) := by subst e1 e8; simp only [xf_shift, if_neg c4, if_pos c11]
      exact ⟨by rw [hres], by rw [hres], by rw [hres]⟩
