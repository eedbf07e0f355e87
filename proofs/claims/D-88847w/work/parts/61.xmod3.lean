set_option maxHeartbeats 4000000 in
theorem xc_ofHole (lQ : Launch) (G : wm_G) (o d0 : Nat) (X : mm_S) (E : mm_E) (D : xg) (h : Int32) (w : Int32) (hi : xh_in X h) : xw_Met lQ G o d0 yX0_ofHole (ws_ yX0_ofHole cX0_ofHole 2 (some .int)) 1 X E D ([va_rf (xx_o D h), .int w] : List Value) (some (.int (xf_ofHole X h w))) X E := by
  refine xw_start (own := RX0) (by decide +kernel) (by simp [lg_sl, va_rf_c, vc_i, vc_r, vc_l]) rfl (fun pQ eQ sQ mQ belowQ methQ cQ hx hb hml hr hlocks hts hown hK hN H hW hS ls hl => ?_)
  have hl : lv_has ls 2 [(0, va_rf (xx_o D h)), (1, .int w)] := by simpa [lv_args, va_rf_c, vc_i, vc_r, vc_l] using hl
  generalize hlc : ([] : List Loc) = locs at hS ⊢
  refine lv_iload_n hx hb dX0_ofHole_0 rfl (lv_at hl 1 rfl) ?_
  by_cases k1_1 : w = 1
  · skip
    refine lv_tableIn (off := 43) (tgt := 44) hx hb dX0_ofHole_1 (by rw [k1_1]; decide) (by rw [k1_1]; decide) (by rw [k1_1]; rfl) (by decide) ?_
    refine xl_aload_n hx hb dX0_ofHole_44 rfl (lv_at hl 0 rfl) ?_
    refine xl_top hi.1.1 ?_
    refine xb_getN hx hb hts hown hK hW hi.1 (k := 3) (xf_hole hi.2 (k := 3) (by decide)) (hN.nf q522) rfl (xb_vi (f := 61) (xf_hole hi.2 (k := 3) (by decide)) (by decide)) dX0_ofHole_45 ?_
    refine xw_iret hx hb hr hlocks hW hS ?_ dX0_ofHole_48
    have hres : xf_ofHole X h w = (rd_ X 61 h) := by simp only [xf_ofHole, if_pos k1_1]
    exact ⟨by rw [hres], rfl, rfl⟩
  · skip
    by_cases k1_2 : w = 2
    · skip
      refine lv_tableIn (off := 48) (tgt := 49) hx hb dX0_ofHole_1 (by rw [k1_2]; decide) (by rw [k1_2]; decide) (by rw [k1_2]; rfl) (by decide) ?_
      refine xl_aload_n hx hb dX0_ofHole_49 rfl (lv_at hl 0 rfl) ?_
      refine xl_top hi.1.1 ?_
      refine xb_getN hx hb hts hown hK hW hi.1 (k := 4) (xf_hole hi.2 (k := 4) (by decide)) (hN.nf q524) rfl (xb_vi (f := 62) (xf_hole hi.2 (k := 4) (by decide)) (by decide)) dX0_ofHole_50 ?_
      refine xw_iret hx hb hr hlocks hW hS ?_ dX0_ofHole_53
      have hres : xf_ofHole X h w = (rd_ X 62 h) := by simp only [xf_ofHole, if_neg k1_1, if_pos k1_2]
      exact ⟨by rw [hres], rfl, rfl⟩
    · skip
      by_cases k1_3 : w = 3
      · skip
        refine lv_tableIn (off := 53) (tgt := 54) hx hb dX0_ofHole_1 (by rw [k1_3]; decide) (by rw [k1_3]; decide) (by rw [k1_3]; rfl) (by decide) ?_
        refine xl_aload_n hx hb dX0_ofHole_54 rfl (lv_at hl 0 rfl) ?_
        refine xl_top hi.1.1 ?_
        refine xb_getN hx hb hts hown hK hW hi.1 (k := 8) (xf_hole hi.2 (k := 8) (by decide)) (hN.nf q532) rfl (xb_vi (f := 66) (xf_hole hi.2 (k := 8) (by decide)) (by decide)) dX0_ofHole_55 ?_
        refine xw_iret hx hb hr hlocks hW hS ?_ dX0_ofHole_58
        have hres : xf_ofHole X h w = (rd_ X 66 h) := by simp only [xf_ofHole, if_neg k1_1, if_neg k1_2, if_pos k1_3]
        exact ⟨by rw [hres], rfl, rfl⟩
      · skip
        by_cases k1_4 : w = 4
        · skip
          refine lv_tableIn (off := 58) (tgt := 59) hx hb dX0_ofHole_1 (by rw [k1_4]; decide) (by rw [k1_4]; decide) (by rw [k1_4]; rfl) (by decide) ?_
          refine xl_aload_n hx hb dX0_ofHole_59 rfl (lv_at hl 0 rfl) ?_
          refine xl_top hi.1.1 ?_
          refine xb_getN hx hb hts hown hK hW hi.1 (k := 9) (xf_hole hi.2 (k := 9) (by decide)) (hN.nf q534) rfl (xb_vi (f := 67) (xf_hole hi.2 (k := 9) (by decide)) (by decide)) dX0_ofHole_60 ?_
          refine xw_iret hx hb hr hlocks hW hS ?_ dX0_ofHole_63
          have hres : xf_ofHole X h w = (rd_ X 67 h) := by simp only [xf_ofHole, if_neg k1_1, if_neg k1_2, if_neg k1_3, if_pos k1_4]
          exact ⟨by rw [hres], rfl, rfl⟩
        · skip
          by_cases k1_5 : w = 5
          · skip
            refine lv_tableIn (off := 63) (tgt := 64) hx hb dX0_ofHole_1 (by rw [k1_5]; decide) (by rw [k1_5]; decide) (by rw [k1_5]; rfl) (by decide) ?_
            refine xl_aload_n hx hb dX0_ofHole_64 rfl (lv_at hl 0 rfl) ?_
            refine xw_p (xd_isThrough_X0 (rest := []) lQ ⟨hx, hb, hml, hown, hts⟩ hK hN hW hi ⟨Nat.le_of_ble_eq_true rfl, Nat.le_of_ble_eq_true rfl⟩ hl.1 (by rw [xx_o_pos hi.1.1]; rfl) (Nat.le_of_ble_eq_true rfl) dX0_ofHole_65 ⟨Nat.le_of_ble_eq_true rfl, Nat.le_of_ble_eq_true rfl⟩) hS (fun v65 H locs e65 hW hS => ?_)
            refine pp_calli (As := [.int v65]) (rest := []) (n := 1) ⟨hx, hb, hml, hown, hts⟩ (xc_bit lQ v65) (lw_S q769 q770 q84 q771) (by decide +kernel) rfl ⟨Nat.le_of_ble_eq_true rfl, Nat.le_of_ble_eq_true rfl⟩ hl.1 rfl (Nat.le_of_ble_eq_true rfl) dX0_ofHole_68 ⟨Nat.le_of_ble_eq_true rfl, Nat.le_of_ble_eq_true rfl⟩ (fun v68 e68 => ?_)
            refine xw_iret hx hb hr hlocks hW hS ?_ dX0_ofHole_71
            have hres : xf_ofHole X h w = v68 := by subst e65 e68; simp only [xf_ofHole, if_neg k1_1, if_neg k1_2, if_neg k1_3, if_neg k1_4, if_pos k1_5]
            exact ⟨by rw [hres], rfl, rfl⟩
          · skip
            by_cases k1_6 : w = 6
            · skip
              refine lv_tableIn (off := 71) (tgt := 72) hx hb dX0_ofHole_1 (by rw [k1_6]; decide) (by rw [k1_6]; decide) (by rw [k1_6]; rfl) (by decide) ?_
              refine xl_aload_n hx hb dX0_ofHole_72 rfl (lv_at hl 0 rfl) ?_
              refine xl_top hi.1.1 ?_
              refine xb_getN hx hb hts hown hK hW hi.1 (k := 10) (xf_hole hi.2 (k := 10) (by decide)) (hN.nf q536) rfl (xb_vi (f := 68) (xf_hole hi.2 (k := 10) (by decide)) (by decide)) dX0_ofHole_73 ?_
              refine xw_iret hx hb hr hlocks hW hS ?_ dX0_ofHole_76
              have hres : xf_ofHole X h w = (rd_ X 68 h) := by simp only [xf_ofHole, if_neg k1_1, if_neg k1_2, if_neg k1_3, if_neg k1_4, if_neg k1_5, if_pos k1_6]
              exact ⟨by rw [hres], rfl, rfl⟩
            · skip
              by_cases k1_7 : w = 7
              · skip
                refine lv_tableIn (off := 76) (tgt := 77) hx hb dX0_ofHole_1 (by rw [k1_7]; decide) (by rw [k1_7]; decide) (by rw [k1_7]; rfl) (by decide) ?_
                refine xl_aload_n hx hb dX0_ofHole_77 rfl (lv_at hl 0 rfl) ?_
                refine xl_top hi.1.1 ?_
                refine xb_getN hx hb hts hown hK hW hi.1 (k := 6) (xf_hole hi.2 (k := 6) (by decide)) (hN.nf q528) rfl (xb_vi (f := 64) (xf_hole hi.2 (k := 6) (by decide)) (by decide)) dX0_ofHole_78 ?_
                refine xw_iret hx hb hr hlocks hW hS ?_ dX0_ofHole_81
                have hres : xf_ofHole X h w = (rd_ X 64 h) := by simp only [xf_ofHole, if_neg k1_1, if_neg k1_2, if_neg k1_3, if_neg k1_4, if_neg k1_5, if_neg k1_6, if_pos k1_7]
                exact ⟨by rw [hres], rfl, rfl⟩
              · skip
                refine lv_tableOut (tgt := 82) hx hb dX0_ofHole_1 (by have hk1_1 : (w).toInt ≠ 1 := ww_ne k1_1; have hk1_2 : (w).toInt ≠ 2 := ww_ne k1_2; have hk1_3 : (w).toInt ≠ 3 := ww_ne k1_3; have hk1_4 : (w).toInt ≠ 4 := ww_ne k1_4; have hk1_5 : (w).toInt ≠ 5 := ww_ne k1_5; have hk1_6 : (w).toInt ≠ 6 := ww_ne k1_6; have hk1_7 : (w).toInt ≠ 7 := ww_ne k1_7; omega) (by decide) ?_
                refine lv_ldcw (v := (-2000000000)) hx hb hown (hts _ q727) dX0_ofHole_82 ?_
                refine xw_iret hx hb hr hlocks hW hS ?_ dX0_ofHole_85
                have hres : xf_ofHole X h w = (-2000000000) := by simp only [xf_ofHole, if_neg k1_1, if_neg k1_2, if_neg k1_3, if_neg k1_4, if_neg k1_5, if_neg k1_6, if_neg k1_7]
                exact ⟨by rw [hres], rfl, rfl⟩

set_option maxHeartbeats 4000000 in
theorem xc_ofBody (lQ : Launch) (G : wm_G) (o d0 : Nat) (X : mm_S) (E : mm_E) (D : xg) (b : Int32) (w : Int32) (hJ : xj_s X) : xw_Met lQ G o d0 yX0_ofBody (ws_ yX0_ofBody cX0_ofBody 4 (some .int)) 3 X E D [Value.ref o, .int b, .int w] (some (.int (xf_ofBody X b w))) X E := by
  refine xw_start (own := RX0) (by decide +kernel) (Nat.le_of_ble_eq_true rfl) rfl (fun pQ eQ sQ mQ belowQ methQ cQ hx hb hml hr hlocks hts hown hK hN H hW hS ls hl => ?_)
  have hl : lv_has ls 4 [(0, .ref o), (1, .int b), (2, .int w)] := hl
  generalize hlc : ([] : List Loc) = locs at hS ⊢
  refine lv_aload_n hx hb dX0_ofBody_0 rfl (lv_at hl 0 rfl) ?_
  refine lv_iload_n hx hb dX0_ofBody_1 rfl (lv_at hl 1 rfl) ?_
  refine xw_p (xw_rV (As := [.int b]) (rest := []) (n := 1) ⟨hx, hb, hml, hown, hts⟩ hK hN hW (xc_isBody lQ G o d0 X E D b) (lw_V q723 q725 qs2 q84 q726) (xr_main hK hW) (by decide +kernel) rfl ⟨Nat.le_of_ble_eq_true rfl, Nat.le_of_ble_eq_true rfl⟩ hl.1 rfl (Nat.le_of_ble_eq_true rfl) dX0_ofBody_2 ⟨Nat.le_of_ble_eq_true rfl, Nat.le_of_ble_eq_true rfl⟩) hS (fun v2 H locs e2 hW hS => ?_)
  refine lv_if_ne (tgt := 12) hx hb dX0_ofBody_5 (by decide) (fun c5 => ?_) (fun c5 => ?_)
  · skip
    have hib : xb_in X b := xf_isBody_t (xv_W hW) (by rw [← e2]; exact c5)
    refine lv_iload_n hx hb dX0_ofBody_12 rfl (lv_at hl 2 rfl) ?_
    refine lv_if_ne (tgt := 26) hx hb dX0_ofBody_13 (by decide) (fun c13 => ?_) (fun c13 => ?_)
    · skip
      refine lv_aload_n hx hb dX0_ofBody_26 rfl (lv_at hl 0 rfl) ?_
      refine lv_iload_n hx hb dX0_ofBody_27 rfl (lv_at hl 1 rfl) ?_
      refine xw_b (xw_rV (As := [.int b]) (rest := []) (n := 1) ⟨hx, hb, hml, hown, hts⟩ hK hN hW (xc_holeOf lQ G o d0 X E D b) (lw_V q754 q756 qs3 q84 q757) (xr_main hK hW) (by decide +kernel) rfl ⟨Nat.le_of_ble_eq_true rfl, Nat.le_of_ble_eq_true rfl⟩ hl.1 rfl (Nat.le_of_ble_eq_true rfl) dX0_ofBody_28 ⟨Nat.le_of_ble_eq_true rfl, Nat.le_of_ble_eq_true rfl⟩) hS (fun v28 H locs e28 hW hS => ?_)
      refine xl_ifnull (tgt := 44) hx hb dX0_ofBody_31 (by decide) (fun c31 => ?_) (fun c31 => ?_)
      · have t31 : (v28).toInt < 0 := ww_lt c31
        refine lv_aload_n hx hb dX0_ofBody_44 rfl (lv_at hl 0 rfl) ?_
        refine lv_iload_n hx hb dX0_ofBody_45 rfl (lv_at hl 1 rfl) ?_
        refine xw_b (xw_rV (As := [.int b]) (rest := []) (n := 1) ⟨hx, hb, hml, hown, hts⟩ hK hN hW (xc_manOf lQ G o d0 X E D b) (lw_V q772 q774 qs4 q84 q775) (xr_main hK hW) (by decide +kernel) rfl ⟨Nat.le_of_ble_eq_true rfl, Nat.le_of_ble_eq_true rfl⟩ hl.1 rfl (Nat.le_of_ble_eq_true rfl) dX0_ofBody_46 ⟨Nat.le_of_ble_eq_true rfl, Nat.le_of_ble_eq_true rfl⟩) hS (fun v46 H locs e46 hW hS => ?_)
        refine xl_astore_n (lv' := [(3, va_rf (xx_o D v46)), (0, .ref o), (1, .int b), (2, .int w)]) hx hb dX0_ofBody_49 rfl hl (by decide) rfl (fun ls hl => ?_)
        refine xl_aload_n hx hb dX0_ofBody_50 rfl (lv_at hl 0 rfl) ?_
        refine xl_ifnull (tgt := 117) hx hb dX0_ofBody_51 (by decide) (fun c51 => ?_) (fun c51 => ?_)
        · have t51 : (v46).toInt < 0 := ww_lt c51
          refine lv_aload_n hx hb dX0_ofBody_117 rfl (lv_at hl 1 rfl) ?_
          refine xx_getr hx hb hts hown hK hW 3 rfl rfl (by decide) (by decide) q270 dX0_ofBody_118 ?_
          refine lv_iload_n hx hb dX0_ofBody_121 rfl (lv_at hl 2 rfl) ?_
          refine xx_bald hx hb hK hW hib dX0_ofBody_122 ?_
          refine lv_aload_n hx hb dX0_ofBody_123 rfl (lv_at hl 1 rfl) ?_
          refine xx_getsh hx hb hts hown hK hW q272 dX0_ofBody_124 ?_
          refine xl_acmp_eq2 (tgt := 134) hx hb hW hib hW.rng.1 dX0_ofBody_127 (by decide) (fun c127 => ?_) (fun c127 => ?_)
          · skip
            have hs := hJ (by rw [← c127]; exact ww_nlt' (by rw [ww_00]; exact hib.1))
            refine lv_iload_n hx hb dX0_ofBody_134 rfl (lv_at hl 3 rfl) ?_
            refine lv_iconst (v := 1) hx hb dX0_ofBody_135 (by decide) ?_
            refine lv_icmp_ne (tgt := 149) hx hb dX0_ofBody_136 (by decide) (fun c136 => ?_) (fun c136 => ?_)
            · skip
              refine lv_iload_n hx hb dX0_ofBody_149 rfl (lv_at hl 3 rfl) ?_
              refine lv_iconst (v := 2) hx hb dX0_ofBody_150 (by decide) ?_
              refine lv_icmp_ne (tgt := 164) hx hb dX0_ofBody_151 (by decide) (fun c151 => ?_) (fun c151 => ?_)
              · skip
                refine lv_iload_n hx hb dX0_ofBody_164 rfl (lv_at hl 3 rfl) ?_
                refine lv_iconst (v := 3) hx hb dX0_ofBody_165 (by decide) ?_
                refine lv_icmp_ne (tgt := 179) hx hb dX0_ofBody_166 (by decide) (fun c166 => ?_) (fun c166 => ?_)
                · skip
                  refine lv_iload_n hx hb dX0_ofBody_179 rfl (lv_at hl 3 rfl) ?_
                  refine lv_iconst (v := 4) hx hb dX0_ofBody_180 (by decide) ?_
                  refine lv_icmp_ne (tgt := 197) hx hb dX0_ofBody_181 (by decide) (fun c181 => ?_) (fun c181 => ?_)
                  · skip
                    refine lv_ldcw (v := (-2000000000)) hx hb hown (hts _ q727) dX0_ofBody_197 ?_
                    refine xw_iret hx hb hr hlocks hW hS ?_ dX0_ofBody_200
                    have hres : xf_ofBody X b w = (-2000000000) := by subst e2 e28 e46; simp only [xf_ofBody, if_neg c5, if_neg c13, if_pos c31, if_pos c51, if_pos c127, if_neg c136, if_neg c151, if_neg c166, if_neg c181]
                    exact ⟨by rw [hres], rfl, rfl⟩
                  · skip
                    refine lv_aload_n hx hb dX0_ofBody_184 rfl (lv_at hl 1 rfl) ?_
                    refine xx_getsh hx hb hts hown hK hW q272 dX0_ofBody_185 ?_
                    refine xl_top hs.1.1 ?_
                    refine xb_getN hx hb hts hown hK hW hs.1 (k := 6) (xf_shelter hs.2 (k := 6) (by decide)) (hN.nf q670) rfl (xb_vi (f := 76) (xf_shelter hs.2 (k := 6) (by decide)) (by decide)) dX0_ofBody_188 ?_
                    refine pp_calli (As := [.int (rd_ X 76 (fd_ X 5))]) (rest := []) (n := 1) ⟨hx, hb, hml, hown, hts⟩ (xc_bit lQ (rd_ X 76 (fd_ X 5))) (lw_S q769 q770 q84 q771) (by decide +kernel) rfl ⟨Nat.le_of_ble_eq_true rfl, Nat.le_of_ble_eq_true rfl⟩ hl.1 rfl (Nat.le_of_ble_eq_true rfl) dX0_ofBody_191 ⟨Nat.le_of_ble_eq_true rfl, Nat.le_of_ble_eq_true rfl⟩ (fun v191 e191 => ?_)
                    refine lv_goto (tgt := 200) hx hb dX0_ofBody_194 (by decide) ?_
                    refine xw_iret hx hb hr hlocks hW hS ?_ dX0_ofBody_200
                    have hres : xf_ofBody X b w = v191 := by subst e2 e28 e46 e191; simp only [xf_ofBody, if_neg c5, if_neg c13, if_pos c31, if_pos c51, if_pos c127, if_neg c136, if_neg c151, if_neg c166, if_pos c181]
                    exact ⟨by rw [hres], rfl, rfl⟩
                · skip
                  refine lv_aload_n hx hb dX0_ofBody_169 rfl (lv_at hl 1 rfl) ?_
                  refine xx_getsh hx hb hts hown hK hW q272 dX0_ofBody_170 ?_
                  refine xl_top hs.1.1 ?_
                  refine xb_getN hx hb hts hown hK hW hs.1 (k := 5) (xf_shelter hs.2 (k := 5) (by decide)) (hN.nf q669) rfl (xb_vi (f := 75) (xf_shelter hs.2 (k := 5) (by decide)) (by decide)) dX0_ofBody_173 ?_
                  refine lv_goto (tgt := 200) hx hb dX0_ofBody_176 (by decide) ?_
                  refine xw_iret hx hb hr hlocks hW hS ?_ dX0_ofBody_200
                  have hres : xf_ofBody X b w = (rd_ X 75 (fd_ X 5)) := by subst e2 e28 e46; simp only [xf_ofBody, if_neg c5, if_neg c13, if_pos c31, if_pos c51, if_pos c127, if_neg c136, if_neg c151, if_pos c166]
                  exact ⟨by rw [hres], rfl, rfl⟩
              · skip
                refine lv_aload_n hx hb dX0_ofBody_154 rfl (lv_at hl 1 rfl) ?_
                refine xx_getsh hx hb hts hown hK hW q272 dX0_ofBody_155 ?_
                refine xl_top hs.1.1 ?_
                refine xb_getN hx hb hts hown hK hW hs.1 (k := 4) (xf_shelter hs.2 (k := 4) (by decide)) (hN.nf q667) rfl (xb_vi (f := 74) (xf_shelter hs.2 (k := 4) (by decide)) (by decide)) dX0_ofBody_158 ?_
                refine lv_goto (tgt := 200) hx hb dX0_ofBody_161 (by decide) ?_
                refine xw_iret hx hb hr hlocks hW hS ?_ dX0_ofBody_200
                have hres : xf_ofBody X b w = (rd_ X 74 (fd_ X 5)) := by subst e2 e28 e46; simp only [xf_ofBody, if_neg c5, if_neg c13, if_pos c31, if_pos c51, if_pos c127, if_neg c136, if_pos c151]
                exact ⟨by rw [hres], rfl, rfl⟩
            · skip
              refine lv_aload_n hx hb dX0_ofBody_139 rfl (lv_at hl 1 rfl) ?_
              refine xx_getsh hx hb hts hown hK hW q272 dX0_ofBody_140 ?_
              refine xl_top hs.1.1 ?_
              refine xb_getN hx hb hts hown hK hW hs.1 (k := 3) (xf_shelter hs.2 (k := 3) (by decide)) (hN.nf q665) rfl (xb_vi (f := 73) (xf_shelter hs.2 (k := 3) (by decide)) (by decide)) dX0_ofBody_143 ?_
              refine lv_goto (tgt := 200) hx hb dX0_ofBody_146 (by decide) ?_
              refine xw_iret hx hb hr hlocks hW hS ?_ dX0_ofBody_200
              have hres : xf_ofBody X b w = (rd_ X 73 (fd_ X 5)) := by subst e2 e28 e46; simp only [xf_ofBody, if_neg c5, if_neg c13, if_pos c31, if_pos c51, if_pos c127, if_pos c136]
              exact ⟨by rw [hres], rfl, rfl⟩
          · skip
            refine lv_ldcw (v := (-2000000000)) hx hb hown (hts _ q727) dX0_ofBody_130 ?_
            refine xw_iret hx hb hr hlocks hW hS ?_ dX0_ofBody_133
            have hres : xf_ofBody X b w = (-2000000000) := by subst e2 e28 e46; simp only [xf_ofBody, if_neg c5, if_neg c13, if_pos c31, if_pos c51, if_neg c127]
            exact ⟨by rw [hres], rfl, rfl⟩
        · have t51 : 0 ≤ (v46).toInt := ww_nlt c51
          have hi51 : xm_in X (xf_manOf X b) := xf_manOf_q (xv_W hW) (by rw [← e46]; exact c51)
          refine lv_iload_n hx hb dX0_ofBody_54 rfl (lv_at hl 3 rfl) ?_
          refine lv_iconst (v := 1) hx hb dX0_ofBody_55 (by decide) ?_
          refine lv_icmp_ne (tgt := 66) hx hb dX0_ofBody_56 (by decide) (fun c56 => ?_) (fun c56 => ?_)
          · skip
            refine lv_iload_n hx hb dX0_ofBody_66 rfl (lv_at hl 3 rfl) ?_
            refine lv_iconst (v := 2) hx hb dX0_ofBody_67 (by decide) ?_
            refine lv_icmp_ne (tgt := 78) hx hb dX0_ofBody_68 (by decide) (fun c68 => ?_) (fun c68 => ?_)
            · skip
              refine lv_iload_n hx hb dX0_ofBody_78 rfl (lv_at hl 3 rfl) ?_
              refine lv_iconst (v := 3) hx hb dX0_ofBody_79 (by decide) ?_
              refine lv_icmp_ne (tgt := 90) hx hb dX0_ofBody_80 (by decide) (fun c80 => ?_) (fun c80 => ?_)
              · skip
                refine lv_iload_n hx hb dX0_ofBody_90 rfl (lv_at hl 3 rfl) ?_
                refine lv_iconst (v := 4) hx hb dX0_ofBody_91 (by decide) ?_
                refine lv_icmp_ne (tgt := 113) hx hb dX0_ofBody_92 (by decide) (fun c92 => ?_) (fun c92 => ?_)
                · skip
                  refine lv_ldcw (v := (-2000000000)) hx hb hown (hts _ q727) dX0_ofBody_113 ?_
                  refine xw_iret hx hb hr hlocks hW hS ?_ dX0_ofBody_116
                  have hres : xf_ofBody X b w = (-2000000000) := by subst e2 e28 e46; simp only [xf_ofBody, if_neg c5, if_neg c13, if_pos c31, if_neg c51, if_neg c56, if_neg c68, if_neg c80, if_neg c92]
                  exact ⟨by rw [hres], rfl, rfl⟩
                · skip
                  refine xl_aload_n hx hb dX0_ofBody_95 rfl (lv_at hl 0 rfl) ?_
                  refine xl_top (show xm_in X v46 from by rw [e46]; exact hi51).1.1 ?_
                  refine xb_getN hx hb hts hown hK hW (show xm_in X v46 from by rw [e46]; exact hi51).1 (k := 5) (xf_man (show xm_in X v46 from by rw [e46]; exact hi51).2 (k := 5) (by decide)) (hN.nf q704) rfl (xb_vi (f := 80) (xf_man (show xm_in X v46 from by rw [e46]; exact hi51).2 (k := 5) (by decide)) (by decide)) dX0_ofBody_96 ?_
                  refine lv_if_ne (tgt := 106) hx hb dX0_ofBody_99 (by decide) (fun c99 => ?_) (fun c99 => ?_)
                  · skip
                    refine lv_iconst (v := 0) hx hb dX0_ofBody_106 (by decide) ?_
                    refine pp_calli (As := [.int 0]) (rest := []) (n := 1) ⟨hx, hb, hml, hown, hts⟩ (xc_bit lQ 0) (lw_S q769 q770 q84 q771) (by decide +kernel) rfl ⟨Nat.le_of_ble_eq_true rfl, Nat.le_of_ble_eq_true rfl⟩ hl.1 rfl (Nat.le_of_ble_eq_true rfl) dX0_ofBody_107 ⟨Nat.le_of_ble_eq_true rfl, Nat.le_of_ble_eq_true rfl⟩ (fun v107 e107 => ?_)
                    refine lv_goto (tgt := 116) hx hb dX0_ofBody_110 (by decide) ?_
                    refine xw_iret hx hb hr hlocks hW hS ?_ dX0_ofBody_116
                    have hres : xf_ofBody X b w = v107 := by subst e2 e28 e46 e107; simp only [xf_ofBody, if_neg c5, if_neg c13, if_pos c31, if_neg c51, if_neg c56, if_neg c68, if_neg c80, if_pos c92, if_neg c99]
                    exact ⟨by rw [hres], rfl, rfl⟩
                  · skip
                    refine lv_iconst (v := 1) hx hb dX0_ofBody_102 (by decide) ?_
                    refine lv_goto (tgt := 107) hx hb dX0_ofBody_103 (by decide) ?_
                    refine pp_calli (As := [.int 1]) (rest := []) (n := 1) ⟨hx, hb, hml, hown, hts⟩ (xc_bit lQ 1) (lw_S q769 q770 q84 q771) (by decide +kernel) rfl ⟨Nat.le_of_ble_eq_true rfl, Nat.le_of_ble_eq_true rfl⟩ hl.1 rfl (Nat.le_of_ble_eq_true rfl) dX0_ofBody_107 ⟨Nat.le_of_ble_eq_true rfl, Nat.le_of_ble_eq_true rfl⟩ (fun v107 e107 => ?_)
                    refine lv_goto (tgt := 116) hx hb dX0_ofBody_110 (by decide) ?_
                    refine xw_iret hx hb hr hlocks hW hS ?_ dX0_ofBody_116
                    have hres : xf_ofBody X b w = v107 := by subst e2 e28 e46 e107; simp only [xf_ofBody, if_neg c5, if_neg c13, if_pos c31, if_neg c51, if_neg c56, if_neg c68, if_neg c80, if_pos c92, if_pos c99]
                    exact ⟨by rw [hres], rfl, rfl⟩
              · skip
                refine xl_aload_n hx hb dX0_ofBody_83 rfl (lv_at hl 0 rfl) ?_
                refine xl_top (show xm_in X v46 from by rw [e46]; exact hi51).1.1 ?_
                refine xb_getN hx hb hts hown hK hW (show xm_in X v46 from by rw [e46]; exact hi51).1 (k := 4) (xf_man (show xm_in X v46 from by rw [e46]; exact hi51).2 (k := 4) (by decide)) (hN.nf q703) rfl (xb_vi (f := 79) (xf_man (show xm_in X v46 from by rw [e46]; exact hi51).2 (k := 4) (by decide)) (by decide)) dX0_ofBody_84 ?_
                refine lv_goto (tgt := 116) hx hb dX0_ofBody_87 (by decide) ?_
                refine xw_iret hx hb hr hlocks hW hS ?_ dX0_ofBody_116
                have hres : xf_ofBody X b w = (rd_ X 79 v46) := by subst e2 e28 e46; simp only [xf_ofBody, if_neg c5, if_neg c13, if_pos c31, if_neg c51, if_neg c56, if_neg c68, if_pos c80]
                exact ⟨by rw [hres], rfl, rfl⟩
            · skip
              refine xl_aload_n hx hb dX0_ofBody_71 rfl (lv_at hl 0 rfl) ?_
              refine xl_top (show xm_in X v46 from by rw [e46]; exact hi51).1.1 ?_
              refine xb_getN hx hb hts hown hK hW (show xm_in X v46 from by rw [e46]; exact hi51).1 (k := 3) (xf_man (show xm_in X v46 from by rw [e46]; exact hi51).2 (k := 3) (by decide)) (hN.nf q701) rfl (xb_vi (f := 78) (xf_man (show xm_in X v46 from by rw [e46]; exact hi51).2 (k := 3) (by decide)) (by decide)) dX0_ofBody_72 ?_
              refine lv_goto (tgt := 116) hx hb dX0_ofBody_75 (by decide) ?_
              refine xw_iret hx hb hr hlocks hW hS ?_ dX0_ofBody_116
              have hres : xf_ofBody X b w = (rd_ X 78 v46) := by subst e2 e28 e46; simp only [xf_ofBody, if_neg c5, if_neg c13, if_pos c31, if_neg c51, if_neg c56, if_pos c68]
              exact ⟨by rw [hres], rfl, rfl⟩
          · skip
            refine xl_aload_n hx hb dX0_ofBody_59 rfl (lv_at hl 0 rfl) ?_
            refine xl_top (show xm_in X v46 from by rw [e46]; exact hi51).1.1 ?_
            refine xb_getN hx hb hts hown hK hW (show xm_in X v46 from by rw [e46]; exact hi51).1 (k := 2) (xf_man (show xm_in X v46 from by rw [e46]; exact hi51).2 (k := 2) (by decide)) (hN.nf q699) rfl (xb_vi (f := 77) (xf_man (show xm_in X v46 from by rw [e46]; exact hi51).2 (k := 2) (by decide)) (by decide)) dX0_ofBody_60 ?_
            refine lv_goto (tgt := 116) hx hb dX0_ofBody_63 (by decide) ?_
            refine xw_iret hx hb hr hlocks hW hS ?_ dX0_ofBody_116
            have hres : xf_ofBody X b w = (rd_ X 77 v46) := by subst e2 e28 e46; simp only [xf_ofBody, if_neg c5, if_neg c13, if_pos c31, if_neg c51, if_pos c56]
            exact ⟨by rw [hres], rfl, rfl⟩
      · have t31 : 0 ≤ (v28).toInt := ww_nlt c31
        have hi31 : xh_in X (xf_holeOf X b) := xf_holeOf_q (xv_W hW) (by rw [← e28]; exact c31)
        refine lv_aload_n hx hb dX0_ofBody_34 rfl (lv_at hl 0 rfl) ?_
        refine lv_iload_n hx hb dX0_ofBody_35 rfl (lv_at hl 1 rfl) ?_
        refine xw_b (xw_rV (As := [.int b]) (rest := []) (n := 1) ⟨hx, hb, hml, hown, hts⟩ hK hN hW (xc_holeOf lQ G o d0 X E D b) (lw_V q754 q756 qs3 q84 q757) (xr_main hK hW) (by decide +kernel) rfl ⟨Nat.le_of_ble_eq_true rfl, Nat.le_of_ble_eq_true rfl⟩ hl.1 rfl (Nat.le_of_ble_eq_true rfl) dX0_ofBody_36 ⟨Nat.le_of_ble_eq_true rfl, Nat.le_of_ble_eq_true rfl⟩) hS (fun v36 H locs e36 hW hS => ?_)
        refine lv_iload_n hx hb dX0_ofBody_39 rfl (lv_at hl 2 rfl) ?_
        refine xw_p (xw_rS (As := [va_rf (xx_o D v36), .int w]) (rest := []) (n := 2) ⟨hx, hb, hml, hown, hts⟩ hK hN hW (xc_ofHole lQ G o d0 X E D v36 w (show xh_in X v36 from by rw [e36]; exact hi31)) (lw_S q758 q759 q84 q760) (by decide +kernel) rfl ⟨Nat.le_of_ble_eq_true rfl, Nat.le_of_ble_eq_true rfl⟩ hl.1 rfl (Nat.le_of_ble_eq_true rfl) dX0_ofBody_40 ⟨Nat.le_of_ble_eq_true rfl, Nat.le_of_ble_eq_true rfl⟩) hS (fun v40 H locs e40 hW hS => ?_)
        refine xw_iret hx hb hr hlocks hW hS ?_ dX0_ofBody_43
        have hres : xf_ofBody X b w = v40 := by subst e2 e28 e36 e40; simp only [xf_ofBody, if_neg c5, if_neg c13, if_neg c31]
        exact ⟨by rw [hres], rfl, rfl⟩
    · skip
      refine lv_aload_n hx hb dX0_ofBody_16 rfl (lv_at hl 0 rfl) ?_
      refine xx_getr hx hb hts hown hK hW 3 rfl rfl (by decide) (by decide) q270 dX0_ofBody_17 ?_
      refine lv_iload_n hx hb dX0_ofBody_20 rfl (lv_at hl 1 rfl) ?_
      refine xx_bald hx hb hK hW hib dX0_ofBody_21 ?_
      refine xw_p (xd_kind_X0 (rest := []) lQ ⟨hx, hb, hml, hown, hts⟩ hK hN hW hib ⟨Nat.le_of_ble_eq_true rfl, Nat.le_of_ble_eq_true rfl⟩ hl.1 (by rw [xx_o_pos hib.1]; rfl) (Nat.le_of_ble_eq_true rfl) dX0_ofBody_22 ⟨Nat.le_of_ble_eq_true rfl, Nat.le_of_ble_eq_true rfl⟩) hS (fun v22 H locs e22 hW hS => ?_)
      refine xw_iret hx hb hr hlocks hW hS ?_ dX0_ofBody_25
      have hres : xf_ofBody X b w = v22 := by subst e2 e22; simp only [xf_ofBody, if_neg c5, if_pos c13]
      exact ⟨by rw [hres], rfl, rfl⟩
  · skip
    refine lv_ldcw (v := (-2000000000)) hx hb hown (hts _ q727) dX0_ofBody_8 ?_
    refine xw_iret hx hb hr hlocks hW hS ?_ dX0_ofBody_11
    have hres : xf_ofBody X b w = (-2000000000) := by subst e2; simp only [xf_ofBody, if_pos c5]
    exact ⟨by rw [hres], rfl, rfl⟩

set_option maxHeartbeats 4000000 in
theorem xc_ill (lQ : Launch) (G : wm_G) (o d0 : Nat) (X : mm_S) (E : mm_E) (D : xg) (b : Int32) (v : Int32) : xw_Met lQ G o d0 yX0_ill (ws_ yX0_ill cX0_ill 5 (some .int)) 3 X E D [Value.ref o, .int b, .int v] (some (.int (xf_ill X b v).1)) (xf_ill X b v).2 E := by
  refine xw_start (own := RX0) (by decide +kernel) (Nat.le_of_ble_eq_true rfl) rfl (fun pQ eQ sQ mQ belowQ methQ cQ hx hb hml hr hlocks hts hown hK hN H hW hS ls hl => ?_)
  have hl : lv_has ls 5 [(0, .ref o), (1, .int b), (2, .int v)] := hl
  generalize hlc : ([] : List Loc) = locs at hS ⊢
  refine lv_aload_n hx hb dX0_ill_0 rfl (lv_at hl 0 rfl) ?_
  refine lv_iload_n hx hb dX0_ill_1 rfl (lv_at hl 1 rfl) ?_
  refine xw_b (xw_rV (As := [.int b]) (rest := []) (n := 1) ⟨hx, hb, hml, hown, hts⟩ hK hN hW (xc_manOf lQ G o d0 X E D b) (lw_V q772 q774 qs4 q84 q775) (xr_main hK hW) (by decide +kernel) rfl ⟨Nat.le_of_ble_eq_true rfl, Nat.le_of_ble_eq_true rfl⟩ hl.1 rfl (Nat.le_of_ble_eq_true rfl) dX0_ill_2 ⟨Nat.le_of_ble_eq_true rfl, Nat.le_of_ble_eq_true rfl⟩) hS (fun v2 H locs e2 hW hS => ?_)
  refine xl_astore_n (lv' := [(3, va_rf (xx_o D v2)), (0, .ref o), (1, .int b), (2, .int v)]) hx hb dX0_ill_5 rfl hl (by decide) rfl (fun ls hl => ?_)
  refine xl_aload_n hx hb dX0_ill_6 rfl (lv_at hl 0 rfl) ?_
  refine xl_ifnull (tgt := 22) hx hb dX0_ill_7 (by decide) (fun c7 => ?_) (fun c7 => ?_)
  · have t7 : (v2).toInt < 0 := ww_lt c7
    refine lv_iconst (v := (-1)) hx hb dX0_ill_22 (by decide) ?_
    refine xw_iret hx hb hr hlocks hW hS ?_ dX0_ill_23
    have hres : xf_ill X b v = ((-1), X) := by subst e2; simp only [xf_ill, if_pos c7]
    exact ⟨by rw [hres], by rw [hres], rfl⟩
  · have t7 : 0 ≤ (v2).toInt := ww_nlt c7
    have hi7 : xm_in X (xf_manOf X b) := xf_manOf_q (xv_W hW) (by rw [← e2]; exact c7)
    refine lv_iload_n hx hb dX0_ill_10 rfl (lv_at hl 3 rfl) ?_
    refine lv_i2l (v := (v).toInt64) hx hb dX0_ill_11 rfl ?_
    refine lv_lconst (v := 0) hx hb dX0_ill_12 (by decide) ?_
    refine lv_ldc2 (v := 9) hx hb hown (hts _ q462) dX0_ill_13 ?_
    refine xx_within (rest := []) v 0 9 ⟨hx, hb, hml, hown, hts⟩ rfl (by decide) (by decide) q459 hl.1 rfl rfl (Nat.le_of_ble_eq_true rfl) rfl rfl ⟨Nat.le_of_ble_eq_true rfl, Nat.le_of_ble_eq_true rfl⟩ dX0_ill_16 (fun v16 e16 => ?_)
    refine lv_if_ne (tgt := 24) hx hb dX0_ill_19 (by decide) (fun c19 => ?_) (fun c19 => ?_)
    · skip
      refine xl_aload_n hx hb dX0_ill_24 rfl (lv_at hl 0 rfl) ?_
      refine xl_top (show xm_in X v2 from by rw [e2]; exact hi7).1.1 ?_
      refine xb_getN hx hb hts hown hK hW (show xm_in X v2 from by rw [e2]; exact hi7).1 (k := 4) (xf_man (show xm_in X v2 from by rw [e2]; exact hi7).2 (k := 4) (by decide)) (hN.nf q703) rfl (xb_vi (f := 79) (xf_man (show xm_in X v2 from by rw [e2]; exact hi7).2 (k := 4) (by decide)) (by decide)) dX0_ill_25 ?_
      refine lv_istore (lv' := [(4, .int (rd_ X 79 v2)), (3, va_rf (xx_o D v2)), (0, .ref o), (1, .int b), (2, .int v)]) hx hb dX0_ill_28 hl (by decide) (by simp [va_rf_c]) (fun ls hl => ?_)
      refine xl_aload_n hx hb dX0_ill_30 rfl (lv_at hl 1 rfl) ?_
      refine lv_iload_n hx hb dX0_ill_31 rfl (lv_at hl 4 rfl) ?_
      refine xl_top2 (show xm_in X v2 from by rw [e2]; exact hi7).1.1 ?_
      refine xb_putN hx hb hts hown hK hW hS (show xm_in X v2 from by rw [e2]; exact hi7).1 (k := 4) (f := 79) (xf_man (show xm_in X v2 from by rw [e2]; exact hi7).2 (k := 4) (by decide)) (xf_mnm (show xm_in X v2 from by rw [e2]; exact hi7).2 (k := 4) (by decide) (by decide)) (by decide) rfl rfl rfl (hN.nf q703) rfl dX0_ill_32 (fun X32 H locs f32 hW hS => ?_)
      have hi7 : xm_in X32 (xf_manOf X b) := by rw [f32]; exact xm_wr hi7 (by decide) (by decide)
      refine lv_iload hx hb dX0_ill_35 (lv_at hl 0 rfl) ?_
      refine xw_iret hx hb hr hlocks hW hS ?_ dX0_ill_37
      have hres : xf_ill X b v = ((rd_ X 79 v2), X32) := by subst e2 e16 f32; simp only [xf_ill, if_neg c7, if_neg c19]
      exact ⟨by rw [hres], by rw [hres], rfl⟩
    · skip
      refine lv_iconst (v := (-1)) hx hb dX0_ill_22 (by decide) ?_
      refine xw_iret hx hb hr hlocks hW hS ?_ dX0_ill_23
      have hres : xf_ill X b v = ((-1), X) := by subst e2 e16; simp only [xf_ill, if_neg c7, if_pos c19]
      exact ⟨by rw [hres], by rw [hres], rfl⟩

set_option maxHeartbeats 4000000 in
theorem xc_hard (lQ : Launch) (G : wm_G) (o d0 : Nat) (X : mm_S) (E : mm_E) (D : xg) (c : Int32) (v : Int32) : xw_Met lQ G o d0 yX0_hard (ws_ yX0_hard cX0_hard 4 (some .int)) 2 X E D [Value.ref o, .int c, .int v] (some (.int (xf_hard X c v).1)) (xf_hard X c v).2 E := by
  refine xw_start (own := RX0) (by decide +kernel) (Nat.le_of_ble_eq_true rfl) rfl (fun pQ eQ sQ mQ belowQ methQ cQ hx hb hml hr hlocks hts hown hK hN H hW hS ls hl => ?_)
  have hl : lv_has ls 4 [(0, .ref o), (1, .int c), (2, .int v)] := hl
  generalize hlc : ([] : List Loc) = locs at hS ⊢
  refine lv_iload_n hx hb dX0_hard_0 rfl (lv_at hl 1 rfl) ?_
  refine pp_calli (As := [.int c]) (rest := []) (n := 1) ⟨hx, hb, hml, hown, hts⟩ (xc_isCell lQ c) (lw_S q455 q456 q84 q457) (by decide +kernel) rfl ⟨Nat.le_of_ble_eq_true rfl, Nat.le_of_ble_eq_true rfl⟩ hl.1 rfl (Nat.le_of_ble_eq_true rfl) dX0_hard_1 ⟨Nat.le_of_ble_eq_true rfl, Nat.le_of_ble_eq_true rfl⟩ (fun v1 e1 => ?_)
  refine lv_if_eq (tgt := 19) hx hb dX0_hard_4 (by decide) (fun c4 => ?_) (fun c4 => ?_)
  · skip
    refine lv_iconst (v := (-1)) hx hb dX0_hard_19 (by decide) ?_
    refine xw_iret hx hb hr hlocks hW hS ?_ dX0_hard_20
    have hres : xf_hard X c v = ((-1), X) := by subst e1; simp only [xf_hard, if_pos c4]
    exact ⟨by rw [hres], by rw [hres], rfl⟩
  · skip
    refine lv_iload_n hx hb dX0_hard_7 rfl (lv_at hl 2 rfl) ?_
    refine lv_i2l (v := (v).toInt64) hx hb dX0_hard_8 rfl ?_
    refine lv_lconst (v := 1) hx hb dX0_hard_9 (by decide) ?_
    refine lv_ldc2 (v := 9) hx hb hown (hts _ q462) dX0_hard_10 ?_
    refine xx_within (rest := []) v 1 9 ⟨hx, hb, hml, hown, hts⟩ rfl (by decide) (by decide) q459 hl.1 rfl rfl (Nat.le_of_ble_eq_true rfl) rfl rfl ⟨Nat.le_of_ble_eq_true rfl, Nat.le_of_ble_eq_true rfl⟩ dX0_hard_13 (fun v13 e13 => ?_)
    refine lv_if_ne (tgt := 21) hx hb dX0_hard_16 (by decide) (fun c16 => ?_) (fun c16 => ?_)
    · skip
      refine lv_aload_n hx hb dX0_hard_21 rfl (lv_at hl 0 rfl) ?_
      refine xx_geta hx hb hts hown hK hW 1 rfl q266 dX0_hard_22 ?_
      refine lv_iload_n hx hb dX0_hard_25 rfl (lv_at hl 1 rfl) ?_
      refine pp_calli (As := [.int c]) (rest := [.ref (o + 1)]) (n := 1) ⟨hx, hb, hml, hown, hts⟩ (xc_cellAt lQ c) (lw_S q463 q464 q84 q465) (by decide +kernel) rfl ⟨Nat.le_of_ble_eq_true rfl, Nat.le_of_ble_eq_true rfl⟩ hl.1 rfl (Nat.le_of_ble_eq_true rfl) dX0_hard_26 ⟨Nat.le_of_ble_eq_true rfl, Nat.le_of_ble_eq_true rfl⟩ (fun v26 e26 => ?_)
      refine xx_iald hx hb hK hW 1 rfl (by rw [e26]; exact ff_placeOf_in (by rw [← e1]; exact c4)) dX0_hard_29 ?_
      refine lv_istore_n (lv' := [(3, .int (rd_ X 1 v26)), (0, .ref o), (1, .int c), (2, .int v)]) hx hb dX0_hard_30 rfl hl (by decide) rfl (fun ls hl => ?_)
      refine lv_aload_n hx hb dX0_hard_31 rfl (lv_at hl 1 rfl) ?_
      refine xx_geta hx hb hts hown hK hW 1 rfl q266 dX0_hard_32 ?_
      refine lv_iload_n hx hb dX0_hard_35 rfl (lv_at hl 2 rfl) ?_
      refine pp_calli (As := [.int c]) (rest := [.ref (o + 1)]) (n := 1) ⟨hx, hb, hml, hown, hts⟩ (xc_cellAt lQ c) (lw_S q463 q464 q84 q465) (by decide +kernel) rfl ⟨Nat.le_of_ble_eq_true rfl, Nat.le_of_ble_eq_true rfl⟩ hl.1 rfl (Nat.le_of_ble_eq_true rfl) dX0_hard_36 ⟨Nat.le_of_ble_eq_true rfl, Nat.le_of_ble_eq_true rfl⟩ (fun v36 e36 => ?_)
      refine lv_iload_n hx hb dX0_hard_39 rfl (lv_at hl 3 rfl) ?_
      refine xx_iast hx hb hK hW hS 1 rfl (by rw [e36]; exact ff_placeOf_in (by rw [← e1]; exact c4)) dX0_hard_40 (fun X40 H locs f40 hW hS => ?_)
      refine lv_iload_n hx hb dX0_hard_41 rfl (lv_at hl 0 rfl) ?_
      refine xw_iret hx hb hr hlocks hW hS ?_ dX0_hard_42
      have hres : xf_hard X c v = ((rd_ X 1 v26), X40) := by subst e1 e13 e26 e36 f40; simp only [xf_hard, if_neg c4, if_neg c16]
      exact ⟨by rw [hres], by rw [hres], rfl⟩
    · skip
      refine lv_iconst (v := (-1)) hx hb dX0_hard_19 (by decide) ?_
      refine xw_iret hx hb hr hlocks hW hS ?_ dX0_hard_20
      have hres : xf_hard X c v = ((-1), X) := by subst e1 e13; simp only [xf_hard, if_neg c4, if_pos c16]
      exact ⟨by rw [hres], by rw [hres], rfl⟩

set_option maxHeartbeats 4000000 in
theorem xc_open (lQ : Launch) (G : wm_G) (o d0 : Nat) (X : mm_S) (E : mm_E) (D : xg) (c : Int32) (v : Int32) : xw_Met lQ G o d0 yX0_open (ws_ yX0_open cX0_open 4 (some .int)) 2 X E D [Value.ref o, .int c, .int v] (some (.int (xf_open X c v).1)) (xf_open X c v).2 E := by
  refine xw_start (own := RX0) (by decide +kernel) (Nat.le_of_ble_eq_true rfl) rfl (fun pQ eQ sQ mQ belowQ methQ cQ hx hb hml hr hlocks hts hown hK hN H hW hS ls hl => ?_)
  have hl : lv_has ls 4 [(0, .ref o), (1, .int c), (2, .int v)] := hl
  generalize hlc : ([] : List Loc) = locs at hS ⊢
  refine lv_iload_n hx hb dX0_open_0 rfl (lv_at hl 1 rfl) ?_
  refine pp_calli (As := [.int c]) (rest := []) (n := 1) ⟨hx, hb, hml, hown, hts⟩ (xc_isCell lQ c) (lw_S q455 q456 q84 q457) (by decide +kernel) rfl ⟨Nat.le_of_ble_eq_true rfl, Nat.le_of_ble_eq_true rfl⟩ hl.1 rfl (Nat.le_of_ble_eq_true rfl) dX0_open_1 ⟨Nat.le_of_ble_eq_true rfl, Nat.le_of_ble_eq_true rfl⟩ (fun v1 e1 => ?_)
  refine lv_if_eq (tgt := 17) hx hb dX0_open_4 (by decide) (fun c4 => ?_) (fun c4 => ?_)
  · skip
    refine lv_iconst (v := (-1)) hx hb dX0_open_17 (by decide) ?_
    refine xw_iret hx hb hr hlocks hW hS ?_ dX0_open_18
    have hres : xf_open X c v = ((-1), X) := by subst e1; simp only [xf_open, if_pos c4]
    exact ⟨by rw [hres], by rw [hres], rfl⟩
  · skip
    refine lv_iload_n hx hb dX0_open_7 rfl (lv_at hl 2 rfl) ?_
    refine lv_i2l (v := (v).toInt64) hx hb dX0_open_8 rfl ?_
    refine lv_lconst (v := 0) hx hb dX0_open_9 (by decide) ?_
    refine lv_lconst (v := 1) hx hb dX0_open_10 (by decide) ?_
    refine xx_within (rest := []) v 0 1 ⟨hx, hb, hml, hown, hts⟩ rfl (by decide) (by decide) q459 hl.1 rfl rfl (Nat.le_of_ble_eq_true rfl) rfl rfl ⟨Nat.le_of_ble_eq_true rfl, Nat.le_of_ble_eq_true rfl⟩ dX0_open_11 (fun v11 e11 => ?_)
    refine lv_if_ne (tgt := 19) hx hb dX0_open_14 (by decide) (fun c14 => ?_) (fun c14 => ?_)
    · skip
      refine lv_aload_n hx hb dX0_open_19 rfl (lv_at hl 0 rfl) ?_
      refine xx_geta hx hb hts hown hK hW 2 rfl q268 dX0_open_20 ?_
      refine lv_iload_n hx hb dX0_open_23 rfl (lv_at hl 1 rfl) ?_
      refine pp_calli (As := [.int c]) (rest := [.ref (o + 2)]) (n := 1) ⟨hx, hb, hml, hown, hts⟩ (xc_cellAt lQ c) (lw_S q463 q464 q84 q465) (by decide +kernel) rfl ⟨Nat.le_of_ble_eq_true rfl, Nat.le_of_ble_eq_true rfl⟩ hl.1 rfl (Nat.le_of_ble_eq_true rfl) dX0_open_24 ⟨Nat.le_of_ble_eq_true rfl, Nat.le_of_ble_eq_true rfl⟩ (fun v24 e24 => ?_)
      refine xx_zald hx hb hK hW 2 rfl (by rw [e24]; exact ff_placeOf_in (by rw [← e1]; exact c4)) dX0_open_27 ?_
      refine lv_istore_n (lv' := [(3, .int (rd_ X 2 v24)), (0, .ref o), (1, .int c), (2, .int v)]) hx hb dX0_open_28 rfl hl (by decide) rfl (fun ls hl => ?_)
      refine lv_aload_n hx hb dX0_open_29 rfl (lv_at hl 1 rfl) ?_
      refine xx_geta hx hb hts hown hK hW 2 rfl q268 dX0_open_30 ?_
      refine lv_iload_n hx hb dX0_open_33 rfl (lv_at hl 2 rfl) ?_
      refine pp_calli (As := [.int c]) (rest := [.ref (o + 2)]) (n := 1) ⟨hx, hb, hml, hown, hts⟩ (xc_cellAt lQ c) (lw_S q463 q464 q84 q465) (by decide +kernel) rfl ⟨Nat.le_of_ble_eq_true rfl, Nat.le_of_ble_eq_true rfl⟩ hl.1 rfl (Nat.le_of_ble_eq_true rfl) dX0_open_34 ⟨Nat.le_of_ble_eq_true rfl, Nat.le_of_ble_eq_true rfl⟩ (fun v34 e34 => ?_)
      refine wm_join (P := fun w47 : Int32 => w47 = (if v = 1 then 1 else 0)) (j := 47) (rest := [.int v34, .ref (o + 2)]) (ls := ls) (fun w47 ew47 => ?_) (fun J47 => ?_)
      · skip
        refine xx_zast hx hb hK hW hS 2 rfl (by rw [ew47]; split <;> rfl) (by rw [e34]; exact ff_placeOf_in (by rw [← e1]; exact c4)) dX0_open_47 (fun X47 H locs f47 hW hS => ?_)
        refine lv_iload_n hx hb dX0_open_48 rfl (lv_at hl 0 rfl) ?_
        refine lv_if_eq (tgt := 56) hx hb dX0_open_49 (by decide) (fun c49 => ?_) (fun c49 => ?_)
        · skip
          refine lv_iconst (v := 0) hx hb dX0_open_56 (by decide) ?_
          refine xw_iret hx hb hr hlocks hW hS ?_ dX0_open_57
          have hres : xf_open X c v = (0, X47) := by subst e1 e11 e24 e34 ew47 f47; simp only [xf_open, if_neg c4, if_neg c14, if_pos c49]
          exact ⟨by rw [hres], by rw [hres], rfl⟩
        · skip
          refine lv_iconst (v := 1) hx hb dX0_open_52 (by decide) ?_
          refine lv_goto (tgt := 57) hx hb dX0_open_53 (by decide) ?_
          refine xw_iret hx hb hr hlocks hW hS ?_ dX0_open_57
          have hres : xf_open X c v = (1, X47) := by subst e1 e11 e24 e34 ew47 f47; simp only [xf_open, if_neg c4, if_neg c14, if_neg c49]
          exact ⟨by rw [hres], by rw [hres], rfl⟩
      refine lv_iload_n hx hb dX0_open_37 rfl (lv_at hl 3 rfl) ?_
      refine lv_iconst (v := 1) hx hb dX0_open_38 (by decide) ?_
      refine lv_icmp_ne (tgt := 46) hx hb dX0_open_39 (by decide) (fun c39 => ?_) (fun c39 => ?_)
      · skip
        refine lv_iconst (v := 0) hx hb dX0_open_46 (by decide) ?_
        exact J47 _ (by subst e1 e11 e24 e34; simp only [if_neg c4, if_neg c14, if_neg c39])
      · skip
        refine lv_iconst (v := 1) hx hb dX0_open_42 (by decide) ?_
        refine lv_goto (tgt := 47) hx hb dX0_open_43 (by decide) ?_
        exact J47 _ (by subst e1 e11 e24 e34; simp only [if_neg c4, if_neg c14, if_pos c39])
    · skip
      refine lv_iconst (v := (-1)) hx hb dX0_open_17 (by decide) ?_
      refine xw_iret hx hb hr hlocks hW hS ?_ dX0_open_18
      have hres : xf_open X c v = ((-1), X) := by subst e1 e11; simp only [xf_open, if_neg c4, if_pos c14]
      exact ⟨by rw [hres], by rw [hres], rfl⟩

set_option maxHeartbeats 4000000 in
theorem xc_ofCell (lQ : Launch) (G : wm_G) (o d0 : Nat) (X : mm_S) (E : mm_E) (D : xg) (c : Int32) (w : Int32) : xw_Met lQ G o d0 yX0_ofCell (ws_ yX0_ofCell cX0_ofCell 3 (some .int)) 2 X E D [Value.ref o, .int c, .int w] (some (.int (xf_ofCell X c w))) X E := by
  refine xw_start (own := RX0) (by decide +kernel) (Nat.le_of_ble_eq_true rfl) rfl (fun pQ eQ sQ mQ belowQ methQ cQ hx hb hml hr hlocks hts hown hK hN H hW hS ls hl => ?_)
  have hl : lv_has ls 3 [(0, .ref o), (1, .int c), (2, .int w)] := hl
  generalize hlc : ([] : List Loc) = locs at hS ⊢
  refine lv_iload_n hx hb dX0_ofCell_0 rfl (lv_at hl 1 rfl) ?_
  refine pp_calli (As := [.int c]) (rest := []) (n := 1) ⟨hx, hb, hml, hown, hts⟩ (xc_isCell lQ c) (lw_S q455 q456 q84 q457) (by decide +kernel) rfl ⟨Nat.le_of_ble_eq_true rfl, Nat.le_of_ble_eq_true rfl⟩ hl.1 rfl (Nat.le_of_ble_eq_true rfl) dX0_ofCell_1 ⟨Nat.le_of_ble_eq_true rfl, Nat.le_of_ble_eq_true rfl⟩ (fun v1 e1 => ?_)
  refine lv_if_eq (tgt := 17) hx hb dX0_ofCell_4 (by decide) (fun c4 => ?_) (fun c4 => ?_)
  · skip
    refine lv_iconst (v := (-1)) hx hb dX0_ofCell_17 (by decide) ?_
    refine xw_iret hx hb hr hlocks hW hS ?_ dX0_ofCell_18
    have hres : xf_ofCell X c w = (-1) := by subst e1; simp only [xf_ofCell, if_pos c4]
    exact ⟨by rw [hres], rfl, rfl⟩
  · skip
    refine lv_iload_n hx hb dX0_ofCell_7 rfl (lv_at hl 2 rfl) ?_
    refine lv_i2l (v := (w).toInt64) hx hb dX0_ofCell_8 rfl ?_
    refine lv_lconst (v := 0) hx hb dX0_ofCell_9 (by decide) ?_
    refine lv_lconst (v := 1) hx hb dX0_ofCell_10 (by decide) ?_
    refine xx_within (rest := []) w 0 1 ⟨hx, hb, hml, hown, hts⟩ rfl (by decide) (by decide) q459 hl.1 rfl rfl (Nat.le_of_ble_eq_true rfl) rfl rfl ⟨Nat.le_of_ble_eq_true rfl, Nat.le_of_ble_eq_true rfl⟩ dX0_ofCell_11 (fun v11 e11 => ?_)
    refine lv_if_ne (tgt := 19) hx hb dX0_ofCell_14 (by decide) (fun c14 => ?_) (fun c14 => ?_)
    · skip
      refine lv_iload_n hx hb dX0_ofCell_19 rfl (lv_at hl 2 rfl) ?_
      refine lv_if_ne (tgt := 35) hx hb dX0_ofCell_20 (by decide) (fun c20 => ?_) (fun c20 => ?_)
      · skip
        refine lv_aload_n hx hb dX0_ofCell_35 rfl (lv_at hl 0 rfl) ?_
        refine xx_geta hx hb hts hown hK hW 2 rfl q268 dX0_ofCell_36 ?_
        refine lv_iload_n hx hb dX0_ofCell_39 rfl (lv_at hl 1 rfl) ?_
        refine pp_calli (As := [.int c]) (rest := [.ref (o + 2)]) (n := 1) ⟨hx, hb, hml, hown, hts⟩ (xc_cellAt lQ c) (lw_S q463 q464 q84 q465) (by decide +kernel) rfl ⟨Nat.le_of_ble_eq_true rfl, Nat.le_of_ble_eq_true rfl⟩ hl.1 rfl (Nat.le_of_ble_eq_true rfl) dX0_ofCell_40 ⟨Nat.le_of_ble_eq_true rfl, Nat.le_of_ble_eq_true rfl⟩ (fun v40 e40 => ?_)
        refine xx_zald hx hb hK hW 2 rfl (by rw [e40]; exact ff_placeOf_in (by rw [← e1]; exact c4)) dX0_ofCell_43 ?_
        refine lv_if_eq (tgt := 51) hx hb dX0_ofCell_44 (by decide) (fun c44 => ?_) (fun c44 => ?_)
        · skip
          refine lv_iconst (v := 0) hx hb dX0_ofCell_51 (by decide) ?_
          refine xw_iret hx hb hr hlocks hW hS ?_ dX0_ofCell_52
          have hres : xf_ofCell X c w = 0 := by subst e1 e11 e40; simp only [xf_ofCell, if_neg c4, if_neg c14, if_neg c20, if_pos c44]
          exact ⟨by rw [hres], rfl, rfl⟩
        · skip
          refine lv_iconst (v := 1) hx hb dX0_ofCell_47 (by decide) ?_
          refine lv_goto (tgt := 52) hx hb dX0_ofCell_48 (by decide) ?_
          refine xw_iret hx hb hr hlocks hW hS ?_ dX0_ofCell_52
          have hres : xf_ofCell X c w = 1 := by subst e1 e11 e40; simp only [xf_ofCell, if_neg c4, if_neg c14, if_neg c20, if_neg c44]
          exact ⟨by rw [hres], rfl, rfl⟩
      · skip
        refine lv_aload_n hx hb dX0_ofCell_23 rfl (lv_at hl 0 rfl) ?_
        refine xx_geta hx hb hts hown hK hW 1 rfl q266 dX0_ofCell_24 ?_
        refine lv_iload_n hx hb dX0_ofCell_27 rfl (lv_at hl 1 rfl) ?_
        refine pp_calli (As := [.int c]) (rest := [.ref (o + 1)]) (n := 1) ⟨hx, hb, hml, hown, hts⟩ (xc_cellAt lQ c) (lw_S q463 q464 q84 q465) (by decide +kernel) rfl ⟨Nat.le_of_ble_eq_true rfl, Nat.le_of_ble_eq_true rfl⟩ hl.1 rfl (Nat.le_of_ble_eq_true rfl) dX0_ofCell_28 ⟨Nat.le_of_ble_eq_true rfl, Nat.le_of_ble_eq_true rfl⟩ (fun v28 e28 => ?_)
        refine xx_iald hx hb hK hW 1 rfl (by rw [e28]; exact ff_placeOf_in (by rw [← e1]; exact c4)) dX0_ofCell_31 ?_
        refine lv_goto (tgt := 52) hx hb dX0_ofCell_32 (by decide) ?_
        refine xw_iret hx hb hr hlocks hW hS ?_ dX0_ofCell_52
        have hres : xf_ofCell X c w = (rd_ X 1 v28) := by subst e1 e11 e28; simp only [xf_ofCell, if_neg c4, if_neg c14, if_pos c20]
        exact ⟨by rw [hres], rfl, rfl⟩
    · skip
      refine lv_iconst (v := (-1)) hx hb dX0_ofCell_17 (by decide) ?_
      refine xw_iret hx hb hr hlocks hW hS ?_ dX0_ofCell_18
      have hres : xf_ofCell X c w = (-1) := by subst e1 e11; simp only [xf_ofCell, if_neg c4, if_pos c14]
      exact ⟨by rw [hres], rfl, rfl⟩

set_option maxHeartbeats 4000000 in
theorem xc_speed (lQ : Launch) (G : wm_G) (o d0 : Nat) (X : mm_S) (E : mm_E) (D : xg) (m : Int32) (v : Int32) : xw_Met lQ G o d0 yX0_speed (ws_ yX0_speed cX0_speed 4 (some .int)) 2 X E D [Value.ref o, .int m, .int v] (some (.int (xf_speed X m v).1)) (xf_speed X m v).2 E := by
  refine xw_start (own := RX0) (by decide +kernel) (Nat.le_of_ble_eq_true rfl) rfl (fun pQ eQ sQ mQ belowQ methQ cQ hx hb hml hr hlocks hts hown hK hN H hW hS ls hl => ?_)
  have hl : lv_has ls 4 [(0, .ref o), (1, .int m), (2, .int v)] := hl
  generalize hlc : ([] : List Loc) = locs at hS ⊢
  refine lv_iload_n hx hb dX0_speed_0 rfl (lv_at hl 1 rfl) ?_
  refine pp_calli (As := [.int m]) (rest := []) (n := 1) ⟨hx, hb, hml, hown, hts⟩ (xc_isMachine lQ m) (lw_S q784 q785 q84 q786) (by decide +kernel) rfl ⟨Nat.le_of_ble_eq_true rfl, Nat.le_of_ble_eq_true rfl⟩ hl.1 rfl (Nat.le_of_ble_eq_true rfl) dX0_speed_1 ⟨Nat.le_of_ble_eq_true rfl, Nat.le_of_ble_eq_true rfl⟩ (fun v1 e1 => ?_)
  refine lv_if_eq (tgt := 21) hx hb dX0_speed_4 (by decide) (fun c4 => ?_) (fun c4 => ?_)
  · skip
    refine lv_iconst (v := (-1)) hx hb dX0_speed_21 (by decide) ?_
    refine xw_iret hx hb hr hlocks hW hS ?_ dX0_speed_22
    have hres : xf_speed X m v = ((-1), X) := by subst e1; simp only [xf_speed, if_pos c4]
    exact ⟨by rw [hres], by rw [hres], rfl⟩
  · skip
    refine lv_iload_n hx hb dX0_speed_7 rfl (lv_at hl 2 rfl) ?_
    refine lv_i2l (v := (v).toInt64) hx hb dX0_speed_8 rfl ?_
    refine lv_ldc2 (v := 10) hx hb hown (hts _ q787) dX0_speed_9 ?_
    refine lv_ldc2 (v := 60) hx hb hown (hts _ q458) dX0_speed_12 ?_
    refine xx_within (rest := []) v 10 60 ⟨hx, hb, hml, hown, hts⟩ rfl (by decide) (by decide) q459 hl.1 rfl rfl (Nat.le_of_ble_eq_true rfl) rfl rfl ⟨Nat.le_of_ble_eq_true rfl, Nat.le_of_ble_eq_true rfl⟩ dX0_speed_15 (fun v15 e15 => ?_)
    refine lv_if_ne (tgt := 23) hx hb dX0_speed_18 (by decide) (fun c18 => ?_) (fun c18 => ?_)
    · skip
      refine lv_aload_n hx hb dX0_speed_23 rfl (lv_at hl 0 rfl) ?_
      refine xx_geta hx hb hts hown hK hW 8 rfl q277 dX0_speed_24 ?_
      refine lv_iload_n hx hb dX0_speed_27 rfl (lv_at hl 1 rfl) ?_
      refine xx_iald hx hb hK hW 8 rfl (by have t := ff_isMachine_t (by rw [← e1]; exact c4); exact ww_in (by omega) (by omega)) dX0_speed_28 ?_
      refine lv_istore_n (lv' := [(3, .int (rd_ X 8 m)), (0, .ref o), (1, .int m), (2, .int v)]) hx hb dX0_speed_29 rfl hl (by decide) rfl (fun ls hl => ?_)
      refine lv_aload_n hx hb dX0_speed_30 rfl (lv_at hl 1 rfl) ?_
      refine xx_geta hx hb hts hown hK hW 8 rfl q277 dX0_speed_31 ?_
      refine lv_iload_n hx hb dX0_speed_34 rfl (lv_at hl 2 rfl) ?_
      refine lv_iload_n hx hb dX0_speed_35 rfl (lv_at hl 3 rfl) ?_
      refine xx_iast hx hb hK hW hS 8 rfl (by have t := ff_isMachine_t (by rw [← e1]; exact c4); exact ww_in (by omega) (by omega)) dX0_speed_36 (fun X36 H locs f36 hW hS => ?_)
      refine lv_iload_n hx hb dX0_speed_37 rfl (lv_at hl 0 rfl) ?_
      refine xw_iret hx hb hr hlocks hW hS ?_ dX0_speed_38
      have hres : xf_speed X m v = ((rd_ X 8 m), X36) := by subst e1 e15 f36; simp only [xf_speed, if_neg c4, if_neg c18]
      exact ⟨by rw [hres], by rw [hres], rfl⟩
    · skip
      refine lv_iconst (v := (-1)) hx hb dX0_speed_21 (by decide) ?_
      refine xw_iret hx hb hr hlocks hW hS ?_ dX0_speed_22
      have hres : xf_speed X m v = ((-1), X) := by subst e1 e15; simp only [xf_speed, if_neg c4, if_pos c18]
      exact ⟨by rw [hres], by rw [hres], rfl⟩

set_option maxHeartbeats 4000000 in
theorem xc_numberOf (lQ : Launch) (G : wm_G) (o d0 : Nat) (X : mm_S) (E : mm_E) (D : xg) (b : Int32) (hb1 : b.toInt < (fd_ X 4).toInt) : xw_Met lQ G o d0 yX0_numberOf (ws_ yX0_numberOf cX0_numberOf 1 (some .int)) 0 X E D ([va_rf (xx_o D b)] : List Value) (some (.int (xf_numberOf b))) X E := by
  refine xw_start (own := RX0) (by decide +kernel) (by simp [lg_sl, va_rf_c, vc_i, vc_r, vc_l]) rfl (fun pQ eQ sQ mQ belowQ methQ cQ hx hb hml hr hlocks hts hown hK hN H hW hS ls hl => ?_)
  have hl : lv_has ls 1 [(0, va_rf (xx_o D b))] := by simpa [lv_args, va_rf_c, vc_i, vc_r, vc_l] using hl
  generalize hlc : ([] : List Loc) = locs at hS ⊢
  refine xl_aload_n hx hb dX0_numberOf_0 rfl (lv_at hl 0 rfl) ?_
  refine xl_ifnonnull (tgt := 8) hx hb dX0_numberOf_1 (by decide) (fun c1 => ?_) (fun c1 => ?_)
  · have t1 : 0 ≤ (b).toInt := ww_nl0 c1
    have hi : xb_in X b := ⟨t1, hb1⟩
    refine xl_aload_n hx hb dX0_numberOf_8 rfl (lv_at hl 0 rfl) ?_
    refine xl_top hi.1 ?_
    refine xb_getN hx hb hts hown hK hW hi (k := 0) (xf_body _ (xq_lt hW hi) 0 (by decide)) (hN.nf q487) rfl (xb_vn hi.1) dX0_numberOf_9 ?_
    refine xw_iret hx hb hr hlocks hW hS ?_ dX0_numberOf_12
    have hres : xf_numberOf b = b := by simp only [xf_numberOf, if_neg c1]
    exact ⟨by rw [hres], rfl, rfl⟩
  · have t1 : (b).toInt < 0 := ww_l0 c1
    refine lv_iconst (v := (-1)) hx hb dX0_numberOf_4 (by decide) ?_
    refine lv_goto (tgt := 12) hx hb dX0_numberOf_5 (by decide) ?_
    refine xw_iret hx hb hr hlocks hW hS ?_ dX0_numberOf_12
    have hres : xf_numberOf b = (-1) := by simp only [xf_numberOf, if_pos c1]
    exact ⟨by rw [hres], rfl, rfl⟩

set_option maxHeartbeats 4000000 in
theorem xc_breaks (lQ : Launch) (G : wm_G) (o d0 : Nat) (X : mm_S) (E : mm_E) (D : xg) (m : Int32) (t : Int32) : xw_Met lQ G o d0 yX0_breaks (ws_ yX0_breaks cX0_breaks 3 (some .int)) 2 X E D [Value.ref o, .int m, .int t] (some (.int (xf_breaks X m t).1)) (xf_breaks X m t).2 E := by
  refine xw_start (own := RX0) (by decide +kernel) (Nat.le_of_ble_eq_true rfl) rfl (fun pQ eQ sQ mQ belowQ methQ cQ hx hb hml hr hlocks hts hown hK hN H hW hS ls hl => ?_)
  have hl : lv_has ls 3 [(0, .ref o), (1, .int m), (2, .int t)] := hl
  generalize hlc : ([] : List Loc) = locs at hS ⊢
  refine lv_iload_n hx hb dX0_breaks_0 rfl (lv_at hl 1 rfl) ?_
  refine pp_calli (As := [.int m]) (rest := []) (n := 1) ⟨hx, hb, hml, hown, hts⟩ (xc_isMachine lQ m) (lw_S q784 q785 q84 q786) (by decide +kernel) rfl ⟨Nat.le_of_ble_eq_true rfl, Nat.le_of_ble_eq_true rfl⟩ hl.1 rfl (Nat.le_of_ble_eq_true rfl) dX0_breaks_1 ⟨Nat.le_of_ble_eq_true rfl, Nat.le_of_ble_eq_true rfl⟩ (fun v1 e1 => ?_)
  refine lv_if_eq (tgt := 23) hx hb dX0_breaks_4 (by decide) (fun c4 => ?_) (fun c4 => ?_)
  · skip
    refine lv_iconst (v := (-1)) hx hb dX0_breaks_23 (by decide) ?_
    refine xw_iret hx hb hr hlocks hW hS ?_ dX0_breaks_24
    have hres : xf_breaks X m t = ((-1), X) := by subst e1; simp only [xf_breaks, if_pos c4]
    exact ⟨by rw [hres], by rw [hres], rfl⟩
  · skip
    refine lv_iload_n hx hb dX0_breaks_7 rfl (lv_at hl 2 rfl) ?_
    refine lv_i2l (v := (t).toInt64) hx hb dX0_breaks_8 rfl ?_
    refine lv_aload_n hx hb dX0_breaks_9 rfl (lv_at hl 0 rfl) ?_
    refine xx_geti hx hb hts hown hK hW 0 rfl rfl (by decide) (by decide) q265 dX0_breaks_10 ?_
    refine lv_i2l (v := ((fd_ X 0)).toInt64) hx hb dX0_breaks_13 rfl ?_
    refine lv_ldc2 (v := 1699) hx hb hown (hts _ q799) dX0_breaks_14 ?_
    refine xx_within (rest := []) t (fd_ X 0) 1699 ⟨hx, hb, hml, hown, hts⟩ rfl rfl (by decide) q459 hl.1 rfl rfl (Nat.le_of_ble_eq_true rfl) rfl rfl ⟨Nat.le_of_ble_eq_true rfl, Nat.le_of_ble_eq_true rfl⟩ dX0_breaks_17 (fun v17 e17 => ?_)
    refine lv_if_ne (tgt := 25) hx hb dX0_breaks_20 (by decide) (fun c20 => ?_) (fun c20 => ?_)
    · skip
      refine lv_aload_n hx hb dX0_breaks_25 rfl (lv_at hl 0 rfl) ?_
      refine xx_geta hx hb hts hown hK hW 10 rfl q279 dX0_breaks_26 ?_
      refine lv_iload_n hx hb dX0_breaks_29 rfl (lv_at hl 1 rfl) ?_
      refine lv_iload_n hx hb dX0_breaks_30 rfl (lv_at hl 2 rfl) ?_
      refine xx_iast hx hb hK hW hS 10 rfl (by have t := ff_isMachine_t (by rw [← e1]; exact c4); exact ww_in (by omega) (by omega)) dX0_breaks_31 (fun X31 H locs f31 hW hS => ?_)
      refine lv_iconst (v := 1) hx hb dX0_breaks_32 (by decide) ?_
      refine xw_iret hx hb hr hlocks hW hS ?_ dX0_breaks_33
      have hres : xf_breaks X m t = (1, X31) := by subst e1 e17 f31; simp only [xf_breaks, if_neg c4, if_neg c20]
      exact ⟨by rw [hres], by rw [hres], rfl⟩
    · skip
      refine lv_iconst (v := (-1)) hx hb dX0_breaks_23 (by decide) ?_
      refine xw_iret hx hb hr hlocks hW hS ?_ dX0_breaks_24
      have hres : xf_breaks X m t = ((-1), X) := by subst e1 e17; simp only [xf_breaks, if_neg c4, if_pos c20]
      exact ⟨by rw [hres], by rw [hres], rfl⟩

section XW3
variable {p : Program} {l : Launch} {e : Env} {R : Room} {s : State} {m : MethodId} {args : Array Value} {below : List Frame} {meth : Method} {c : Code} {H : Heap} {locs : List Loc} {cells slots : Nat} {Q : State → Prop}
variable {cc : ByteArray} {pc : Nat} {ls : Array Slot} {rest st0 : List Value} {G : wm_G} {o d0 : Nat} {H0 : Heap} {X : mm_S} {E : mm_E} {D : xg} {nL : Nat}
/-- a body's number or none, a hole if one -/
def xh_or (X : mm_S) (h : Int32) : Prop := h.toInt < (fd_ X 4).toInt ∧ (¬ h < 0 → xh_in X h)
theorem xh_or_n {X : mm_S} (hB : xv_B X) : xh_or X (-1) := ⟨by rw [show (-1 : Int32).toInt = -1 from by decide]; have := hB.1; omega, fun h => absurd (by decide) h⟩
theorem wm_aast {a t n : Nat} {f : Nat → Value} {A : Nat → Prop} (hx : p.tables.exec = Jvm.exec) (hb : c.code = cc) (hK : wm_K G s) {T : String} (ht : (wm_tys G)[t]? = some (G.2 t, .object T)) (hA : wm_A G a t n f H) (hS : va_S A H0 H locs) (hAa : A a) {C : String} {v : Nat} (hr : xr_ s H C v) (hca : xl_As C T s) {i : Int32} (hin : vp_in i n) (hdg : decode cc pc = .ok (.aastore, 1))
    (kk : ∀ (H1 : Heap) (locs1 : List Loc), wm_A G a t n (updV f i.toNatClampNeg (.ref v)) H1 → H1.size = H.size → (∀ q : Nat, q ≠ a → H1[q]? = H[q]?) → va_S A H0 H1 locs1 → W p l e R s m args below meth c H1 locs1 cells slots Q (F0 m (pc + 1) ls rest)) : W p l e R s m args below meth c H locs cells slots Q (F0 m pc ls (.ref v :: .int i :: .ref a :: rest)) := by
  have hlt : i.toNatClampNeg < n := Nat.not_le.mp fun q => hin (Or.inr q)
  have h0 : ¬ i < 0 := fun q => hin (Or.inl q)
  obtain ⟨cellV, g1, g2, g3⟩ := hr
  obtain ⟨kA, comp, k1, k2, k3, -⟩ := (hK.2 t _ ht).2
  obtain ⟨kE, hkE, -⟩ := Vm.findClass_spec k3
  obtain ⟨c0, t1, f1, f2, f3⟩ := hca
  cases g3.symm.trans f1
  cases k3.symm.trans f2
  obtain ⟨kC, hkC, -⟩ := Vm.findClass_spec g3
  exact W.aast hx hb hA (fun q h => by cases h) (fun h => by cases h) k1 k2 rfl hkE ⟨h0, by show _ < (arrV _ _ _).slots.size; rw [arrV_size]; exact hlt⟩ g1 (fun q h => by rw [h] at g2; cases g2) hkC f3 rfl rfl hdg fun H1 e z oq => kk H1 _ (wm_st e) z oq (hS.put z oq hAa)
theorem wm_aastN {a t n : Nat} {f : Nat → Value} {A : Nat → Prop} (hx : p.tables.exec = Jvm.exec) (hb : c.code = cc) (hK : wm_K G s) {T : String} (ht : (wm_tys G)[t]? = some (G.2 t, .object T)) (hA : wm_A G a t n f H) (hS : va_S A H0 H locs) (hAa : A a) {i : Int32} (hin : vp_in i n) (hdg : decode cc pc = .ok (.aastore, 1))
    (kk : ∀ (H1 : Heap) (locs1 : List Loc), wm_A G a t n (updV f i.toNatClampNeg .null) H1 → H1.size = H.size → (∀ q : Nat, q ≠ a → H1[q]? = H[q]?) → va_S A H0 H1 locs1 → W p l e R s m args below meth c H1 locs1 cells slots Q (F0 m (pc + 1) ls rest)) : W p l e R s m args below meth c H locs cells slots Q (F0 m pc ls (.null :: .int i :: .ref a :: rest)) :=
  va_WaastN (C := T) hx hb hA ((hK.2 t _ ht).1 n f) (fun h => by cases h) (by show ¬ (i < 0 ∨ (arrV _ _ _).slots.size ≤ _); rw [arrV_size]; exact hin) rfl rfl hdg fun H1 e z oq => kk H1 _ (wm_st e) z oq (hS.put z oq hAa)
theorem xx_wast (hx : p.tables.exec = Jvm.exec) (hb : c.code = cc) (hK : wm_K G s) (hN : xn_T s) (hW : xx_W G o d0 X E D H) (hS : va_S (xx_F o d0) H0 H locs) {i h : Int32} (hin : vp_in i 3) (hh : xh_or X h) (hd : decode cc pc = .ok (.aastore, 1))
    (kk : ∀ (X1 : mm_S) (H1 : Heap) (locs1 : List Loc), X1 = wr_ X 9 i h → xx_W G o d0 X1 E D H1 → va_S (xx_F o d0) H0 H1 locs1 → W p l e R s m args below meth c H1 locs1 cells slots Q (F0 m (pc + 1) ls rest)) : W p l e R s m args below meth c H locs cells slots Q (F0 m pc ls (va_rf (xx_o D h) :: .int i :: .ref (o + 6) :: rest)) := by
  have hi3 : i.toNatClampNeg < 3 := Nat.not_le.mp fun q => hin (Or.inr q)
  by_cases hneg : h < 0
  · rw [xx_o_neg hneg]
    refine wm_aastN hx hb hK (t := 8) rfl hW.wrk hS (xx_Fj (by decide)) hin hd fun H1 locs1 hA hz oq hS1 => kk _ H1 locs1 rfl (hW.wput hi3 hh.1 (by rw [xx_b_rf, xx_o_neg hneg]; exact hA) hz oq) hS1
  · have hi := hh.2 hneg
    have hp := hi.1.1
    have hq : (fun q => q == 2 || q == 3 || q == 4 || q == 5 : Nat → Bool) (xq X h) = true := by
      have h2 := hi.2
      have : xq X h = 2 ∨ xq X h = 3 ∨ xq X h = 4 ∨ xq X h = 5 := by omega
      rcases this with z | z | z | z <;> rw [z] <;> rfl
    rw [xx_o_pos hp]
    refine wm_aast hx hb hK (t := 8) rfl hW.wrk hS (xx_Fj (by decide)) (xb_recv hK hW hi.1) (xk_yHole hK hN _ (xq_lt hW hi.1) hq) hin hd fun H1 locs1 hA hz oq hS1 => kk _ H1 locs1 rfl (hW.wput hi3 hh.1 (by rw [xx_b_rf, xx_o_pos hp]; exact hA) hz oq) hS1
end XW3
