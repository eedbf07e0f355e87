set_option maxHeartbeats 4000000 in
theorem xc_isBody (lQ : Launch) (G : wm_G) (o d0 : Nat) (X : mm_S) (E : mm_E) (D : xg) (b : Int32) : xw_Met lQ G o d0 yX0_isBody (ws_ yX0_isBody cX0_isBody 2 (some .boolean)) 1 X E D [Value.ref o, .int b] (some (.int (xf_isBody X b))) X E := by
  refine xw_start (own := RX0) (by decide +kernel) (Nat.le_of_ble_eq_true rfl) rfl (fun pQ eQ sQ mQ belowQ methQ cQ hx hb hml hr hlocks hts hown hK hN H hW hS ls hl => ?_)
  have hl : lv_has ls 2 [(0, .ref o), (1, .int b)] := hl
  generalize hlc : ([] : List Loc) = locs at hS ⊢
  refine lv_iload_n hx hb dX0_isBody_0 rfl (lv_at hl 1 rfl) ?_
  refine lv_i2l (v := (b).toInt64) hx hb dX0_isBody_1 rfl ?_
  refine lv_lconst (v := 0) hx hb dX0_isBody_2 (by decide) ?_
  refine lv_aload_n hx hb dX0_isBody_3 rfl (lv_at hl 0 rfl) ?_
  refine xx_geti hx hb hts hown hK hW 4 rfl rfl (by decide) (by decide) q271 dX0_isBody_4 ?_
  refine lv_iconst (v := 1) hx hb dX0_isBody_7 (by decide) ?_
  refine nv_isub hx hb dX0_isBody_8 (fun v8 e8 => ?_)
  refine lv_i2l (v := (v8).toInt64) hx hb dX0_isBody_9 rfl ?_
  refine xx_within (rest := []) b 0 v8 ⟨hx, hb, hml, hown, hts⟩ rfl (by decide) rfl q459 hl.1 rfl rfl (Nat.le_of_ble_eq_true rfl) rfl rfl ⟨Nat.le_of_ble_eq_true rfl, Nat.le_of_ble_eq_true rfl⟩ dX0_isBody_10 (fun v10 e10 => ?_)
  refine xw_zret hx hb hr hlocks hW hS (by rw [e10]; exact nz_ (ff_in_b _ _ _)) ?_ dX0_isBody_13
  have hres : xf_isBody X b = v10 := by subst e8 e10; simp only [xf_isBody]
  exact ⟨by rw [hres], rfl, rfl⟩

set_option maxHeartbeats 4000000 in
theorem xc_holeOf (lQ : Launch) (G : wm_G) (o d0 : Nat) (X : mm_S) (E : mm_E) (D : xg) (b : Int32) : xw_Met lQ G o d0 yX0_holeOf (ws_ yX0_holeOf cX0_holeOf 2 (some (.object "ThirtyThreeBelow$Hole"))) 2 X E D [Value.ref o, .int b] (some (va_rf (xx_o D (xf_holeOf X b)))) X E := by
  refine xw_start (own := RX0) (by decide +kernel) (Nat.le_of_ble_eq_true rfl) rfl (fun pQ eQ sQ mQ belowQ methQ cQ hx hb hml hr hlocks hts hown hK hN H hW hS ls hl => ?_)
  have hl : lv_has ls 2 [(0, .ref o), (1, .int b)] := hl
  generalize hlc : ([] : List Loc) = locs at hS ⊢
  refine lv_aload_n hx hb dX0_holeOf_0 rfl (lv_at hl 0 rfl) ?_
  refine lv_iload_n hx hb dX0_holeOf_1 rfl (lv_at hl 1 rfl) ?_
  refine xw_p (xw_rV (As := [.int b]) (rest := []) (n := 1) ⟨hx, hb, hml, hown, hts⟩ hK hN hW (xc_isBody lQ G o d0 X E D b) (lw_V q723 q725 qs2 q84 q726) (xr_main hK hW) (by decide +kernel) rfl ⟨Nat.le_of_ble_eq_true rfl, Nat.le_of_ble_eq_true rfl⟩ hl.1 rfl (Nat.le_of_ble_eq_true rfl) dX0_holeOf_2 ⟨Nat.le_of_ble_eq_true rfl, Nat.le_of_ble_eq_true rfl⟩) hS (fun v2 H locs e2 hW hS => ?_)
  refine lv_if_eq (tgt := 32) hx hb dX0_holeOf_5 (by decide) (fun c5 => ?_) (fun c5 => ?_)
  · skip
    refine xl_null (D := D) hx hb dX0_holeOf_32 ?_
    refine xw_aret hx hb hr hlocks hW hS ?_ dX0_holeOf_33
    have hres : xf_holeOf X b = (-1) := by subst e2; simp only [xf_holeOf, if_pos c5]
    exact ⟨by rw [hres], rfl, rfl⟩
  · skip
    have hi : xb_in X b := xf_isBody_t (xv_W hW) (by rw [← e2]; exact c5)
    refine lv_aload_n hx hb dX0_holeOf_8 rfl (lv_at hl 0 rfl) ?_
    refine xx_getr hx hb hts hown hK hW 3 rfl rfl (by decide) (by decide) q270 dX0_holeOf_9 ?_
    refine lv_iload_n hx hb dX0_holeOf_12 rfl (lv_at hl 1 rfl) ?_
    refine xx_bald hx hb hK hW hi dX0_holeOf_13 ?_
    refine xl_top hi.1 ?_
    refine xb_instHole hx hb hts hown hK hN hW hi q124 dX0_holeOf_14 ?_
    refine lv_if_eq (tgt := 32) hx hb dX0_holeOf_17 (by decide) (fun c17 => ?_) (fun c17 => ?_)
    · skip
      refine xl_null (D := D) hx hb dX0_holeOf_32 ?_
      refine xw_aret hx hb hr hlocks hW hS ?_ dX0_holeOf_33
      have hres : xf_holeOf X b = (-1) := by subst e2; simp only [xf_holeOf, if_neg c5, if_pos c17]
      exact ⟨by rw [hres], rfl, rfl⟩
    · skip
      refine lv_aload_n hx hb dX0_holeOf_20 rfl (lv_at hl 0 rfl) ?_
      refine xx_getr hx hb hts hown hK hW 3 rfl rfl (by decide) (by decide) q270 dX0_holeOf_21 ?_
      refine lv_iload_n hx hb dX0_holeOf_24 rfl (lv_at hl 1 rfl) ?_
      refine xx_bald hx hb hK hW hi dX0_holeOf_25 ?_
      refine xl_top hi.1 ?_
      refine xb_castHole hx hb hts hown hK hN hW hi q124 c17 dX0_holeOf_26 ?_
      refine xl_rev hi.1 ?_
      refine lv_goto (tgt := 33) hx hb dX0_holeOf_29 (by decide) ?_
      refine xw_aret hx hb hr hlocks hW hS ?_ dX0_holeOf_33
      have hres : xf_holeOf X b = b := by subst e2; simp only [xf_holeOf, if_neg c5, if_neg c17]
      exact ⟨by rw [hres], rfl, rfl⟩

set_option maxHeartbeats 4000000 in
theorem xc_manOf (lQ : Launch) (G : wm_G) (o d0 : Nat) (X : mm_S) (E : mm_E) (D : xg) (b : Int32) : xw_Met lQ G o d0 yX0_manOf (ws_ yX0_manOf cX0_manOf 2 (some (.object "ThirtyThreeBelow$Man"))) 2 X E D [Value.ref o, .int b] (some (va_rf (xx_o D (xf_manOf X b)))) X E := by
  refine xw_start (own := RX0) (by decide +kernel) (Nat.le_of_ble_eq_true rfl) rfl (fun pQ eQ sQ mQ belowQ methQ cQ hx hb hml hr hlocks hts hown hK hN H hW hS ls hl => ?_)
  have hl : lv_has ls 2 [(0, .ref o), (1, .int b)] := hl
  generalize hlc : ([] : List Loc) = locs at hS ⊢
  refine lv_aload_n hx hb dX0_manOf_0 rfl (lv_at hl 0 rfl) ?_
  refine lv_iload_n hx hb dX0_manOf_1 rfl (lv_at hl 1 rfl) ?_
  refine xw_p (xw_rV (As := [.int b]) (rest := []) (n := 1) ⟨hx, hb, hml, hown, hts⟩ hK hN hW (xc_isBody lQ G o d0 X E D b) (lw_V q723 q725 qs2 q84 q726) (xr_main hK hW) (by decide +kernel) rfl ⟨Nat.le_of_ble_eq_true rfl, Nat.le_of_ble_eq_true rfl⟩ hl.1 rfl (Nat.le_of_ble_eq_true rfl) dX0_manOf_2 ⟨Nat.le_of_ble_eq_true rfl, Nat.le_of_ble_eq_true rfl⟩) hS (fun v2 H locs e2 hW hS => ?_)
  refine lv_if_eq (tgt := 32) hx hb dX0_manOf_5 (by decide) (fun c5 => ?_) (fun c5 => ?_)
  · skip
    refine xl_null (D := D) hx hb dX0_manOf_32 ?_
    refine xw_aret hx hb hr hlocks hW hS ?_ dX0_manOf_33
    have hres : xf_manOf X b = (-1) := by subst e2; simp only [xf_manOf, if_pos c5]
    exact ⟨by rw [hres], rfl, rfl⟩
  · skip
    have hi : xb_in X b := xf_isBody_t (xv_W hW) (by rw [← e2]; exact c5)
    refine lv_aload_n hx hb dX0_manOf_8 rfl (lv_at hl 0 rfl) ?_
    refine xx_getr hx hb hts hown hK hW 3 rfl rfl (by decide) (by decide) q270 dX0_manOf_9 ?_
    refine lv_iload_n hx hb dX0_manOf_12 rfl (lv_at hl 1 rfl) ?_
    refine xx_bald hx hb hK hW hi dX0_manOf_13 ?_
    refine xl_top hi.1 ?_
    refine xb_instMan hx hb hts hown hK hN hW hi q692 dX0_manOf_14 ?_
    refine lv_if_eq (tgt := 32) hx hb dX0_manOf_17 (by decide) (fun c17 => ?_) (fun c17 => ?_)
    · skip
      refine xl_null (D := D) hx hb dX0_manOf_32 ?_
      refine xw_aret hx hb hr hlocks hW hS ?_ dX0_manOf_33
      have hres : xf_manOf X b = (-1) := by subst e2; simp only [xf_manOf, if_neg c5, if_pos c17]
      exact ⟨by rw [hres], rfl, rfl⟩
    · skip
      refine lv_aload_n hx hb dX0_manOf_20 rfl (lv_at hl 0 rfl) ?_
      refine xx_getr hx hb hts hown hK hW 3 rfl rfl (by decide) (by decide) q270 dX0_manOf_21 ?_
      refine lv_iload_n hx hb dX0_manOf_24 rfl (lv_at hl 1 rfl) ?_
      refine xx_bald hx hb hK hW hi dX0_manOf_25 ?_
      refine xl_top hi.1 ?_
      refine xb_castMan hx hb hts hown hK hN hW hi q692 c17 dX0_manOf_26 ?_
      refine xl_rev hi.1 ?_
      refine lv_goto (tgt := 33) hx hb dX0_manOf_29 (by decide) ?_
      refine xw_aret hx hb hr hlocks hW hS ?_ dX0_manOf_33
      have hres : xf_manOf X b = b := by subst e2; simp only [xf_manOf, if_neg c5, if_neg c17]
      exact ⟨by rw [hres], rfl, rfl⟩

set_option maxHeartbeats 4000000 in
theorem xc_belowOf (lQ : Launch) (G : wm_G) (o d0 : Nat) (X : mm_S) (E : mm_E) (D : xg) (b : Int32) : xw_Met lQ G o d0 yX0_belowOf (ws_ yX0_belowOf cX0_belowOf 2 (some (.object "ThirtyThreeBelow$Man"))) 3 X E D [Value.ref o, .int b] (some (va_rf (xx_o D (xf_belowOf X b)))) X E := by
  refine xw_start (own := RX0) (by decide +kernel) (Nat.le_of_ble_eq_true rfl) rfl (fun pQ eQ sQ mQ belowQ methQ cQ hx hb hml hr hlocks hts hown hK hN H hW hS ls hl => ?_)
  have hl : lv_has ls 2 [(0, .ref o), (1, .int b)] := hl
  generalize hlc : ([] : List Loc) = locs at hS ⊢
  refine lv_aload_n hx hb dX0_belowOf_0 rfl (lv_at hl 0 rfl) ?_
  refine lv_iload_n hx hb dX0_belowOf_1 rfl (lv_at hl 1 rfl) ?_
  refine xw_b (xw_rV (As := [.int b]) (rest := []) (n := 1) ⟨hx, hb, hml, hown, hts⟩ hK hN hW (xc_manOf lQ G o d0 X E D b) (lw_V q772 q774 qs4 q84 q775) (xr_main hK hW) (by decide +kernel) rfl ⟨Nat.le_of_ble_eq_true rfl, Nat.le_of_ble_eq_true rfl⟩ hl.1 rfl (Nat.le_of_ble_eq_true rfl) dX0_belowOf_2 ⟨Nat.le_of_ble_eq_true rfl, Nat.le_of_ble_eq_true rfl⟩) hS (fun v2 H locs e2 hW hS => ?_)
  refine xl_ifnull (tgt := 27) hx hb dX0_belowOf_5 (by decide) (fun c5 => ?_) (fun c5 => ?_)
  · have t5 : (v2).toInt < 0 := ww_lt c5
    refine xl_null (D := D) hx hb dX0_belowOf_27 ?_
    refine xw_aret hx hb hr hlocks hW hS ?_ dX0_belowOf_28
    have hres : xf_belowOf X b = (-1) := by subst e2; simp only [xf_belowOf, if_pos c5]
    exact ⟨by rw [hres], rfl, rfl⟩
  · have t5 : 0 ≤ (v2).toInt := ww_nlt c5
    have hi5 : xm_in X (xf_manOf X b) := xf_manOf_q (xv_W hW) (by rw [← e2]; exact c5)
    refine lv_aload_n hx hb dX0_belowOf_8 rfl (lv_at hl 0 rfl) ?_
    refine lv_iload_n hx hb dX0_belowOf_9 rfl (lv_at hl 1 rfl) ?_
    refine xw_b (xw_rV (As := [.int b]) (rest := []) (n := 1) ⟨hx, hb, hml, hown, hts⟩ hK hN hW (xc_manOf lQ G o d0 X E D b) (lw_V q772 q774 qs4 q84 q775) (xr_main hK hW) (by decide +kernel) rfl ⟨Nat.le_of_ble_eq_true rfl, Nat.le_of_ble_eq_true rfl⟩ hl.1 rfl (Nat.le_of_ble_eq_true rfl) dX0_belowOf_10 ⟨Nat.le_of_ble_eq_true rfl, Nat.le_of_ble_eq_true rfl⟩) hS (fun v10 H locs e10 hW hS => ?_)
    refine xl_top (show xm_in X v10 from by rw [e10]; exact hi5).1.1 ?_
    refine xb_getN hx hb hts hown hK hW (show xm_in X v10 from by rw [e10]; exact hi5).1 (k := 5) (xf_man (show xm_in X v10 from by rw [e10]; exact hi5).2 (k := 5) (by decide)) (hN.nf q704) rfl (xb_vi (f := 80) (xf_man (show xm_in X v10 from by rw [e10]; exact hi5).2 (k := 5) (by decide)) (by decide)) dX0_belowOf_13 ?_
    refine lv_if_ne (tgt := 27) hx hb dX0_belowOf_16 (by decide) (fun c16 => ?_) (fun c16 => ?_)
    · skip
      refine xl_null (D := D) hx hb dX0_belowOf_27 ?_
      refine xw_aret hx hb hr hlocks hW hS ?_ dX0_belowOf_28
      have hres : xf_belowOf X b = (-1) := by subst e2 e10; simp only [xf_belowOf, if_neg c5, if_neg c16]
      exact ⟨by rw [hres], rfl, rfl⟩
    · skip
      refine lv_aload_n hx hb dX0_belowOf_19 rfl (lv_at hl 0 rfl) ?_
      refine lv_iload_n hx hb dX0_belowOf_20 rfl (lv_at hl 1 rfl) ?_
      refine xw_b (xw_rV (As := [.int b]) (rest := []) (n := 1) ⟨hx, hb, hml, hown, hts⟩ hK hN hW (xc_manOf lQ G o d0 X E D b) (lw_V q772 q774 qs4 q84 q775) (xr_main hK hW) (by decide +kernel) rfl ⟨Nat.le_of_ble_eq_true rfl, Nat.le_of_ble_eq_true rfl⟩ hl.1 rfl (Nat.le_of_ble_eq_true rfl) dX0_belowOf_21 ⟨Nat.le_of_ble_eq_true rfl, Nat.le_of_ble_eq_true rfl⟩) hS (fun v21 H locs e21 hW hS => ?_)
      refine lv_goto (tgt := 28) hx hb dX0_belowOf_24 (by decide) ?_
      refine xw_aret hx hb hr hlocks hW hS ?_ dX0_belowOf_28
      have hres : xf_belowOf X b = v21 := by subst e2 e10 e21; simp only [xf_belowOf, if_neg c5, if_pos c16]
      exact ⟨by rw [hres], rfl, rfl⟩

set_option maxHeartbeats 4000000 in
theorem xc_isShelterAt (lQ : Launch) (G : wm_G) (o d0 : Nat) (X : mm_S) (E : mm_E) (D : xg) (x : Int32) (y : Int32) (hJ : xj_s X) : xw_Met lQ G o d0 yX0_isShelterAt (ws_ yX0_isShelterAt cX0_isShelterAt 3 (some .boolean)) 1 X E D [Value.ref o, .int x, .int y] (some (.int (xf_isShelterAt X x y))) X E := by
  refine xw_start (own := RX0) (by decide +kernel) (Nat.le_of_ble_eq_true rfl) rfl (fun pQ eQ sQ mQ belowQ methQ cQ hx hb hml hr hlocks hts hown hK hN H hW hS ls hl => ?_)
  have hl : lv_has ls 3 [(0, .ref o), (1, .int x), (2, .int y)] := hl
  generalize hlc : ([] : List Loc) = locs at hS ⊢
  refine lv_aload_n hx hb dX0_isShelterAt_0 rfl (lv_at hl 0 rfl) ?_
  refine xx_getsh hx hb hts hown hK hW q272 dX0_isShelterAt_1 ?_
  refine xl_ifnull (tgt := 46) hx hb dX0_isShelterAt_4 (by decide) (fun c4 => ?_) (fun c4 => ?_)
  · have t4 : ((fd_ X 5)).toInt < 0 := ww_lt c4
    refine lv_iconst (v := 0) hx hb dX0_isShelterAt_46 (by decide) ?_
    refine xw_zret hx hb hr hlocks hW hS rfl ?_ dX0_isShelterAt_47
    have hres : xf_isShelterAt X x y = 0 := by simp only [xf_isShelterAt, if_pos c4]
    exact ⟨by rw [hres], rfl, rfl⟩
  · have t4 : 0 ≤ ((fd_ X 5)).toInt := ww_nlt c4
    have hs := hJ c4
    refine lv_aload_n hx hb dX0_isShelterAt_7 rfl (lv_at hl 0 rfl) ?_
    refine xx_getsh hx hb hts hown hK hW q272 dX0_isShelterAt_8 ?_
    refine xl_top hs.1.1 ?_
    refine xb_getN hx hb hts hown hK hW hs.1 (k := 5) (xf_shelter hs.2 (k := 5) (by decide)) (hN.nf q669) rfl (xb_vi (f := 75) (xf_shelter hs.2 (k := 5) (by decide)) (by decide)) dX0_isShelterAt_11 ?_
    refine lv_iload_n hx hb dX0_isShelterAt_14 rfl (lv_at hl 2 rfl) ?_
    refine lv_icmp_ne (tgt := 46) hx hb dX0_isShelterAt_15 (by decide) (fun c15 => ?_) (fun c15 => ?_)
    · skip
      refine lv_iconst (v := 0) hx hb dX0_isShelterAt_46 (by decide) ?_
      refine xw_zret hx hb hr hlocks hW hS rfl ?_ dX0_isShelterAt_47
      have hres : xf_isShelterAt X x y = 0 := by simp only [xf_isShelterAt, if_neg c4, if_neg c15]
      exact ⟨by rw [hres], rfl, rfl⟩
    · skip
      refine lv_iload_n hx hb dX0_isShelterAt_18 rfl (lv_at hl 1 rfl) ?_
      refine lv_i2l (v := (x).toInt64) hx hb dX0_isShelterAt_19 rfl ?_
      refine lv_aload_n hx hb dX0_isShelterAt_20 rfl (lv_at hl 0 rfl) ?_
      refine xx_getsh hx hb hts hown hK hW q272 dX0_isShelterAt_21 ?_
      refine xl_top hs.1.1 ?_
      refine xb_getN hx hb hts hown hK hW hs.1 (k := 3) (xf_shelter hs.2 (k := 3) (by decide)) (hN.nf q665) rfl (xb_vi (f := 73) (xf_shelter hs.2 (k := 3) (by decide)) (by decide)) dX0_isShelterAt_24 ?_
      refine lv_i2l (v := ((rd_ X 73 (fd_ X 5))).toInt64) hx hb dX0_isShelterAt_27 rfl ?_
      refine lv_aload_n hx hb dX0_isShelterAt_28 rfl (lv_at hl 0 rfl) ?_
      refine xx_getsh hx hb hts hown hK hW q272 dX0_isShelterAt_29 ?_
      refine xl_top hs.1.1 ?_
      refine xb_getN hx hb hts hown hK hW hs.1 (k := 4) (xf_shelter hs.2 (k := 4) (by decide)) (hN.nf q667) rfl (xb_vi (f := 74) (xf_shelter hs.2 (k := 4) (by decide)) (by decide)) dX0_isShelterAt_32 ?_
      refine lv_i2l (v := ((rd_ X 74 (fd_ X 5))).toInt64) hx hb dX0_isShelterAt_35 rfl ?_
      refine xx_within (rest := []) x (rd_ X 73 (fd_ X 5)) (rd_ X 74 (fd_ X 5)) ⟨hx, hb, hml, hown, hts⟩ rfl rfl rfl q459 hl.1 rfl rfl (Nat.le_of_ble_eq_true rfl) rfl rfl ⟨Nat.le_of_ble_eq_true rfl, Nat.le_of_ble_eq_true rfl⟩ dX0_isShelterAt_36 (fun v36 e36 => ?_)
      refine lv_if_eq (tgt := 46) hx hb dX0_isShelterAt_39 (by decide) (fun c39 => ?_) (fun c39 => ?_)
      · skip
        refine lv_iconst (v := 0) hx hb dX0_isShelterAt_46 (by decide) ?_
        refine xw_zret hx hb hr hlocks hW hS rfl ?_ dX0_isShelterAt_47
        have hres : xf_isShelterAt X x y = 0 := by subst e36; simp only [xf_isShelterAt, if_neg c4, if_pos c15, if_pos c39]
        exact ⟨by rw [hres], rfl, rfl⟩
      · skip
        refine lv_iconst (v := 1) hx hb dX0_isShelterAt_42 (by decide) ?_
        refine lv_goto (tgt := 47) hx hb dX0_isShelterAt_43 (by decide) ?_
        refine xw_zret hx hb hr hlocks hW hS rfl ?_ dX0_isShelterAt_47
        have hres : xf_isShelterAt X x y = 1 := by subst e36; simp only [xf_isShelterAt, if_neg c4, if_pos c15, if_neg c39]
        exact ⟨by rw [hres], rfl, rfl⟩

set_option maxHeartbeats 4000000 in
theorem xc_isThrough (lQ : Launch) (G : wm_G) (o d0 : Nat) (X : mm_S) (E : mm_E) (D : xg) (b : Int32) (hi : xh_in X b) : xw_Met lQ G o d0 yX8_isThrough (ws_ yX8_isThrough cX8_isThrough 1 (some .boolean)) 0 X E D [Value.ref (xb_ D b)] (some (.int (xf_isThrough X b))) X E := by
  refine xw_start (own := RX8) (by decide +kernel) (Nat.le_of_ble_eq_true rfl) rfl (fun pQ eQ sQ mQ belowQ methQ cQ hx hb hml hr hlocks hts hown hK hN H hW hS ls hl => ?_)
  have hl : lv_has ls 1 [(0, .ref (xb_ D b))] := hl
  generalize hlc : ([] : List Loc) = locs at hS ⊢
  refine lv_aload_n hx hb dX8_isThrough_0 rfl (lv_at hl 0 rfl) ?_
  refine xb_get hx hb hts hown hK hW hi.1 (k := 11) (xf_hole hi.2 (k := 11) (by decide)) q537 rfl (xb_vi (f := 69) (xf_hole hi.2 (k := 11) (by decide)) (by decide)) dX8_isThrough_1 ?_
  refine lv_iconst (v := (-1)) hx hb dX8_isThrough_4 (by decide) ?_
  refine lv_icmp_eq (tgt := 12) hx hb dX8_isThrough_5 (by decide) (fun c5 => ?_) (fun c5 => ?_)
  · skip
    refine lv_iconst (v := 0) hx hb dX8_isThrough_12 (by decide) ?_
    refine xw_zret hx hb hr hlocks hW hS rfl ?_ dX8_isThrough_13
    have hres : xf_isThrough X b = 0 := by simp only [xf_isThrough, if_pos c5]
    exact ⟨by rw [hres], rfl, rfl⟩
  · skip
    refine lv_iconst (v := 1) hx hb dX8_isThrough_8 (by decide) ?_
    refine lv_goto (tgt := 13) hx hb dX8_isThrough_9 (by decide) ?_
    refine xw_zret hx hb hr hlocks hW hS rfl ?_ dX8_isThrough_13
    have hres : xf_isThrough X b = 1 := by simp only [xf_isThrough, if_neg c5]
    exact ⟨by rw [hres], rfl, rfl⟩

set_option maxHeartbeats 4000000 in
theorem xc_low (lQ : Launch) (G : wm_G) (o d0 : Nat) (X : mm_S) (E : mm_E) (D : xg) (b : Int32) (hi : xh_in X b) (y : Int32) (q : Int32) (hy : vp_in y 61) : xw_Met lQ G o d0 yX8_low (ws_ yX8_low cX8_low 3 (some .int)) 0 X E D [Value.ref (xb_ D b), .int y, .int q] (some (.int (xf_low X b y q))) X E := by
  refine xw_start (own := RX8) (by decide +kernel) (Nat.le_of_ble_eq_true rfl) rfl (fun pQ eQ sQ mQ belowQ methQ cQ hx hb hml hr hlocks hts hown hK hN H hW hS ls hl => ?_)
  have hl : lv_has ls 3 [(0, .ref (xb_ D b)), (1, .int y), (2, .int q)] := hl
  generalize hlc : ([] : List Loc) = locs at hS ⊢
  refine lv_iload_n hx hb dX8_low_0 rfl (lv_at hl 2 rfl) ?_
  refine wm_join (P := fun w29 : Int32 => w29 = (if ra_ X 71 b y = 0 then -8 else ra_ X 70 b y - fd_ X 12)) (j := 29) (rest := [.int q]) (ls := ls) (fun w29 ew29 => ?_) (fun J29 => ?_)
  · skip
    refine nv_iadd hx hb dX8_low_29 (fun v29 e29 => ?_)
    refine xw_iret hx hb hr hlocks hW hS ?_ dX8_low_30
    have hres : xf_low X b y q = v29 := by subst ew29 e29; simp only [xf_low]
    exact ⟨by rw [hres], rfl, rfl⟩
  refine lv_aload_n hx hb dX8_low_1 rfl (lv_at hl 0 rfl) ?_
  refine xb_get hx hb hts hown hK hW hi.1 (k := 13) (xf_hole hi.2 (k := 13) (by decide)) q541 rfl (xb_va (j := 4) (xf_hole hi.2 (k := 13) (by decide)) (by decide)) dX8_low_2 ?_
  refine lv_iload_n hx hb dX8_low_5 rfl (lv_at hl 1 rfl) ?_
  refine xh_zald hx hb hK hW hi hy dX8_low_6 ?_
  refine lv_if_eq (tgt := 27) hx hb dX8_low_7 (by decide) (fun c7 => ?_) (fun c7 => ?_)
  · skip
    refine lv_bipush (v := (-8)) hx hb dX8_low_27 (by decide) ?_
    exact J29 _ (by simp only [if_pos c7])
  · skip
    refine lv_aload_n hx hb dX8_low_10 rfl (lv_at hl 0 rfl) ?_
    refine xb_get hx hb hts hown hK hW hi.1 (k := 12) (xf_hole hi.2 (k := 12) (by decide)) q539 rfl (xb_va (j := 3) (xf_hole hi.2 (k := 12) (by decide)) (by decide)) dX8_low_11 ?_
    refine lv_iload_n hx hb dX8_low_14 rfl (lv_at hl 1 rfl) ?_
    refine xh_iald hx hb hK hW hi 2 (by decide) 70 rfl hy dX8_low_15 ?_
    refine lv_aload_n hx hb dX8_low_16 rfl (lv_at hl 0 rfl) ?_
    refine xb_get hx hb hts hown hK hW hi.1 (k := 14) (xf_hole hi.2 (k := 14) (by decide)) q543 rfl (xb_vo (xf_hole hi.2 (k := 14) (by decide)) (by decide)) dX8_low_17 ?_
    refine xx_getiN hx hb hts hown hK hW 12 rfl rfl (by decide) (by decide) (hN.nf q282) dX8_low_20 ?_
    refine nv_isub hx hb dX8_low_23 (fun v23 e23 => ?_)
    refine lv_goto (tgt := 29) hx hb dX8_low_24 (by decide) ?_
    exact J29 _ (by subst e23; simp only [if_neg c7])

set_option maxHeartbeats 4000000 in
theorem xc_high (lQ : Launch) (G : wm_G) (o d0 : Nat) (X : mm_S) (E : mm_E) (D : xg) (b : Int32) (hi : xh_in X b) (y : Int32) (q : Int32) (hy : vp_in y 61) : xw_Met lQ G o d0 yX8_high (ws_ yX8_high cX8_high 3 (some .int)) 0 X E D [Value.ref (xb_ D b), .int y, .int q] (some (.int (xf_high X b y q))) X E := by
  refine xw_start (own := RX8) (by decide +kernel) (Nat.le_of_ble_eq_true rfl) rfl (fun pQ eQ sQ mQ belowQ methQ cQ hx hb hml hr hlocks hts hown hK hN H hW hS ls hl => ?_)
  have hl : lv_has ls 3 [(0, .ref (xb_ D b)), (1, .int y), (2, .int q)] := hl
  generalize hlc : ([] : List Loc) = locs at hS ⊢
  refine lv_iload_n hx hb dX8_high_0 rfl (lv_at hl 2 rfl) ?_
  refine wm_join (P := fun w29 : Int32 => w29 = (if ra_ X 71 b y = 0 then 8 else ra_ X 70 b y + fd_ X 12)) (j := 29) (rest := [.int q]) (ls := ls) (fun w29 ew29 => ?_) (fun J29 => ?_)
  · skip
    refine nv_iadd hx hb dX8_high_29 (fun v29 e29 => ?_)
    refine xw_iret hx hb hr hlocks hW hS ?_ dX8_high_30
    have hres : xf_high X b y q = v29 := by subst ew29 e29; simp only [xf_high]
    exact ⟨by rw [hres], rfl, rfl⟩
  refine lv_aload_n hx hb dX8_high_1 rfl (lv_at hl 0 rfl) ?_
  refine xb_get hx hb hts hown hK hW hi.1 (k := 13) (xf_hole hi.2 (k := 13) (by decide)) q541 rfl (xb_va (j := 4) (xf_hole hi.2 (k := 13) (by decide)) (by decide)) dX8_high_2 ?_
  refine lv_iload_n hx hb dX8_high_5 rfl (lv_at hl 1 rfl) ?_
  refine xh_zald hx hb hK hW hi hy dX8_high_6 ?_
  refine lv_if_eq (tgt := 27) hx hb dX8_high_7 (by decide) (fun c7 => ?_) (fun c7 => ?_)
  · skip
    refine lv_bipush (v := 8) hx hb dX8_high_27 (by decide) ?_
    exact J29 _ (by simp only [if_pos c7])
  · skip
    refine lv_aload_n hx hb dX8_high_10 rfl (lv_at hl 0 rfl) ?_
    refine xb_get hx hb hts hown hK hW hi.1 (k := 12) (xf_hole hi.2 (k := 12) (by decide)) q539 rfl (xb_va (j := 3) (xf_hole hi.2 (k := 12) (by decide)) (by decide)) dX8_high_11 ?_
    refine lv_iload_n hx hb dX8_high_14 rfl (lv_at hl 1 rfl) ?_
    refine xh_iald hx hb hK hW hi 2 (by decide) 70 rfl hy dX8_high_15 ?_
    refine lv_aload_n hx hb dX8_high_16 rfl (lv_at hl 0 rfl) ?_
    refine xb_get hx hb hts hown hK hW hi.1 (k := 14) (xf_hole hi.2 (k := 14) (by decide)) q543 rfl (xb_vo (xf_hole hi.2 (k := 14) (by decide)) (by decide)) dX8_high_17 ?_
    refine xx_getiN hx hb hts hown hK hW 12 rfl rfl (by decide) (by decide) (hN.nf q282) dX8_high_20 ?_
    refine nv_iadd hx hb dX8_high_23 (fun v23 e23 => ?_)
    refine lv_goto (tgt := 29) hx hb dX8_high_24 (by decide) ?_
    exact J29 _ (by subst e23; simp only [if_neg c7])

set_option maxHeartbeats 4000000 in
theorem xc_kind0 (lQ : Launch) (G : wm_G) (o d0 : Nat) (X : mm_S) (E : mm_E) (D : xg) (b : Int32) (hi : xb_in X b) : xw_Met lQ G o d0 yX6_kind (ws_ yX6_kind cX6_kind 1 (some .int)) 0 X E D [Value.ref (xb_ D b)] (some (.int (0))) X E := by
  refine xw_start (own := RX6) (by decide +kernel) (Nat.le_of_ble_eq_true rfl) rfl (fun pQ eQ sQ mQ belowQ methQ cQ hx hb hml hr hlocks hts hown hK hN H hW hS ls hl => ?_)
  have hl : lv_has ls 1 [(0, .ref (xb_ D b))] := hl
  generalize hlc : ([] : List Loc) = locs at hS ⊢
  refine lv_iconst (v := 0) hx hb dX6_kind_0 (by decide) ?_
  refine xw_iret hx hb hr hlocks hW hS ?_ dX6_kind_1
  exact ⟨rfl, rfl, rfl⟩

set_option maxHeartbeats 4000000 in
theorem xc_kind1 (lQ : Launch) (G : wm_G) (o d0 : Nat) (X : mm_S) (E : mm_E) (D : xg) (b : Int32) (hi : xb_in X b) : xw_Met lQ G o d0 yX7_kind (ws_ yX7_kind cX7_kind 1 (some .int)) 0 X E D [Value.ref (xb_ D b)] (some (.int (1))) X E := by
  refine xw_start (own := RX7) (by decide +kernel) (Nat.le_of_ble_eq_true rfl) rfl (fun pQ eQ sQ mQ belowQ methQ cQ hx hb hml hr hlocks hts hown hK hN H hW hS ls hl => ?_)
  have hl : lv_has ls 1 [(0, .ref (xb_ D b))] := hl
  generalize hlc : ([] : List Loc) = locs at hS ⊢
  refine lv_iconst (v := 1) hx hb dX7_kind_0 (by decide) ?_
  refine xw_iret hx hb hr hlocks hW hS ?_ dX7_kind_1
  exact ⟨rfl, rfl, rfl⟩

set_option maxHeartbeats 4000000 in
theorem xc_kind2 (lQ : Launch) (G : wm_G) (o d0 : Nat) (X : mm_S) (E : mm_E) (D : xg) (b : Int32) (hi : xb_in X b) : xw_Met lQ G o d0 yX8_kind (ws_ yX8_kind cX8_kind 1 (some .int)) 0 X E D [Value.ref (xb_ D b)] (some (.int (2))) X E := by
  refine xw_start (own := RX8) (by decide +kernel) (Nat.le_of_ble_eq_true rfl) rfl (fun pQ eQ sQ mQ belowQ methQ cQ hx hb hml hr hlocks hts hown hK hN H hW hS ls hl => ?_)
  have hl : lv_has ls 1 [(0, .ref (xb_ D b))] := hl
  generalize hlc : ([] : List Loc) = locs at hS ⊢
  refine lv_iconst (v := 2) hx hb dX8_kind_0 (by decide) ?_
  refine xw_iret hx hb hr hlocks hW hS ?_ dX8_kind_1
  exact ⟨rfl, rfl, rfl⟩

set_option maxHeartbeats 4000000 in
theorem xc_kind3 (lQ : Launch) (G : wm_G) (o d0 : Nat) (X : mm_S) (E : mm_E) (D : xg) (b : Int32) (hi : xb_in X b) : xw_Met lQ G o d0 yX9_kind (ws_ yX9_kind cX9_kind 1 (some .int)) 0 X E D [Value.ref (xb_ D b)] (some (.int (3))) X E := by
  refine xw_start (own := RX9) (by decide +kernel) (Nat.le_of_ble_eq_true rfl) rfl (fun pQ eQ sQ mQ belowQ methQ cQ hx hb hml hr hlocks hts hown hK hN H hW hS ls hl => ?_)
  have hl : lv_has ls 1 [(0, .ref (xb_ D b))] := hl
  generalize hlc : ([] : List Loc) = locs at hS ⊢
  refine lv_iconst (v := 3) hx hb dX9_kind_0 (by decide) ?_
  refine xw_iret hx hb hr hlocks hW hS ?_ dX9_kind_1
  exact ⟨rfl, rfl, rfl⟩

set_option maxHeartbeats 4000000 in
theorem xc_kind4 (lQ : Launch) (G : wm_G) (o d0 : Nat) (X : mm_S) (E : mm_E) (D : xg) (b : Int32) (hi : xb_in X b) : xw_Met lQ G o d0 yX10_kind (ws_ yX10_kind cX10_kind 1 (some .int)) 0 X E D [Value.ref (xb_ D b)] (some (.int (4))) X E := by
  refine xw_start (own := RX10) (by decide +kernel) (Nat.le_of_ble_eq_true rfl) rfl (fun pQ eQ sQ mQ belowQ methQ cQ hx hb hml hr hlocks hts hown hK hN H hW hS ls hl => ?_)
  have hl : lv_has ls 1 [(0, .ref (xb_ D b))] := hl
  generalize hlc : ([] : List Loc) = locs at hS ⊢
  refine lv_iconst (v := 4) hx hb dX10_kind_0 (by decide) ?_
  refine xw_iret hx hb hr hlocks hW hS ?_ dX10_kind_1
  exact ⟨rfl, rfl, rfl⟩

set_option maxHeartbeats 4000000 in
theorem xc_kind5 (lQ : Launch) (G : wm_G) (o d0 : Nat) (X : mm_S) (E : mm_E) (D : xg) (b : Int32) (hi : xb_in X b) : xw_Met lQ G o d0 yX11_kind (ws_ yX11_kind cX11_kind 1 (some .int)) 0 X E D [Value.ref (xb_ D b)] (some (.int (5))) X E := by
  refine xw_start (own := RX11) (by decide +kernel) (Nat.le_of_ble_eq_true rfl) rfl (fun pQ eQ sQ mQ belowQ methQ cQ hx hb hml hr hlocks hts hown hK hN H hW hS ls hl => ?_)
  have hl : lv_has ls 1 [(0, .ref (xb_ D b))] := hl
  generalize hlc : ([] : List Loc) = locs at hS ⊢
  refine lv_iconst (v := 5) hx hb dX11_kind_0 (by decide) ?_
  refine xw_iret hx hb hr hlocks hW hS ?_ dX11_kind_1
  exact ⟨rfl, rfl, rfl⟩

set_option maxHeartbeats 4000000 in
theorem xc_kind6 (lQ : Launch) (G : wm_G) (o d0 : Nat) (X : mm_S) (E : mm_E) (D : xg) (b : Int32) (hi : xb_in X b) : xw_Met lQ G o d0 yX12_kind (ws_ yX12_kind cX12_kind 1 (some .int)) 0 X E D [Value.ref (xb_ D b)] (some (.int (6))) X E := by
  refine xw_start (own := RX12) (by decide +kernel) (Nat.le_of_ble_eq_true rfl) rfl (fun pQ eQ sQ mQ belowQ methQ cQ hx hb hml hr hlocks hts hown hK hN H hW hS ls hl => ?_)
  have hl : lv_has ls 1 [(0, .ref (xb_ D b))] := hl
  generalize hlc : ([] : List Loc) = locs at hS ⊢
  refine lv_bipush (v := 6) hx hb dX12_kind_0 (by decide) ?_
  refine xw_iret hx hb hr hlocks hW hS ?_ dX12_kind_2
  exact ⟨rfl, rfl, rfl⟩

set_option maxHeartbeats 4000000 in
theorem xc_kind7 (lQ : Launch) (G : wm_G) (o d0 : Nat) (X : mm_S) (E : mm_E) (D : xg) (b : Int32) (hi : xb_in X b) : xw_Met lQ G o d0 yX13_kind (ws_ yX13_kind cX13_kind 1 (some .int)) 0 X E D [Value.ref (xb_ D b)] (some (.int (7))) X E := by
  refine xw_start (own := RX13) (by decide +kernel) (Nat.le_of_ble_eq_true rfl) rfl (fun pQ eQ sQ mQ belowQ methQ cQ hx hb hml hr hlocks hts hown hK hN H hW hS ls hl => ?_)
  have hl : lv_has ls 1 [(0, .ref (xb_ D b))] := hl
  generalize hlc : ([] : List Loc) = locs at hS ⊢
  refine lv_bipush (v := 7) hx hb dX13_kind_0 (by decide) ?_
  refine xw_iret hx hb hr hlocks hW hS ?_ dX13_kind_2
  exact ⟨rfl, rfl, rfl⟩

section XD2
variable {p : Program} {l : Launch} {e : Env} {R : Room} {s : State} {m : MethodId} {args : Array Value} {below : List Frame} {meth : Method} {c : Code} {H : Heap} {locs : List Loc} {cells slots : Nat} {Q : State → Prop}
variable {cc : ByteArray} {pc : Nat} {ls : Array Slot} {rest st0 : List Value} {G : wm_G} {o d0 : Nat} {H0 : Heap} {X : mm_S} {E : mm_E} {D : xg} {nL : Nat}
set_option maxHeartbeats 4000000 in
theorem xd_isThrough_X0 (l : Launch) (F : CallFix p m c cc nL s args lw_all RX0) (hK : wm_K G s) (hN : xn_T s) (hW : xx_W G o d0 X E D H) {b : Int32} (hi : xh_in X b) (hR : 1 ≤ R.frames ∧ 20 ≤ R.locals) (hsz : ls.size = nL) (hst : st0 = ([] : List Value).reverse ++ .ref (xb_ D b) :: rest) (hrest : (rest.map fun v => v.category).sum ≤ 8) (hd : decode cc pc = .ok (.invokevirtual 264, 3)) (hroom : cells ≤ R.cells ∧ slots ≤ R.slots) : xw_Run p l e R s m args below meth c H locs cells slots (F0 m pc ls st0) rest G o d0 D (some (.int (xf_isThrough X b))) X E := by
  have hlt := xq_lt hW hi.1
  have h2 := hi.2
  have hqs : xq X b = 2 ∨ xq X b = 3 ∨ xq X b = 4 ∨ xq X b = 5 := by omega
  rcases hqs with hq | hq | hq | hq
  · have hk : rd_ X 60 b = 2 := xb_k hW hi.1 hq
    exact xw_rU (C := RX8) (owner := RX8) (x := yX8_isThrough) (n := 0) F hK hN hW (xc_isThrough l G o d0 X E D b ⟨hi.1, by omega⟩) (lw_app (List.forall_mem_cons.mpr ⟨q761, List.forall_mem_cons.mpr ⟨q764, List.forall_mem_cons.mpr ⟨q763, List.forall_mem_cons.mpr ⟨q762, List.forall_mem_cons.mpr ⟨q95, fun _ h => absurd h List.not_mem_nil⟩⟩⟩⟩⟩) (lw_meth q768)) rfl (xr_body hK hW hi.1 hq) (by decide +kernel) rfl ⟨Nat.le_trans (by decide) hR.1, Nat.le_trans (by decide) hR.2⟩ hsz hst hrest hd hroom
  · have hk : rd_ X 60 b = 3 := xb_k hW hi.1 hq
    exact xw_rU (C := RX9) (owner := RX8) (x := yX8_isThrough) (n := 0) F hK hN hW (xc_isThrough l G o d0 X E D b ⟨hi.1, by omega⟩) (lw_app (List.forall_mem_cons.mpr ⟨q761, List.forall_mem_cons.mpr ⟨q764, List.forall_mem_cons.mpr ⟨q767, List.forall_mem_cons.mpr ⟨q762, List.forall_mem_cons.mpr ⟨q95, fun _ h => absurd h List.not_mem_nil⟩⟩⟩⟩⟩) (lw_meth q768)) rfl (xr_body hK hW hi.1 hq) (by decide +kernel) rfl ⟨Nat.le_trans (by decide) hR.1, Nat.le_trans (by decide) hR.2⟩ hsz hst hrest hd hroom
  · have hk : rd_ X 60 b = 4 := xb_k hW hi.1 hq
    exact xw_rU (C := RX10) (owner := RX8) (x := yX8_isThrough) (n := 0) F hK hN hW (xc_isThrough l G o d0 X E D b ⟨hi.1, by omega⟩) (lw_app (List.forall_mem_cons.mpr ⟨q761, List.forall_mem_cons.mpr ⟨q764, List.forall_mem_cons.mpr ⟨q766, List.forall_mem_cons.mpr ⟨q762, List.forall_mem_cons.mpr ⟨q95, fun _ h => absurd h List.not_mem_nil⟩⟩⟩⟩⟩) (lw_meth q768)) rfl (xr_body hK hW hi.1 hq) (by decide +kernel) rfl ⟨Nat.le_trans (by decide) hR.1, Nat.le_trans (by decide) hR.2⟩ hsz hst hrest hd hroom
  · have hk : rd_ X 60 b = 5 := xb_k hW hi.1 hq
    exact xw_rU (C := RX11) (owner := RX8) (x := yX8_isThrough) (n := 0) F hK hN hW (xc_isThrough l G o d0 X E D b ⟨hi.1, by omega⟩) (lw_app (List.forall_mem_cons.mpr ⟨q761, List.forall_mem_cons.mpr ⟨q764, List.forall_mem_cons.mpr ⟨q765, List.forall_mem_cons.mpr ⟨q762, List.forall_mem_cons.mpr ⟨q95, fun _ h => absurd h List.not_mem_nil⟩⟩⟩⟩⟩) (lw_meth q768)) rfl (xr_body hK hW hi.1 hq) (by decide +kernel) rfl ⟨Nat.le_trans (by decide) hR.1, Nat.le_trans (by decide) hR.2⟩ hsz hst hrest hd hroom

set_option maxHeartbeats 4000000 in
theorem xd_isThrough_X8 (l : Launch) (F : CallFix p m c cc nL s args lw_all RX8) (hK : wm_K G s) (hN : xn_T s) (hW : xx_W G o d0 X E D H) {b : Int32} (hi : xh_in X b) (hR : 1 ≤ R.frames ∧ 20 ≤ R.locals) (hsz : ls.size = nL) (hst : st0 = ([] : List Value).reverse ++ .ref (xb_ D b) :: rest) (hrest : (rest.map fun v => v.category).sum ≤ 8) (hd : decode cc pc = .ok (.invokevirtual 60, 3)) (hroom : cells ≤ R.cells ∧ slots ≤ R.slots) : xw_Run p l e R s m args below meth c H locs cells slots (F0 m pc ls st0) rest G o d0 D (some (.int (xf_isThrough X b))) X E := by
  have hlt := xq_lt hW hi.1
  have h2 := hi.2
  have hqs : xq X b = 2 ∨ xq X b = 3 ∨ xq X b = 4 ∨ xq X b = 5 := by omega
  rcases hqs with hq | hq | hq | hq
  · have hk : rd_ X 60 b = 2 := xb_k hW hi.1 hq
    exact xw_rU (C := RX8) (owner := RX8) (x := yX8_isThrough) (n := 0) F hK hN hW (xc_isThrough l G o d0 X E D b ⟨hi.1, by omega⟩) (lw_app (List.forall_mem_cons.mpr ⟨q1191, List.forall_mem_cons.mpr ⟨q764, List.forall_mem_cons.mpr ⟨q763, List.forall_mem_cons.mpr ⟨q762, List.forall_mem_cons.mpr ⟨q95, fun _ h => absurd h List.not_mem_nil⟩⟩⟩⟩⟩) (lw_meth q768)) rfl (xr_body hK hW hi.1 hq) (by decide +kernel) rfl ⟨Nat.le_trans (by decide) hR.1, Nat.le_trans (by decide) hR.2⟩ hsz hst hrest hd hroom
  · have hk : rd_ X 60 b = 3 := xb_k hW hi.1 hq
    exact xw_rU (C := RX9) (owner := RX8) (x := yX8_isThrough) (n := 0) F hK hN hW (xc_isThrough l G o d0 X E D b ⟨hi.1, by omega⟩) (lw_app (List.forall_mem_cons.mpr ⟨q1191, List.forall_mem_cons.mpr ⟨q764, List.forall_mem_cons.mpr ⟨q767, List.forall_mem_cons.mpr ⟨q762, List.forall_mem_cons.mpr ⟨q95, fun _ h => absurd h List.not_mem_nil⟩⟩⟩⟩⟩) (lw_meth q768)) rfl (xr_body hK hW hi.1 hq) (by decide +kernel) rfl ⟨Nat.le_trans (by decide) hR.1, Nat.le_trans (by decide) hR.2⟩ hsz hst hrest hd hroom
  · have hk : rd_ X 60 b = 4 := xb_k hW hi.1 hq
    exact xw_rU (C := RX10) (owner := RX8) (x := yX8_isThrough) (n := 0) F hK hN hW (xc_isThrough l G o d0 X E D b ⟨hi.1, by omega⟩) (lw_app (List.forall_mem_cons.mpr ⟨q1191, List.forall_mem_cons.mpr ⟨q764, List.forall_mem_cons.mpr ⟨q766, List.forall_mem_cons.mpr ⟨q762, List.forall_mem_cons.mpr ⟨q95, fun _ h => absurd h List.not_mem_nil⟩⟩⟩⟩⟩) (lw_meth q768)) rfl (xr_body hK hW hi.1 hq) (by decide +kernel) rfl ⟨Nat.le_trans (by decide) hR.1, Nat.le_trans (by decide) hR.2⟩ hsz hst hrest hd hroom
  · have hk : rd_ X 60 b = 5 := xb_k hW hi.1 hq
    exact xw_rU (C := RX11) (owner := RX8) (x := yX8_isThrough) (n := 0) F hK hN hW (xc_isThrough l G o d0 X E D b ⟨hi.1, by omega⟩) (lw_app (List.forall_mem_cons.mpr ⟨q1191, List.forall_mem_cons.mpr ⟨q764, List.forall_mem_cons.mpr ⟨q765, List.forall_mem_cons.mpr ⟨q762, List.forall_mem_cons.mpr ⟨q95, fun _ h => absurd h List.not_mem_nil⟩⟩⟩⟩⟩) (lw_meth q768)) rfl (xr_body hK hW hi.1 hq) (by decide +kernel) rfl ⟨Nat.le_trans (by decide) hR.1, Nat.le_trans (by decide) hR.2⟩ hsz hst hrest hd hroom

set_option maxHeartbeats 4000000 in
theorem xd_low_X0 (l : Launch) (F : CallFix p m c cc nL s args lw_all RX0) (hK : wm_K G s) (hN : xn_T s) (hW : xx_W G o d0 X E D H) {b : Int32} (hi : xh_in X b) (y : Int32) (q : Int32) (hy : vp_in y 61) (hR : 1 ≤ R.frames ∧ 22 ≤ R.locals) (hsz : ls.size = nL) (hst : st0 = ([.int y, .int q] : List Value).reverse ++ .ref (xb_ D b) :: rest) (hrest : (rest.map fun v => v.category).sum ≤ 8) (hd : decode cc pc = .ok (.invokevirtual 365, 3)) (hroom : cells ≤ R.cells ∧ slots ≤ R.slots) : xw_Run p l e R s m args below meth c H locs cells slots (F0 m pc ls st0) rest G o d0 D (some (.int (xf_low X b y q))) X E := by
  have hlt := xq_lt hW hi.1
  have h2 := hi.2
  have hqs : xq X b = 2 ∨ xq X b = 3 ∨ xq X b = 4 ∨ xq X b = 5 := by omega
  rcases hqs with hq | hq | hq | hq
  · have hk : rd_ X 60 b = 2 := xb_k hW hi.1 hq
    exact xw_rU (C := RX8) (owner := RX8) (x := yX8_low) (n := 2) F hK hN hW (xc_low l G o d0 X E D b ⟨hi.1, by omega⟩ y q hy) (lw_app (List.forall_mem_cons.mpr ⟨q838, List.forall_mem_cons.mpr ⟨q841, List.forall_mem_cons.mpr ⟨q840, List.forall_mem_cons.mpr ⟨q839, List.forall_mem_cons.mpr ⟨q95, fun _ h => absurd h List.not_mem_nil⟩⟩⟩⟩⟩) (lw_meth q845)) rfl (xr_body hK hW hi.1 hq) (by decide +kernel) rfl ⟨Nat.le_trans (by decide) hR.1, Nat.le_trans (by decide) hR.2⟩ hsz hst hrest hd hroom
  · have hk : rd_ X 60 b = 3 := xb_k hW hi.1 hq
    exact xw_rU (C := RX9) (owner := RX8) (x := yX8_low) (n := 2) F hK hN hW (xc_low l G o d0 X E D b ⟨hi.1, by omega⟩ y q hy) (lw_app (List.forall_mem_cons.mpr ⟨q838, List.forall_mem_cons.mpr ⟨q841, List.forall_mem_cons.mpr ⟨q844, List.forall_mem_cons.mpr ⟨q839, List.forall_mem_cons.mpr ⟨q95, fun _ h => absurd h List.not_mem_nil⟩⟩⟩⟩⟩) (lw_meth q845)) rfl (xr_body hK hW hi.1 hq) (by decide +kernel) rfl ⟨Nat.le_trans (by decide) hR.1, Nat.le_trans (by decide) hR.2⟩ hsz hst hrest hd hroom
  · have hk : rd_ X 60 b = 4 := xb_k hW hi.1 hq
    exact xw_rU (C := RX10) (owner := RX8) (x := yX8_low) (n := 2) F hK hN hW (xc_low l G o d0 X E D b ⟨hi.1, by omega⟩ y q hy) (lw_app (List.forall_mem_cons.mpr ⟨q838, List.forall_mem_cons.mpr ⟨q841, List.forall_mem_cons.mpr ⟨q843, List.forall_mem_cons.mpr ⟨q839, List.forall_mem_cons.mpr ⟨q95, fun _ h => absurd h List.not_mem_nil⟩⟩⟩⟩⟩) (lw_meth q845)) rfl (xr_body hK hW hi.1 hq) (by decide +kernel) rfl ⟨Nat.le_trans (by decide) hR.1, Nat.le_trans (by decide) hR.2⟩ hsz hst hrest hd hroom
  · have hk : rd_ X 60 b = 5 := xb_k hW hi.1 hq
    exact xw_rU (C := RX11) (owner := RX8) (x := yX8_low) (n := 2) F hK hN hW (xc_low l G o d0 X E D b ⟨hi.1, by omega⟩ y q hy) (lw_app (List.forall_mem_cons.mpr ⟨q838, List.forall_mem_cons.mpr ⟨q841, List.forall_mem_cons.mpr ⟨q842, List.forall_mem_cons.mpr ⟨q839, List.forall_mem_cons.mpr ⟨q95, fun _ h => absurd h List.not_mem_nil⟩⟩⟩⟩⟩) (lw_meth q845)) rfl (xr_body hK hW hi.1 hq) (by decide +kernel) rfl ⟨Nat.le_trans (by decide) hR.1, Nat.le_trans (by decide) hR.2⟩ hsz hst hrest hd hroom

set_option maxHeartbeats 4000000 in
theorem xd_high_X0 (l : Launch) (F : CallFix p m c cc nL s args lw_all RX0) (hK : wm_K G s) (hN : xn_T s) (hW : xx_W G o d0 X E D H) {b : Int32} (hi : xh_in X b) (y : Int32) (q : Int32) (hy : vp_in y 61) (hR : 1 ≤ R.frames ∧ 22 ≤ R.locals) (hsz : ls.size = nL) (hst : st0 = ([.int y, .int q] : List Value).reverse ++ .ref (xb_ D b) :: rest) (hrest : (rest.map fun v => v.category).sum ≤ 8) (hd : decode cc pc = .ok (.invokevirtual 368, 3)) (hroom : cells ≤ R.cells ∧ slots ≤ R.slots) : xw_Run p l e R s m args below meth c H locs cells slots (F0 m pc ls st0) rest G o d0 D (some (.int (xf_high X b y q))) X E := by
  have hlt := xq_lt hW hi.1
  have h2 := hi.2
  have hqs : xq X b = 2 ∨ xq X b = 3 ∨ xq X b = 4 ∨ xq X b = 5 := by omega
  rcases hqs with hq | hq | hq | hq
  · have hk : rd_ X 60 b = 2 := xb_k hW hi.1 hq
    exact xw_rU (C := RX8) (owner := RX8) (x := yX8_high) (n := 2) F hK hN hW (xc_high l G o d0 X E D b ⟨hi.1, by omega⟩ y q hy) (lw_app (List.forall_mem_cons.mpr ⟨q846, List.forall_mem_cons.mpr ⟨q849, List.forall_mem_cons.mpr ⟨q848, List.forall_mem_cons.mpr ⟨q847, List.forall_mem_cons.mpr ⟨q95, fun _ h => absurd h List.not_mem_nil⟩⟩⟩⟩⟩) (lw_meth q853)) rfl (xr_body hK hW hi.1 hq) (by decide +kernel) rfl ⟨Nat.le_trans (by decide) hR.1, Nat.le_trans (by decide) hR.2⟩ hsz hst hrest hd hroom
  · have hk : rd_ X 60 b = 3 := xb_k hW hi.1 hq
    exact xw_rU (C := RX9) (owner := RX8) (x := yX8_high) (n := 2) F hK hN hW (xc_high l G o d0 X E D b ⟨hi.1, by omega⟩ y q hy) (lw_app (List.forall_mem_cons.mpr ⟨q846, List.forall_mem_cons.mpr ⟨q849, List.forall_mem_cons.mpr ⟨q852, List.forall_mem_cons.mpr ⟨q847, List.forall_mem_cons.mpr ⟨q95, fun _ h => absurd h List.not_mem_nil⟩⟩⟩⟩⟩) (lw_meth q853)) rfl (xr_body hK hW hi.1 hq) (by decide +kernel) rfl ⟨Nat.le_trans (by decide) hR.1, Nat.le_trans (by decide) hR.2⟩ hsz hst hrest hd hroom
  · have hk : rd_ X 60 b = 4 := xb_k hW hi.1 hq
    exact xw_rU (C := RX10) (owner := RX8) (x := yX8_high) (n := 2) F hK hN hW (xc_high l G o d0 X E D b ⟨hi.1, by omega⟩ y q hy) (lw_app (List.forall_mem_cons.mpr ⟨q846, List.forall_mem_cons.mpr ⟨q849, List.forall_mem_cons.mpr ⟨q851, List.forall_mem_cons.mpr ⟨q847, List.forall_mem_cons.mpr ⟨q95, fun _ h => absurd h List.not_mem_nil⟩⟩⟩⟩⟩) (lw_meth q853)) rfl (xr_body hK hW hi.1 hq) (by decide +kernel) rfl ⟨Nat.le_trans (by decide) hR.1, Nat.le_trans (by decide) hR.2⟩ hsz hst hrest hd hroom
  · have hk : rd_ X 60 b = 5 := xb_k hW hi.1 hq
    exact xw_rU (C := RX11) (owner := RX8) (x := yX8_high) (n := 2) F hK hN hW (xc_high l G o d0 X E D b ⟨hi.1, by omega⟩ y q hy) (lw_app (List.forall_mem_cons.mpr ⟨q846, List.forall_mem_cons.mpr ⟨q849, List.forall_mem_cons.mpr ⟨q850, List.forall_mem_cons.mpr ⟨q847, List.forall_mem_cons.mpr ⟨q95, fun _ h => absurd h List.not_mem_nil⟩⟩⟩⟩⟩) (lw_meth q853)) rfl (xr_body hK hW hi.1 hq) (by decide +kernel) rfl ⟨Nat.le_trans (by decide) hR.1, Nat.le_trans (by decide) hR.2⟩ hsz hst hrest hd hroom

set_option maxHeartbeats 4000000 in
theorem xd_kind_X0 (l : Launch) (F : CallFix p m c cc nL s args lw_all RX0) (hK : wm_K G s) (hN : xn_T s) (hW : xx_W G o d0 X E D H) {b : Int32} (hi : xb_in X b) (hR : 1 ≤ R.frames ∧ 20 ≤ R.locals) (hsz : ls.size = nL) (hst : st0 = ([] : List Value).reverse ++ .ref (xb_ D b) :: rest) (hrest : (rest.map fun v => v.category).sum ≤ 8) (hd : decode cc pc = .ok (.invokevirtual 279, 3)) (hroom : cells ≤ R.cells ∧ slots ≤ R.slots) : xw_Run p l e R s m args below meth c H locs cells slots (F0 m pc ls st0) rest G o d0 D (some (.int (rd_ X 60 b))) X E := by
  have hlt := xq_lt hW hi
  have hqs : xq X b = 0 ∨ xq X b = 1 ∨ xq X b = 2 ∨ xq X b = 3 ∨ xq X b = 4 ∨ xq X b = 5 ∨ xq X b = 6 ∨ xq X b = 7 := by omega
  rcases hqs with hq | hq | hq | hq | hq | hq | hq | hq
  · have hk : rd_ X 60 b = 0 := xb_k hW hi hq
    rw [hk]
    exact xw_rU (C := RX6) (owner := RX6) (x := yX6_kind) (n := 0) F hK hN hW (xc_kind0 l G o d0 X E D b hi) (lw_app (List.forall_mem_cons.mpr ⟨q728, List.forall_mem_cons.mpr ⟨q731, List.forall_mem_cons.mpr ⟨q730, List.forall_mem_cons.mpr ⟨q729, List.forall_mem_cons.mpr ⟨q93, fun _ h => absurd h List.not_mem_nil⟩⟩⟩⟩⟩) (lw_meth q753)) rfl (xr_body hK hW hi hq) (by decide +kernel) rfl ⟨Nat.le_trans (by decide) hR.1, Nat.le_trans (by decide) hR.2⟩ hsz hst hrest hd hroom
  · have hk : rd_ X 60 b = 1 := xb_k hW hi hq
    rw [hk]
    exact xw_rO (C := RX7) (owner := RX6) (x := yX6_kind) (n := 0) F hK hN hW (xc_kind1 l G o d0 X E D b hi) (lw_app (List.forall_mem_cons.mpr ⟨q728, List.forall_mem_cons.mpr ⟨q731, List.forall_mem_cons.mpr ⟨q729, List.forall_mem_cons.mpr ⟨q750, List.forall_mem_cons.mpr ⟨q751, List.forall_mem_cons.mpr ⟨q94, fun _ h => absurd h List.not_mem_nil⟩⟩⟩⟩⟩⟩) (lw_meth q752)) q753 (xr_body hK hW hi hq) (by decide +kernel) rfl ⟨Nat.le_trans (by decide) hR.1, Nat.le_trans (by decide) hR.2⟩ hsz hst hrest hd hroom
  · have hk : rd_ X 60 b = 2 := xb_k hW hi hq
    rw [hk]
    exact xw_rO (C := RX8) (owner := RX6) (x := yX6_kind) (n := 0) F hK hN hW (xc_kind2 l G o d0 X E D b hi) (lw_app (List.forall_mem_cons.mpr ⟨q728, List.forall_mem_cons.mpr ⟨q731, List.forall_mem_cons.mpr ⟨q729, List.forall_mem_cons.mpr ⟨q732, List.forall_mem_cons.mpr ⟨q733, List.forall_mem_cons.mpr ⟨q95, fun _ h => absurd h List.not_mem_nil⟩⟩⟩⟩⟩⟩) (lw_meth q734)) q753 (xr_body hK hW hi hq) (by decide +kernel) rfl ⟨Nat.le_trans (by decide) hR.1, Nat.le_trans (by decide) hR.2⟩ hsz hst hrest hd hroom
  · have hk : rd_ X 60 b = 3 := xb_k hW hi hq
    rw [hk]
    exact xw_rO (C := RX9) (owner := RX6) (x := yX6_kind) (n := 0) F hK hN hW (xc_kind3 l G o d0 X E D b hi) (lw_app (List.forall_mem_cons.mpr ⟨q728, List.forall_mem_cons.mpr ⟨q731, List.forall_mem_cons.mpr ⟨q729, List.forall_mem_cons.mpr ⟨q747, List.forall_mem_cons.mpr ⟨q748, List.forall_mem_cons.mpr ⟨q96, fun _ h => absurd h List.not_mem_nil⟩⟩⟩⟩⟩⟩) (lw_meth q749)) q753 (xr_body hK hW hi hq) (by decide +kernel) rfl ⟨Nat.le_trans (by decide) hR.1, Nat.le_trans (by decide) hR.2⟩ hsz hst hrest hd hroom
  · have hk : rd_ X 60 b = 4 := xb_k hW hi hq
    rw [hk]
    exact xw_rO (C := RX10) (owner := RX6) (x := yX6_kind) (n := 0) F hK hN hW (xc_kind4 l G o d0 X E D b hi) (lw_app (List.forall_mem_cons.mpr ⟨q728, List.forall_mem_cons.mpr ⟨q731, List.forall_mem_cons.mpr ⟨q729, List.forall_mem_cons.mpr ⟨q741, List.forall_mem_cons.mpr ⟨q742, List.forall_mem_cons.mpr ⟨q97, fun _ h => absurd h List.not_mem_nil⟩⟩⟩⟩⟩⟩) (lw_meth q743)) q753 (xr_body hK hW hi hq) (by decide +kernel) rfl ⟨Nat.le_trans (by decide) hR.1, Nat.le_trans (by decide) hR.2⟩ hsz hst hrest hd hroom
  · have hk : rd_ X 60 b = 5 := xb_k hW hi hq
    rw [hk]
    exact xw_rO (C := RX11) (owner := RX6) (x := yX6_kind) (n := 0) F hK hN hW (xc_kind5 l G o d0 X E D b hi) (lw_app (List.forall_mem_cons.mpr ⟨q728, List.forall_mem_cons.mpr ⟨q731, List.forall_mem_cons.mpr ⟨q729, List.forall_mem_cons.mpr ⟨q735, List.forall_mem_cons.mpr ⟨q736, List.forall_mem_cons.mpr ⟨q98, fun _ h => absurd h List.not_mem_nil⟩⟩⟩⟩⟩⟩) (lw_meth q737)) q753 (xr_body hK hW hi hq) (by decide +kernel) rfl ⟨Nat.le_trans (by decide) hR.1, Nat.le_trans (by decide) hR.2⟩ hsz hst hrest hd hroom
  · have hk : rd_ X 60 b = 6 := xb_k hW hi hq
    rw [hk]
    exact xw_rO (C := RX12) (owner := RX6) (x := yX6_kind) (n := 0) F hK hN hW (xc_kind6 l G o d0 X E D b hi) (lw_app (List.forall_mem_cons.mpr ⟨q728, List.forall_mem_cons.mpr ⟨q731, List.forall_mem_cons.mpr ⟨q729, List.forall_mem_cons.mpr ⟨q744, List.forall_mem_cons.mpr ⟨q745, List.forall_mem_cons.mpr ⟨q99, fun _ h => absurd h List.not_mem_nil⟩⟩⟩⟩⟩⟩) (lw_meth q746)) q753 (xr_body hK hW hi hq) (by decide +kernel) rfl ⟨Nat.le_trans (by decide) hR.1, Nat.le_trans (by decide) hR.2⟩ hsz hst hrest hd hroom
  · have hk : rd_ X 60 b = 7 := xb_k hW hi hq
    rw [hk]
    exact xw_rO (C := RX13) (owner := RX6) (x := yX6_kind) (n := 0) F hK hN hW (xc_kind7 l G o d0 X E D b hi) (lw_app (List.forall_mem_cons.mpr ⟨q728, List.forall_mem_cons.mpr ⟨q731, List.forall_mem_cons.mpr ⟨q729, List.forall_mem_cons.mpr ⟨q738, List.forall_mem_cons.mpr ⟨q739, List.forall_mem_cons.mpr ⟨q100, fun _ h => absurd h List.not_mem_nil⟩⟩⟩⟩⟩⟩) (lw_meth q740)) q753 (xr_body hK hW hi hq) (by decide +kernel) rfl ⟨Nat.le_trans (by decide) hR.1, Nat.le_trans (by decide) hR.2⟩ hsz hst hrest hd hroom

end XD2