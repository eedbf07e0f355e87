set_option maxHeartbeats 4000000 in
theorem mc_in (lQ : Launch) (v : Int32) (a : Int32) (b : Int32) : pp_Met lQ yX5_in (ws_ yX5_in cX5_in 3 (some .boolean)) 0 [.int v, .int a, .int b] (some (.int (ff_in v a b))) := by
  refine pp_start (own := RX5) (by decide +kernel) (Nat.le_of_ble_eq_true rfl) rfl (fun pQ eQ sQ mQ belowQ methQ cQ hx hb hml hr hlocks hts hown ls hl => ?_)
  have hl : lv_has ls 3 [(0, .int v), (1, .int a), (2, .int b)] := hl
  refine lv_iload_n hx hb dX5_in_0 rfl (lv_at hl 0 rfl) ?_
  refine lv_iload_n hx hb dX5_in_1 rfl (lv_at hl 1 rfl) ?_
  refine lv_icmp_lt (tgt := 14) hx hb dX5_in_2 (by decide) (fun c2 => ?_) (fun c2 => ?_)
  · have t2 : (v).toInt < (a).toInt := ww_lt c2
    refine lv_iconst (v := 0) hx hb dX5_in_14 (by decide) ?_
    refine pp_zret hx hb hr hlocks rfl ?_ dX5_in_15
    have hres : ff_in v a b = 0 := by simp only [ff_in, if_pos c2]
    rw [hres]
  · have t2 : (a).toInt ≤ (v).toInt := ww_nlt c2
    refine lv_iload_n hx hb dX5_in_5 rfl (lv_at hl 0 rfl) ?_
    refine lv_iload_n hx hb dX5_in_6 rfl (lv_at hl 2 rfl) ?_
    refine lv_icmp_gt (tgt := 14) hx hb dX5_in_7 (by decide) (fun c7 => ?_) (fun c7 => ?_)
    · have t7 : (b).toInt < (v).toInt := ww_lt c7
      refine lv_iconst (v := 0) hx hb dX5_in_14 (by decide) ?_
      refine pp_zret hx hb hr hlocks rfl ?_ dX5_in_15
      have hres : ff_in v a b = 0 := by simp only [ff_in, if_neg c2, if_pos c7]
      rw [hres]
    · have t7 : (v).toInt ≤ (b).toInt := ww_nlt c7
      refine lv_iconst (v := 1) hx hb dX5_in_10 (by decide) ?_
      refine lv_goto (tgt := 15) hx hb dX5_in_11 (by decide) ?_
      refine pp_zret hx hb hr hlocks rfl ?_ dX5_in_15
      have hres : ff_in v a b = 1 := by simp only [ff_in, if_neg c2, if_neg c7]
      rw [hres]

set_option maxHeartbeats 4000000 in
theorem mc_isHour (lQ : Launch) (h : Int32) : pp_Met lQ yX5_isHour (ws_ yX5_isHour cX5_isHour 1 (some .boolean)) 1 [.int h] (some (.int (ff_isHour h))) := by
  refine pp_start (own := RX5) (by decide +kernel) (Nat.le_of_ble_eq_true rfl) rfl (fun pQ eQ sQ mQ belowQ methQ cQ hx hb hml hr hlocks hts hown ls hl => ?_)
  have hl : lv_has ls 1 [(0, .int h)] := hl
  refine lv_iload_n hx hb dX5_isHour_0 rfl (lv_at hl 0 rfl) ?_
  refine lv_iconst (v := 0) hx hb dX5_isHour_1 (by decide) ?_
  refine lv_sipush (v := 1699) hx hb dX5_isHour_2 (by decide) ?_
  refine pp_calli (As := [.int h, .int 0, .int 1699]) (rest := []) (n := 3) ⟨hx, hb, hml, hown, hts⟩ (mc_in lQ h 0 1699) (lw_S q1979 q1980 q92 q1981) (by decide +kernel) rfl ⟨Nat.le_of_ble_eq_true rfl, Nat.le_of_ble_eq_true rfl⟩ hl.1 rfl (Nat.le_of_ble_eq_true rfl) dX5_isHour_5 ⟨Nat.le_of_ble_eq_true rfl, Nat.le_of_ble_eq_true rfl⟩ (fun v5 e5 => ?_)
  refine pp_zret hx hb hr hlocks (by rw [e5]; exact nz_ (ff_in_b _ _ _)) ?_ dX5_isHour_8
  have hres : ff_isHour h = v5 := by subst e5; simp only [ff_isHour]
  rw [hres]

set_option maxHeartbeats 4000000 in
theorem mc_held (lQ : Launch) (v : Int32) (a : Int32) (b : Int32) : pp_Met lQ yX5_held (ws_ yX5_held cX5_held 3 (some .int)) 0 [.int v, .int a, .int b] (some (.int (ff_held v a b))) := by
  refine pp_start (own := RX5) (by decide +kernel) (Nat.le_of_ble_eq_true rfl) rfl (fun pQ eQ sQ mQ belowQ methQ cQ hx hb hml hr hlocks hts hown ls hl => ?_)
  have hl : lv_has ls 3 [(0, .int v), (1, .int a), (2, .int b)] := hl
  refine lv_iload_n hx hb dX5_held_0 rfl (lv_at hl 0 rfl) ?_
  refine lv_iload_n hx hb dX5_held_1 rfl (lv_at hl 1 rfl) ?_
  refine lv_icmp_ge (tgt := 9) hx hb dX5_held_2 (by decide) (fun c2 => ?_) (fun c2 => ?_)
  · have t2 : (a).toInt ≤ (v).toInt := ww_le c2
    refine lv_iload_n hx hb dX5_held_9 rfl (lv_at hl 0 rfl) ?_
    refine lv_iload_n hx hb dX5_held_10 rfl (lv_at hl 2 rfl) ?_
    refine lv_icmp_le (tgt := 18) hx hb dX5_held_11 (by decide) (fun c11 => ?_) (fun c11 => ?_)
    · have t11 : (v).toInt ≤ (b).toInt := ww_le c11
      refine lv_iload_n hx hb dX5_held_18 rfl (lv_at hl 0 rfl) ?_
      refine pp_iret hx hb hr hlocks ?_ dX5_held_19
      have hres : ff_held v a b = v := by simp only [ff_held, if_pos c2, if_pos c11]
      rw [hres]
    · have t11 : (b).toInt < (v).toInt := ww_nle c11
      refine lv_iload_n hx hb dX5_held_14 rfl (lv_at hl 2 rfl) ?_
      refine lv_goto (tgt := 19) hx hb dX5_held_15 (by decide) ?_
      refine pp_iret hx hb hr hlocks ?_ dX5_held_19
      have hres : ff_held v a b = b := by simp only [ff_held, if_pos c2, if_neg c11]
      rw [hres]
  · have t2 : (v).toInt < (a).toInt := ww_nle c2
    refine lv_iload_n hx hb dX5_held_5 rfl (lv_at hl 1 rfl) ?_
    refine lv_goto (tgt := 19) hx hb dX5_held_6 (by decide) ?_
    refine pp_iret hx hb hr hlocks ?_ dX5_held_19
    have hres : ff_held v a b = a := by simp only [ff_held, if_neg c2]
    rw [hres]

set_option maxHeartbeats 4000000 in
theorem mc_isCell (lQ : Launch) (c : Int32) : pp_Met lQ yX5_isCell (ws_ yX5_isCell cX5_isCell 1 (some .boolean)) 1 [.int c] (some (.int (ff_isCell c))) := by
  refine pp_start (own := RX5) (by decide +kernel) (Nat.le_of_ble_eq_true rfl) rfl (fun pQ eQ sQ mQ belowQ methQ cQ hx hb hml hr hlocks hts hown ls hl => ?_)
  have hl : lv_has ls 1 [(0, .int c)] := hl
  refine lv_iload_n hx hb dX5_isCell_0 rfl (lv_at hl 0 rfl) ?_
  refine lv_if_lt (tgt := 30) hx hb dX5_isCell_1 (by decide) (fun c1 => ?_) (fun c1 => ?_)
  · have t1 : (c).toInt < 0 := ww_lt c1
    refine lv_iconst (v := 0) hx hb dX5_isCell_30 (by decide) ?_
    refine pp_zret hx hb hr hlocks rfl ?_ dX5_isCell_31
    have hres : ff_isCell c = 0 := by simp only [ff_isCell, if_pos c1]
    rw [hres]
  · have t1 : 0 ≤ (c).toInt := ww_nlt c1
    refine lv_iload_n hx hb dX5_isCell_4 rfl (lv_at hl 0 rfl) ?_
    refine lv_bipush (v := 100) hx hb dX5_isCell_5 (by decide) ?_
    refine nv_idiv hx hb dX5_isCell_7 (by decide) (fun v7 e7 => ?_)
    refine lv_bipush (v := 32) hx hb dX5_isCell_8 (by decide) ?_
    refine lv_icmp_ge (tgt := 30) hx hb dX5_isCell_10 (by decide) (fun c10 => ?_) (fun c10 => ?_)
    · have t10 : 32 ≤ (v7).toInt := ww_le c10
      refine lv_iconst (v := 0) hx hb dX5_isCell_30 (by decide) ?_
      refine pp_zret hx hb hr hlocks rfl ?_ dX5_isCell_31
      have hres : ff_isCell c = 0 := by subst e7; simp only [ff_isCell, if_neg c1, if_pos c10]
      rw [hres]
    · have t10 : (v7).toInt < 32 := ww_nle c10
      refine lv_iload_n hx hb dX5_isCell_13 rfl (lv_at hl 0 rfl) ?_
      refine lv_bipush (v := 100) hx hb dX5_isCell_14 (by decide) ?_
      refine nv_irem hx hb dX5_isCell_16 (by decide) (fun v16 e16 => ?_)
      refine lv_iconst (v := 1) hx hb dX5_isCell_17 (by decide) ?_
      refine lv_bipush (v := 60) hx hb dX5_isCell_18 (by decide) ?_
      refine pp_calli (As := [.int v16, .int 1, .int 60]) (rest := []) (n := 3) ⟨hx, hb, hml, hown, hts⟩ (mc_in lQ v16 1 60) (lw_S q1979 q1980 q92 q1981) (by decide +kernel) rfl ⟨Nat.le_of_ble_eq_true rfl, Nat.le_of_ble_eq_true rfl⟩ hl.1 rfl (Nat.le_of_ble_eq_true rfl) dX5_isCell_20 ⟨Nat.le_of_ble_eq_true rfl, Nat.le_of_ble_eq_true rfl⟩ (fun v20 e20 => ?_)
      refine lv_if_eq (tgt := 30) hx hb dX5_isCell_23 (by decide) (fun c23 => ?_) (fun c23 => ?_)
      · skip
        refine lv_iconst (v := 0) hx hb dX5_isCell_30 (by decide) ?_
        refine pp_zret hx hb hr hlocks rfl ?_ dX5_isCell_31
        have hres : ff_isCell c = 0 := by subst e7 e16 e20; simp only [ff_isCell, if_neg c1, if_neg c10, if_pos c23]
        rw [hres]
      · skip
        refine lv_iconst (v := 1) hx hb dX5_isCell_26 (by decide) ?_
        refine lv_goto (tgt := 31) hx hb dX5_isCell_27 (by decide) ?_
        refine pp_zret hx hb hr hlocks rfl ?_ dX5_isCell_31
        have hres : ff_isCell c = 1 := by subst e7 e16 e20; simp only [ff_isCell, if_neg c1, if_neg c10, if_neg c23]
        rw [hres]

set_option maxHeartbeats 4000000 in
theorem mc_placeOf (lQ : Launch) (c : Int32) : pp_Met lQ yX5_placeOf (ws_ yX5_placeOf cX5_placeOf 1 (some .int)) 0 [.int c] (some (.int (ff_placeOf c))) := by
  refine pp_start (own := RX5) (by decide +kernel) (Nat.le_of_ble_eq_true rfl) rfl (fun pQ eQ sQ mQ belowQ methQ cQ hx hb hml hr hlocks hts hown ls hl => ?_)
  have hl : lv_has ls 1 [(0, .int c)] := hl
  refine lv_bipush (v := 61) hx hb dX5_placeOf_0 (by decide) ?_
  refine lv_iload_n hx hb dX5_placeOf_2 rfl (lv_at hl 0 rfl) ?_
  refine lv_bipush (v := 100) hx hb dX5_placeOf_3 (by decide) ?_
  refine nv_idiv hx hb dX5_placeOf_5 (by decide) (fun v5 e5 => ?_)
  refine nv_imul hx hb dX5_placeOf_6 (fun v6 e6 => ?_)
  refine lv_iload_n hx hb dX5_placeOf_7 rfl (lv_at hl 0 rfl) ?_
  refine lv_bipush (v := 100) hx hb dX5_placeOf_8 (by decide) ?_
  refine nv_irem hx hb dX5_placeOf_10 (by decide) (fun v10 e10 => ?_)
  refine nv_iadd hx hb dX5_placeOf_11 (fun v11 e11 => ?_)
  refine pp_iret hx hb hr hlocks ?_ dX5_placeOf_12
  have hres : ff_placeOf c = v11 := by subst e5 e6 e10 e11; simp only [ff_placeOf]
  rw [hres]

set_option maxHeartbeats 4000000 in
theorem mc_isUnder (lQ : Launch) (k : Int32) (a : Int32) : pp_Met lQ yX5_isUnder (ws_ yX5_isUnder cX5_isUnder 2 (some .boolean)) 0 [.int k, .int a] (some (.int (ff_isUnder k a))) := by
  refine pp_start (own := RX5) (by decide +kernel) (Nat.le_of_ble_eq_true rfl) rfl (fun pQ eQ sQ mQ belowQ methQ cQ hx hb hml hr hlocks hts hown ls hl => ?_)
  have hl : lv_has ls 2 [(0, .int k), (1, .int a)] := hl
  refine lv_iload_n hx hb dX5_isUnder_0 rfl (lv_at hl 1 rfl) ?_
  refine lv_if_eq (tgt := 9) hx hb dX5_isUnder_1 (by decide) (fun c1 => ?_) (fun c1 => ?_)
  · skip
    refine lv_iconst (v := 1) hx hb dX5_isUnder_9 (by decide) ?_
    refine pp_zret hx hb hr hlocks rfl ?_ dX5_isUnder_10
    have hres : ff_isUnder k a = 1 := by simp only [ff_isUnder, if_pos c1]
    rw [hres]
  · skip
    refine lv_iload_n hx hb dX5_isUnder_4 rfl (lv_at hl 0 rfl) ?_
    refine lv_iload_n hx hb dX5_isUnder_5 rfl (lv_at hl 1 rfl) ?_
    refine lv_icmp_ne (tgt := 11) hx hb dX5_isUnder_6 (by decide) (fun c6 => ?_) (fun c6 => ?_)
    · skip
      refine lv_iload_n hx hb dX5_isUnder_11 rfl (lv_at hl 1 rfl) ?_
      refine lv_iconst (v := 1) hx hb dX5_isUnder_12 (by decide) ?_
      refine lv_icmp_ne (tgt := 48) hx hb dX5_isUnder_13 (by decide) (fun c13 => ?_) (fun c13 => ?_)
      · skip
        refine lv_iload_n hx hb dX5_isUnder_48 rfl (lv_at hl 1 rfl) ?_
        refine lv_iconst (v := 2) hx hb dX5_isUnder_49 (by decide) ?_
        refine lv_icmp_ne (tgt := 74) hx hb dX5_isUnder_50 (by decide) (fun c50 => ?_) (fun c50 => ?_)
        · skip
          refine lv_iload_n hx hb dX5_isUnder_74 rfl (lv_at hl 1 rfl) ?_
          refine lv_iconst (v := 4) hx hb dX5_isUnder_75 (by decide) ?_
          refine lv_icmp_ne (tgt := 88) hx hb dX5_isUnder_76 (by decide) (fun c76 => ?_) (fun c76 => ?_)
          · skip
            refine lv_iconst (v := 0) hx hb dX5_isUnder_88 (by decide) ?_
            refine pp_zret hx hb hr hlocks rfl ?_ dX5_isUnder_89
            have hres : ff_isUnder k a = 0 := by simp only [ff_isUnder, if_neg c1, if_neg c6, if_neg c13, if_neg c50, if_neg c76]
            rw [hres]
          · skip
            refine lv_iload_n hx hb dX5_isUnder_79 rfl (lv_at hl 0 rfl) ?_
            refine lv_iconst (v := 5) hx hb dX5_isUnder_80 (by decide) ?_
            refine lv_icmp_ne (tgt := 88) hx hb dX5_isUnder_81 (by decide) (fun c81 => ?_) (fun c81 => ?_)
            · skip
              refine lv_iconst (v := 0) hx hb dX5_isUnder_88 (by decide) ?_
              refine pp_zret hx hb hr hlocks rfl ?_ dX5_isUnder_89
              have hres : ff_isUnder k a = 0 := by simp only [ff_isUnder, if_neg c1, if_neg c6, if_neg c13, if_neg c50, if_pos c76, if_neg c81]
              rw [hres]
            · skip
              refine lv_iconst (v := 1) hx hb dX5_isUnder_84 (by decide) ?_
              refine lv_goto (tgt := 89) hx hb dX5_isUnder_85 (by decide) ?_
              refine pp_zret hx hb hr hlocks rfl ?_ dX5_isUnder_89
              have hres : ff_isUnder k a = 1 := by simp only [ff_isUnder, if_neg c1, if_neg c6, if_neg c13, if_neg c50, if_pos c76, if_pos c81]
              rw [hres]
        · skip
          refine lv_iload_n hx hb dX5_isUnder_53 rfl (lv_at hl 0 rfl) ?_
          refine lv_iconst (v := 3) hx hb dX5_isUnder_54 (by decide) ?_
          refine lv_icmp_eq (tgt := 68) hx hb dX5_isUnder_55 (by decide) (fun c55 => ?_) (fun c55 => ?_)
          · skip
            refine lv_iconst (v := 1) hx hb dX5_isUnder_68 (by decide) ?_
            refine lv_goto (tgt := 73) hx hb dX5_isUnder_69 (by decide) ?_
            refine pp_zret hx hb hr hlocks rfl ?_ dX5_isUnder_73
            have hres : ff_isUnder k a = 1 := by simp only [ff_isUnder, if_neg c1, if_neg c6, if_neg c13, if_pos c50, if_pos c55]
            rw [hres]
          · skip
            refine lv_iload_n hx hb dX5_isUnder_58 rfl (lv_at hl 0 rfl) ?_
            refine lv_iconst (v := 4) hx hb dX5_isUnder_59 (by decide) ?_
            refine lv_icmp_eq (tgt := 68) hx hb dX5_isUnder_60 (by decide) (fun c60 => ?_) (fun c60 => ?_)
            · skip
              refine lv_iconst (v := 1) hx hb dX5_isUnder_68 (by decide) ?_
              refine lv_goto (tgt := 73) hx hb dX5_isUnder_69 (by decide) ?_
              refine pp_zret hx hb hr hlocks rfl ?_ dX5_isUnder_73
              have hres : ff_isUnder k a = 1 := by simp only [ff_isUnder, if_neg c1, if_neg c6, if_neg c13, if_pos c50, if_neg c55, if_pos c60]
              rw [hres]
            · skip
              refine lv_iload_n hx hb dX5_isUnder_63 rfl (lv_at hl 0 rfl) ?_
              refine lv_iconst (v := 5) hx hb dX5_isUnder_64 (by decide) ?_
              refine lv_icmp_ne (tgt := 72) hx hb dX5_isUnder_65 (by decide) (fun c65 => ?_) (fun c65 => ?_)
              · skip
                refine lv_iconst (v := 0) hx hb dX5_isUnder_72 (by decide) ?_
                refine pp_zret hx hb hr hlocks rfl ?_ dX5_isUnder_73
                have hres : ff_isUnder k a = 0 := by simp only [ff_isUnder, if_neg c1, if_neg c6, if_neg c13, if_pos c50, if_neg c55, if_neg c60, if_neg c65]
                rw [hres]
              · skip
                refine lv_iconst (v := 1) hx hb dX5_isUnder_68 (by decide) ?_
                refine lv_goto (tgt := 73) hx hb dX5_isUnder_69 (by decide) ?_
                refine pp_zret hx hb hr hlocks rfl ?_ dX5_isUnder_73
                have hres : ff_isUnder k a = 1 := by simp only [ff_isUnder, if_neg c1, if_neg c6, if_neg c13, if_pos c50, if_neg c55, if_neg c60, if_pos c65]
                rw [hres]
      · skip
        refine lv_iload_n hx hb dX5_isUnder_16 rfl (lv_at hl 0 rfl) ?_
        refine lv_iconst (v := 2) hx hb dX5_isUnder_17 (by decide) ?_
        refine lv_icmp_eq (tgt := 42) hx hb dX5_isUnder_18 (by decide) (fun c18 => ?_) (fun c18 => ?_)
        · skip
          refine lv_iconst (v := 1) hx hb dX5_isUnder_42 (by decide) ?_
          refine lv_goto (tgt := 47) hx hb dX5_isUnder_43 (by decide) ?_
          refine pp_zret hx hb hr hlocks rfl ?_ dX5_isUnder_47
          have hres : ff_isUnder k a = 1 := by simp only [ff_isUnder, if_neg c1, if_neg c6, if_pos c13, if_pos c18]
          rw [hres]
        · skip
          refine lv_iload_n hx hb dX5_isUnder_21 rfl (lv_at hl 0 rfl) ?_
          refine lv_iconst (v := 3) hx hb dX5_isUnder_22 (by decide) ?_
          refine lv_icmp_eq (tgt := 42) hx hb dX5_isUnder_23 (by decide) (fun c23 => ?_) (fun c23 => ?_)
          · skip
            refine lv_iconst (v := 1) hx hb dX5_isUnder_42 (by decide) ?_
            refine lv_goto (tgt := 47) hx hb dX5_isUnder_43 (by decide) ?_
            refine pp_zret hx hb hr hlocks rfl ?_ dX5_isUnder_47
            have hres : ff_isUnder k a = 1 := by simp only [ff_isUnder, if_neg c1, if_neg c6, if_pos c13, if_neg c18, if_pos c23]
            rw [hres]
          · skip
            refine lv_iload_n hx hb dX5_isUnder_26 rfl (lv_at hl 0 rfl) ?_
            refine lv_iconst (v := 4) hx hb dX5_isUnder_27 (by decide) ?_
            refine lv_icmp_eq (tgt := 42) hx hb dX5_isUnder_28 (by decide) (fun c28 => ?_) (fun c28 => ?_)
            · skip
              refine lv_iconst (v := 1) hx hb dX5_isUnder_42 (by decide) ?_
              refine lv_goto (tgt := 47) hx hb dX5_isUnder_43 (by decide) ?_
              refine pp_zret hx hb hr hlocks rfl ?_ dX5_isUnder_47
              have hres : ff_isUnder k a = 1 := by simp only [ff_isUnder, if_neg c1, if_neg c6, if_pos c13, if_neg c18, if_neg c23, if_pos c28]
              rw [hres]
            · skip
              refine lv_iload_n hx hb dX5_isUnder_31 rfl (lv_at hl 0 rfl) ?_
              refine lv_iconst (v := 5) hx hb dX5_isUnder_32 (by decide) ?_
              refine lv_icmp_eq (tgt := 42) hx hb dX5_isUnder_33 (by decide) (fun c33 => ?_) (fun c33 => ?_)
              · skip
                refine lv_iconst (v := 1) hx hb dX5_isUnder_42 (by decide) ?_
                refine lv_goto (tgt := 47) hx hb dX5_isUnder_43 (by decide) ?_
                refine pp_zret hx hb hr hlocks rfl ?_ dX5_isUnder_47
                have hres : ff_isUnder k a = 1 := by simp only [ff_isUnder, if_neg c1, if_neg c6, if_pos c13, if_neg c18, if_neg c23, if_neg c28, if_pos c33]
                rw [hres]
              · skip
                refine lv_iload_n hx hb dX5_isUnder_36 rfl (lv_at hl 0 rfl) ?_
                refine lv_bipush (v := 6) hx hb dX5_isUnder_37 (by decide) ?_
                refine lv_icmp_ne (tgt := 46) hx hb dX5_isUnder_39 (by decide) (fun c39 => ?_) (fun c39 => ?_)
                · skip
                  refine lv_iconst (v := 0) hx hb dX5_isUnder_46 (by decide) ?_
                  refine pp_zret hx hb hr hlocks rfl ?_ dX5_isUnder_47
                  have hres : ff_isUnder k a = 0 := by simp only [ff_isUnder, if_neg c1, if_neg c6, if_pos c13, if_neg c18, if_neg c23, if_neg c28, if_neg c33, if_neg c39]
                  rw [hres]
                · skip
                  refine lv_iconst (v := 1) hx hb dX5_isUnder_42 (by decide) ?_
                  refine lv_goto (tgt := 47) hx hb dX5_isUnder_43 (by decide) ?_
                  refine pp_zret hx hb hr hlocks rfl ?_ dX5_isUnder_47
                  have hres : ff_isUnder k a = 1 := by simp only [ff_isUnder, if_neg c1, if_neg c6, if_pos c13, if_neg c18, if_neg c23, if_neg c28, if_neg c33, if_pos c39]
                  rw [hres]
    · skip
      refine lv_iconst (v := 1) hx hb dX5_isUnder_9 (by decide) ?_
      refine pp_zret hx hb hr hlocks rfl ?_ dX5_isUnder_10
      have hres : ff_isUnder k a = 1 := by simp only [ff_isUnder, if_neg c1, if_pos c6]
      rw [hres]

set_option maxHeartbeats 4000000 in
theorem mc_isSpan (lQ : Launch) (s : Int32) : pp_Met lQ yX5_isSpan (ws_ yX5_isSpan cX5_isSpan 1 (some .boolean)) 0 [.int s] (some (.int (ff_isSpan s))) := by
  refine pp_start (own := RX5) (by decide +kernel) (Nat.le_of_ble_eq_true rfl) rfl (fun pQ eQ sQ mQ belowQ methQ cQ hx hb hml hr hlocks hts hown ls hl => ?_)
  have hl : lv_has ls 1 [(0, .int s)] := hl
  refine lv_iload_n hx hb dX5_isSpan_0 rfl (lv_at hl 0 rfl) ?_
  refine lv_if_lt (tgt := 28) hx hb dX5_isSpan_1 (by decide) (fun c1 => ?_) (fun c1 => ?_)
  · have t1 : (s).toInt < 0 := ww_lt c1
    refine lv_iconst (v := 0) hx hb dX5_isSpan_28 (by decide) ?_
    refine pp_zret hx hb hr hlocks rfl ?_ dX5_isSpan_29
    have hres : ff_isSpan s = 0 := by simp only [ff_isSpan, if_pos c1]
    rw [hres]
  · have t1 : 0 ≤ (s).toInt := ww_nlt c1
    refine lv_iload_n hx hb dX5_isSpan_4 rfl (lv_at hl 0 rfl) ?_
    refine lv_bipush (v := 100) hx hb dX5_isSpan_5 (by decide) ?_
    refine nv_idiv hx hb dX5_isSpan_7 (by decide) (fun v7 e7 => ?_)
    refine lv_iload_n hx hb dX5_isSpan_8 rfl (lv_at hl 0 rfl) ?_
    refine lv_bipush (v := 100) hx hb dX5_isSpan_9 (by decide) ?_
    refine nv_irem hx hb dX5_isSpan_11 (by decide) (fun v11 e11 => ?_)
    refine lv_icmp_gt (tgt := 28) hx hb dX5_isSpan_12 (by decide) (fun c12 => ?_) (fun c12 => ?_)
    · have t12 : (v11).toInt < (v7).toInt := ww_lt c12
      refine lv_iconst (v := 0) hx hb dX5_isSpan_28 (by decide) ?_
      refine pp_zret hx hb hr hlocks rfl ?_ dX5_isSpan_29
      have hres : ff_isSpan s = 0 := by subst e7 e11; simp only [ff_isSpan, if_neg c1, if_pos c12]
      rw [hres]
    · have t12 : (v7).toInt ≤ (v11).toInt := ww_nlt c12
      refine lv_iload_n hx hb dX5_isSpan_15 rfl (lv_at hl 0 rfl) ?_
      refine lv_bipush (v := 100) hx hb dX5_isSpan_16 (by decide) ?_
      refine nv_irem hx hb dX5_isSpan_18 (by decide) (fun v18 e18 => ?_)
      refine lv_bipush (v := 32) hx hb dX5_isSpan_19 (by decide) ?_
      refine lv_icmp_ge (tgt := 28) hx hb dX5_isSpan_21 (by decide) (fun c21 => ?_) (fun c21 => ?_)
      · have t21 : 32 ≤ (v18).toInt := ww_le c21
        refine lv_iconst (v := 0) hx hb dX5_isSpan_28 (by decide) ?_
        refine pp_zret hx hb hr hlocks rfl ?_ dX5_isSpan_29
        have hres : ff_isSpan s = 0 := by subst e7 e11 e18; simp only [ff_isSpan, if_neg c1, if_neg c12, if_pos c21]
        rw [hres]
      · have t21 : (v18).toInt < 32 := ww_nle c21
        refine lv_iconst (v := 1) hx hb dX5_isSpan_24 (by decide) ?_
        refine lv_goto (tgt := 29) hx hb dX5_isSpan_25 (by decide) ?_
        refine pp_zret hx hb hr hlocks rfl ?_ dX5_isSpan_29
        have hres : ff_isSpan s = 1 := by subst e7 e11 e18; simp only [ff_isSpan, if_neg c1, if_neg c12, if_neg c21]
        rw [hres]

set_option maxHeartbeats 4000000 in
theorem mc_isMachine (lQ : Launch) (m : Int32) : pp_Met lQ yX5_isMachine (ws_ yX5_isMachine cX5_isMachine 1 (some .boolean)) 1 [.int m] (some (.int (ff_isMachine m))) := by
  refine pp_start (own := RX5) (by decide +kernel) (Nat.le_of_ble_eq_true rfl) rfl (fun pQ eQ sQ mQ belowQ methQ cQ hx hb hml hr hlocks hts hown ls hl => ?_)
  have hl : lv_has ls 1 [(0, .int m)] := hl
  refine lv_iload_n hx hb dX5_isMachine_0 rfl (lv_at hl 0 rfl) ?_
  refine lv_iconst (v := 0) hx hb dX5_isMachine_1 (by decide) ?_
  refine lv_iconst (v := 2) hx hb dX5_isMachine_2 (by decide) ?_
  refine pp_calli (As := [.int m, .int 0, .int 2]) (rest := []) (n := 3) ⟨hx, hb, hml, hown, hts⟩ (mc_in lQ m 0 2) (lw_S q1979 q1980 q92 q1981) (by decide +kernel) rfl ⟨Nat.le_of_ble_eq_true rfl, Nat.le_of_ble_eq_true rfl⟩ hl.1 rfl (Nat.le_of_ble_eq_true rfl) dX5_isMachine_3 ⟨Nat.le_of_ble_eq_true rfl, Nat.le_of_ble_eq_true rfl⟩ (fun v3 e3 => ?_)
  refine pp_zret hx hb hr hlocks (by rw [e3]; exact nz_ (ff_in_b _ _ _)) ?_ dX5_isMachine_6
  have hres : ff_isMachine m = v3 := by subst e3; simp only [ff_isMachine]
  rw [hres]

set_option maxHeartbeats 4000000 in
theorem mc_hard (lQ : Launch) (G : wm_G) (o : Nat) (S : mm_S) (E : mm_E) (c : Int32) (v : Int32) : mm_Met lQ G o yX5_hard (ws_ yX5_hard cX5_hard 4 (some .int)) 2 S E [.int c, .int v] (some (.int (ff_hard S c v).1)) (ff_hard S c v).2 E := by
  refine mm_start (by decide +kernel) (Nat.le_of_ble_eq_true rfl) rfl (fun pQ eQ sQ mQ belowQ methQ cQ hx hb hml hr hlocks hts hown hK H hW hS ls hl => ?_)
  have hl : lv_has ls 4 [(0, .ref o), (1, .int c), (2, .int v)] := hl
  generalize hlc : ([] : List Loc) = locs at hS ⊢
  refine lv_iload_n hx hb dX5_hard_0 rfl (lv_at hl 1 rfl) ?_
  refine pp_calli (As := [.int c]) (rest := []) (n := 1) ⟨hx, hb, hml, hown, hts⟩ (mc_isCell lQ c) (lw_S q1976 q1977 q92 q1978) (by decide +kernel) rfl ⟨Nat.le_of_ble_eq_true rfl, Nat.le_of_ble_eq_true rfl⟩ hl.1 rfl (Nat.le_of_ble_eq_true rfl) dX5_hard_1 ⟨Nat.le_of_ble_eq_true rfl, Nat.le_of_ble_eq_true rfl⟩ (fun v1 e1 => ?_)
  refine lv_if_eq (tgt := 17) hx hb dX5_hard_4 (by decide) (fun c4 => ?_) (fun c4 => ?_)
  · skip
    refine lv_iconst (v := (-1)) hx hb dX5_hard_17 (by decide) ?_
    refine mm_iret hx hb hr hlocks hW hS ?_ dX5_hard_18
    have hres : ff_hard S c v = ((-1), S) := by subst e1; simp only [ff_hard, if_pos c4]
    exact ⟨by rw [hres], by rw [hres], rfl⟩
  · skip
    refine lv_iload_n hx hb dX5_hard_7 rfl (lv_at hl 2 rfl) ?_
    refine lv_iconst (v := 1) hx hb dX5_hard_8 (by decide) ?_
    refine lv_bipush (v := 9) hx hb dX5_hard_9 (by decide) ?_
    refine pp_calli (As := [.int v, .int 1, .int 9]) (rest := []) (n := 3) ⟨hx, hb, hml, hown, hts⟩ (mc_in lQ v 1 9) (lw_S q1979 q1980 q92 q1981) (by decide +kernel) rfl ⟨Nat.le_of_ble_eq_true rfl, Nat.le_of_ble_eq_true rfl⟩ hl.1 rfl (Nat.le_of_ble_eq_true rfl) dX5_hard_11 ⟨Nat.le_of_ble_eq_true rfl, Nat.le_of_ble_eq_true rfl⟩ (fun v11 e11 => ?_)
    refine lv_if_ne (tgt := 19) hx hb dX5_hard_14 (by decide) (fun c14 => ?_) (fun c14 => ?_)
    · skip
      refine lv_iconst (v := 3) hx hb dX5_hard_19 (by decide) ?_
      refine lv_aload_n hx hb dX5_hard_20 rfl (lv_at hl 0 rfl) ?_
      refine mm_geta hx hb hts hown hK hW 2 rfl q1687 dX5_hard_21 ?_
      refine lv_iload_n hx hb dX5_hard_24 rfl (lv_at hl 1 rfl) ?_
      refine pp_calli (As := [.int c]) (rest := [.ref (o + 1), .int 3]) (n := 1) ⟨hx, hb, hml, hown, hts⟩ (mc_placeOf lQ c) (lw_S q1982 q1983 q92 q1984) (by decide +kernel) rfl ⟨Nat.le_of_ble_eq_true rfl, Nat.le_of_ble_eq_true rfl⟩ hl.1 rfl (Nat.le_of_ble_eq_true rfl) dX5_hard_25 ⟨Nat.le_of_ble_eq_true rfl, Nat.le_of_ble_eq_true rfl⟩ (fun v25 e25 => ?_)
      refine mm_iald hx hb hK hW 2 rfl (by rw [e25]; exact ff_placeOf_in (by rw [← e1]; exact c4)) dX5_hard_28 ?_
      refine nv_iadd hx hb dX5_hard_29 (fun v29 e29 => ?_)
      refine lv_istore_n (lv' := [(3, .int v29), (0, .ref o), (1, .int c), (2, .int v)]) hx hb dX5_hard_30 rfl hl (by decide) rfl (fun ls hl => ?_)
      refine lv_aload_n hx hb dX5_hard_31 rfl (lv_at hl 1 rfl) ?_
      refine mm_geta hx hb hts hown hK hW 2 rfl q1687 dX5_hard_32 ?_
      refine lv_iload_n hx hb dX5_hard_35 rfl (lv_at hl 2 rfl) ?_
      refine pp_calli (As := [.int c]) (rest := [.ref (o + 1)]) (n := 1) ⟨hx, hb, hml, hown, hts⟩ (mc_placeOf lQ c) (lw_S q1982 q1983 q92 q1984) (by decide +kernel) rfl ⟨Nat.le_of_ble_eq_true rfl, Nat.le_of_ble_eq_true rfl⟩ hl.1 rfl (Nat.le_of_ble_eq_true rfl) dX5_hard_36 ⟨Nat.le_of_ble_eq_true rfl, Nat.le_of_ble_eq_true rfl⟩ (fun v36 e36 => ?_)
      refine lv_iload_n hx hb dX5_hard_39 rfl (lv_at hl 3 rfl) ?_
      refine lv_iconst (v := 3) hx hb dX5_hard_40 (by decide) ?_
      refine nv_isub hx hb dX5_hard_41 (fun v41 e41 => ?_)
      refine mm_iast hx hb hK hW hS 2 rfl (by rw [e36]; exact ff_placeOf_in (by rw [← e1]; exact c4)) dX5_hard_42 (fun S42 H locs f42 hW hS => ?_)
      refine lv_iload_n hx hb dX5_hard_43 rfl (lv_at hl 0 rfl) ?_
      refine mm_iret hx hb hr hlocks hW hS ?_ dX5_hard_44
      have hres : ff_hard S c v = (v29, S42) := by subst e1 e11 e25 e29 e36 e41 f42; simp only [ff_hard, if_neg c4, if_neg c14]
      exact ⟨by rw [hres], by rw [hres], rfl⟩
    · skip
      refine lv_iconst (v := (-1)) hx hb dX5_hard_17 (by decide) ?_
      refine mm_iret hx hb hr hlocks hW hS ?_ dX5_hard_18
      have hres : ff_hard S c v = ((-1), S) := by subst e1 e11; simp only [ff_hard, if_neg c4, if_pos c14]
      exact ⟨by rw [hres], by rw [hres], rfl⟩

set_option maxHeartbeats 4000000 in
theorem mc_open (lQ : Launch) (G : wm_G) (o : Nat) (S : mm_S) (E : mm_E) (c : Int32) (v : Int32) : mm_Met lQ G o yX5_open (ws_ yX5_open cX5_open 4 (some .int)) 2 S E [.int c, .int v] (some (.int (ff_open S c v).1)) (ff_open S c v).2 E := by
  refine mm_start (by decide +kernel) (Nat.le_of_ble_eq_true rfl) rfl (fun pQ eQ sQ mQ belowQ methQ cQ hx hb hml hr hlocks hts hown hK H hW hS ls hl => ?_)
  have hl : lv_has ls 4 [(0, .ref o), (1, .int c), (2, .int v)] := hl
  generalize hlc : ([] : List Loc) = locs at hS ⊢
  refine lv_iload_n hx hb dX5_open_0 rfl (lv_at hl 1 rfl) ?_
  refine pp_calli (As := [.int c]) (rest := []) (n := 1) ⟨hx, hb, hml, hown, hts⟩ (mc_isCell lQ c) (lw_S q1976 q1977 q92 q1978) (by decide +kernel) rfl ⟨Nat.le_of_ble_eq_true rfl, Nat.le_of_ble_eq_true rfl⟩ hl.1 rfl (Nat.le_of_ble_eq_true rfl) dX5_open_1 ⟨Nat.le_of_ble_eq_true rfl, Nat.le_of_ble_eq_true rfl⟩ (fun v1 e1 => ?_)
  refine lv_if_eq (tgt := 16) hx hb dX5_open_4 (by decide) (fun c4 => ?_) (fun c4 => ?_)
  · skip
    refine lv_iconst (v := (-1)) hx hb dX5_open_16 (by decide) ?_
    refine mm_iret hx hb hr hlocks hW hS ?_ dX5_open_17
    have hres : ff_open S c v = ((-1), S) := by subst e1; simp only [ff_open, if_pos c4]
    exact ⟨by rw [hres], by rw [hres], rfl⟩
  · skip
    refine lv_iload_n hx hb dX5_open_7 rfl (lv_at hl 2 rfl) ?_
    refine lv_iconst (v := 0) hx hb dX5_open_8 (by decide) ?_
    refine lv_iconst (v := 1) hx hb dX5_open_9 (by decide) ?_
    refine pp_calli (As := [.int v, .int 0, .int 1]) (rest := []) (n := 3) ⟨hx, hb, hml, hown, hts⟩ (mc_in lQ v 0 1) (lw_S q1979 q1980 q92 q1981) (by decide +kernel) rfl ⟨Nat.le_of_ble_eq_true rfl, Nat.le_of_ble_eq_true rfl⟩ hl.1 rfl (Nat.le_of_ble_eq_true rfl) dX5_open_10 ⟨Nat.le_of_ble_eq_true rfl, Nat.le_of_ble_eq_true rfl⟩ (fun v10 e10 => ?_)
    refine lv_if_ne (tgt := 18) hx hb dX5_open_13 (by decide) (fun c13 => ?_) (fun c13 => ?_)
    · skip
      refine lv_aload_n hx hb dX5_open_18 rfl (lv_at hl 0 rfl) ?_
      refine mm_geta hx hb hts hown hK hW 3 rfl q1688 dX5_open_19 ?_
      refine lv_iload_n hx hb dX5_open_22 rfl (lv_at hl 1 rfl) ?_
      refine pp_calli (As := [.int c]) (rest := [.ref (o + 2)]) (n := 1) ⟨hx, hb, hml, hown, hts⟩ (mc_placeOf lQ c) (lw_S q1982 q1983 q92 q1984) (by decide +kernel) rfl ⟨Nat.le_of_ble_eq_true rfl, Nat.le_of_ble_eq_true rfl⟩ hl.1 rfl (Nat.le_of_ble_eq_true rfl) dX5_open_23 ⟨Nat.le_of_ble_eq_true rfl, Nat.le_of_ble_eq_true rfl⟩ (fun v23 e23 => ?_)
      refine mm_zald hx hb hK hW 3 rfl (by rw [e23]; exact ff_placeOf_in (by rw [← e1]; exact c4)) dX5_open_26 ?_
      refine lv_if_eq (tgt := 34) hx hb dX5_open_27 (by decide) (fun c27 => ?_) (fun c27 => ?_)
      · skip
        refine lv_iconst (v := 0) hx hb dX5_open_34 (by decide) ?_
        refine lv_istore_n (lv' := [(3, .int 0), (0, .ref o), (1, .int c), (2, .int v)]) hx hb dX5_open_35 rfl hl (by decide) rfl (fun ls hl => ?_)
        refine lv_aload_n hx hb dX5_open_36 rfl (lv_at hl 1 rfl) ?_
        refine mm_geta hx hb hts hown hK hW 3 rfl q1688 dX5_open_37 ?_
        refine lv_iload_n hx hb dX5_open_40 rfl (lv_at hl 2 rfl) ?_
        refine pp_calli (As := [.int c]) (rest := [.ref (o + 2)]) (n := 1) ⟨hx, hb, hml, hown, hts⟩ (mc_placeOf lQ c) (lw_S q1982 q1983 q92 q1984) (by decide +kernel) rfl ⟨Nat.le_of_ble_eq_true rfl, Nat.le_of_ble_eq_true rfl⟩ hl.1 rfl (Nat.le_of_ble_eq_true rfl) dX5_open_41 ⟨Nat.le_of_ble_eq_true rfl, Nat.le_of_ble_eq_true rfl⟩ (fun v41 e41 => ?_)
        refine lv_iload_n hx hb dX5_open_44 rfl (lv_at hl 3 rfl) ?_
        refine lv_iconst (v := 1) hx hb dX5_open_45 (by decide) ?_
        refine lv_icmp_ne (tgt := 53) hx hb dX5_open_46 (by decide) (fun c46 => ?_) (fun c46 => ?_)
        · skip
          refine lv_iconst (v := 0) hx hb dX5_open_53 (by decide) ?_
          refine mm_zast hx hb hK hW hS 3 rfl rfl (by rw [e41]; exact ff_placeOf_in (by rw [← e1]; exact c4)) dX5_open_54 (fun S54 H locs f54 hW hS => ?_)
          refine lv_iload_n hx hb dX5_open_55 rfl (lv_at hl 0 rfl) ?_
          refine mm_iret hx hb hr hlocks hW hS ?_ dX5_open_56
          have hres : ff_open S c v = (0, S54) := by subst e1 e10 e23 e41 f54; simp only [ff_open, if_neg c4, if_neg c13, if_pos c27, if_neg c46]
          exact ⟨by rw [hres], by rw [hres], rfl⟩
        · skip
          refine lv_iconst (v := 1) hx hb dX5_open_49 (by decide) ?_
          refine lv_goto (tgt := 54) hx hb dX5_open_50 (by decide) ?_
          refine mm_zast hx hb hK hW hS 3 rfl rfl (by rw [e41]; exact ff_placeOf_in (by rw [← e1]; exact c4)) dX5_open_54 (fun S54 H locs f54 hW hS => ?_)
          refine lv_iload_n hx hb dX5_open_55 rfl (lv_at hl 0 rfl) ?_
          refine mm_iret hx hb hr hlocks hW hS ?_ dX5_open_56
          have hres : ff_open S c v = (0, S54) := by subst e1 e10 e23 e41 f54; simp only [ff_open, if_neg c4, if_neg c13, if_pos c27, if_pos c46]
          exact ⟨by rw [hres], by rw [hres], rfl⟩
      · skip
        refine lv_iconst (v := 1) hx hb dX5_open_30 (by decide) ?_
        refine lv_goto (tgt := 35) hx hb dX5_open_31 (by decide) ?_
        refine lv_istore_n (lv' := [(3, .int 1), (0, .ref o), (1, .int c), (2, .int v)]) hx hb dX5_open_35 rfl hl (by decide) rfl (fun ls hl => ?_)
        refine lv_aload_n hx hb dX5_open_36 rfl (lv_at hl 1 rfl) ?_
        refine mm_geta hx hb hts hown hK hW 3 rfl q1688 dX5_open_37 ?_
        refine lv_iload_n hx hb dX5_open_40 rfl (lv_at hl 2 rfl) ?_
        refine pp_calli (As := [.int c]) (rest := [.ref (o + 2)]) (n := 1) ⟨hx, hb, hml, hown, hts⟩ (mc_placeOf lQ c) (lw_S q1982 q1983 q92 q1984) (by decide +kernel) rfl ⟨Nat.le_of_ble_eq_true rfl, Nat.le_of_ble_eq_true rfl⟩ hl.1 rfl (Nat.le_of_ble_eq_true rfl) dX5_open_41 ⟨Nat.le_of_ble_eq_true rfl, Nat.le_of_ble_eq_true rfl⟩ (fun v41 e41 => ?_)
        refine lv_iload_n hx hb dX5_open_44 rfl (lv_at hl 3 rfl) ?_
        refine lv_iconst (v := 1) hx hb dX5_open_45 (by decide) ?_
        refine lv_icmp_ne (tgt := 53) hx hb dX5_open_46 (by decide) (fun c46 => ?_) (fun c46 => ?_)
        · skip
          refine lv_iconst (v := 0) hx hb dX5_open_53 (by decide) ?_
          refine mm_zast hx hb hK hW hS 3 rfl rfl (by rw [e41]; exact ff_placeOf_in (by rw [← e1]; exact c4)) dX5_open_54 (fun S54 H locs f54 hW hS => ?_)
          refine lv_iload_n hx hb dX5_open_55 rfl (lv_at hl 0 rfl) ?_
          refine mm_iret hx hb hr hlocks hW hS ?_ dX5_open_56
          have hres : ff_open S c v = (1, S54) := by subst e1 e10 e23 e41 f54; simp only [ff_open, if_neg c4, if_neg c13, if_neg c27, if_neg c46]
          exact ⟨by rw [hres], by rw [hres], rfl⟩
        · skip
          refine lv_iconst (v := 1) hx hb dX5_open_49 (by decide) ?_
          refine lv_goto (tgt := 54) hx hb dX5_open_50 (by decide) ?_
          refine mm_zast hx hb hK hW hS 3 rfl rfl (by rw [e41]; exact ff_placeOf_in (by rw [← e1]; exact c4)) dX5_open_54 (fun S54 H locs f54 hW hS => ?_)
          refine lv_iload_n hx hb dX5_open_55 rfl (lv_at hl 0 rfl) ?_
          refine mm_iret hx hb hr hlocks hW hS ?_ dX5_open_56
          have hres : ff_open S c v = (1, S54) := by subst e1 e10 e23 e41 f54; simp only [ff_open, if_neg c4, if_neg c13, if_neg c27, if_pos c46]
          exact ⟨by rw [hres], by rw [hres], rfl⟩
    · skip
      refine lv_iconst (v := (-1)) hx hb dX5_open_16 (by decide) ?_
      refine mm_iret hx hb hr hlocks hW hS ?_ dX5_open_17
      have hres : ff_open S c v = ((-1), S) := by subst e1 e10; simp only [ff_open, if_neg c4, if_pos c13]
      exact ⟨by rw [hres], by rw [hres], rfl⟩

set_option maxHeartbeats 4000000 in
theorem mc_ofCell (lQ : Launch) (G : wm_G) (o : Nat) (S : mm_S) (E : mm_E) (c : Int32) (w : Int32) : mm_Met lQ G o yX5_ofCell (ws_ yX5_ofCell cX5_ofCell 3 (some .int)) 2 S E [.int c, .int w] (some (.int (ff_ofCell S c w))) S E := by
  refine mm_start (by decide +kernel) (Nat.le_of_ble_eq_true rfl) rfl (fun pQ eQ sQ mQ belowQ methQ cQ hx hb hml hr hlocks hts hown hK H hW hS ls hl => ?_)
  have hl : lv_has ls 3 [(0, .ref o), (1, .int c), (2, .int w)] := hl
  generalize hlc : ([] : List Loc) = locs at hS ⊢
  refine lv_iload_n hx hb dX5_ofCell_0 rfl (lv_at hl 1 rfl) ?_
  refine pp_calli (As := [.int c]) (rest := []) (n := 1) ⟨hx, hb, hml, hown, hts⟩ (mc_isCell lQ c) (lw_S q1976 q1977 q92 q1978) (by decide +kernel) rfl ⟨Nat.le_of_ble_eq_true rfl, Nat.le_of_ble_eq_true rfl⟩ hl.1 rfl (Nat.le_of_ble_eq_true rfl) dX5_ofCell_1 ⟨Nat.le_of_ble_eq_true rfl, Nat.le_of_ble_eq_true rfl⟩ (fun v1 e1 => ?_)
  refine lv_if_eq (tgt := 16) hx hb dX5_ofCell_4 (by decide) (fun c4 => ?_) (fun c4 => ?_)
  · skip
    refine lv_iconst (v := (-1)) hx hb dX5_ofCell_16 (by decide) ?_
    refine lv_goto (tgt := 55) hx hb dX5_ofCell_17 (by decide) ?_
    refine mm_iret hx hb hr hlocks hW hS ?_ dX5_ofCell_55
    have hres : ff_ofCell S c w = (-1) := by subst e1; simp only [ff_ofCell, if_pos c4]
    exact ⟨by rw [hres], rfl, rfl⟩
  · skip
    refine lv_iload_n hx hb dX5_ofCell_7 rfl (lv_at hl 2 rfl) ?_
    refine lv_iconst (v := 0) hx hb dX5_ofCell_8 (by decide) ?_
    refine lv_iconst (v := 1) hx hb dX5_ofCell_9 (by decide) ?_
    refine pp_calli (As := [.int w, .int 0, .int 1]) (rest := []) (n := 3) ⟨hx, hb, hml, hown, hts⟩ (mc_in lQ w 0 1) (lw_S q1979 q1980 q92 q1981) (by decide +kernel) rfl ⟨Nat.le_of_ble_eq_true rfl, Nat.le_of_ble_eq_true rfl⟩ hl.1 rfl (Nat.le_of_ble_eq_true rfl) dX5_ofCell_10 ⟨Nat.le_of_ble_eq_true rfl, Nat.le_of_ble_eq_true rfl⟩ (fun v10 e10 => ?_)
    refine lv_if_ne (tgt := 20) hx hb dX5_ofCell_13 (by decide) (fun c13 => ?_) (fun c13 => ?_)
    · skip
      refine lv_iload_n hx hb dX5_ofCell_20 rfl (lv_at hl 2 rfl) ?_
      refine lv_if_ne (tgt := 38) hx hb dX5_ofCell_21 (by decide) (fun c21 => ?_) (fun c21 => ?_)
      · skip
        refine lv_aload_n hx hb dX5_ofCell_38 rfl (lv_at hl 0 rfl) ?_
        refine mm_geta hx hb hts hown hK hW 3 rfl q1688 dX5_ofCell_39 ?_
        refine lv_iload_n hx hb dX5_ofCell_42 rfl (lv_at hl 1 rfl) ?_
        refine pp_calli (As := [.int c]) (rest := [.ref (o + 2)]) (n := 1) ⟨hx, hb, hml, hown, hts⟩ (mc_placeOf lQ c) (lw_S q1982 q1983 q92 q1984) (by decide +kernel) rfl ⟨Nat.le_of_ble_eq_true rfl, Nat.le_of_ble_eq_true rfl⟩ hl.1 rfl (Nat.le_of_ble_eq_true rfl) dX5_ofCell_43 ⟨Nat.le_of_ble_eq_true rfl, Nat.le_of_ble_eq_true rfl⟩ (fun v43 e43 => ?_)
        refine mm_zald hx hb hK hW 3 rfl (by rw [e43]; exact ff_placeOf_in (by rw [← e1]; exact c4)) dX5_ofCell_46 ?_
        refine lv_if_eq (tgt := 54) hx hb dX5_ofCell_47 (by decide) (fun c47 => ?_) (fun c47 => ?_)
        · skip
          refine lv_iconst (v := 0) hx hb dX5_ofCell_54 (by decide) ?_
          refine mm_iret hx hb hr hlocks hW hS ?_ dX5_ofCell_55
          have hres : ff_ofCell S c w = 0 := by subst e1 e10 e43; simp only [ff_ofCell, if_neg c4, if_neg c13, if_neg c21, if_pos c47]
          exact ⟨by rw [hres], rfl, rfl⟩
        · skip
          refine lv_iconst (v := 1) hx hb dX5_ofCell_50 (by decide) ?_
          refine lv_goto (tgt := 55) hx hb dX5_ofCell_51 (by decide) ?_
          refine mm_iret hx hb hr hlocks hW hS ?_ dX5_ofCell_55
          have hres : ff_ofCell S c w = 1 := by subst e1 e10 e43; simp only [ff_ofCell, if_neg c4, if_neg c13, if_neg c21, if_neg c47]
          exact ⟨by rw [hres], rfl, rfl⟩
      · skip
        refine lv_iconst (v := 3) hx hb dX5_ofCell_24 (by decide) ?_
        refine lv_aload_n hx hb dX5_ofCell_25 rfl (lv_at hl 0 rfl) ?_
        refine mm_geta hx hb hts hown hK hW 2 rfl q1687 dX5_ofCell_26 ?_
        refine lv_iload_n hx hb dX5_ofCell_29 rfl (lv_at hl 1 rfl) ?_
        refine pp_calli (As := [.int c]) (rest := [.ref (o + 1), .int 3]) (n := 1) ⟨hx, hb, hml, hown, hts⟩ (mc_placeOf lQ c) (lw_S q1982 q1983 q92 q1984) (by decide +kernel) rfl ⟨Nat.le_of_ble_eq_true rfl, Nat.le_of_ble_eq_true rfl⟩ hl.1 rfl (Nat.le_of_ble_eq_true rfl) dX5_ofCell_30 ⟨Nat.le_of_ble_eq_true rfl, Nat.le_of_ble_eq_true rfl⟩ (fun v30 e30 => ?_)
        refine mm_iald hx hb hK hW 2 rfl (by rw [e30]; exact ff_placeOf_in (by rw [← e1]; exact c4)) dX5_ofCell_33 ?_
        refine nv_iadd hx hb dX5_ofCell_34 (fun v34 e34 => ?_)
        refine lv_goto (tgt := 55) hx hb dX5_ofCell_35 (by decide) ?_
        refine mm_iret hx hb hr hlocks hW hS ?_ dX5_ofCell_55
        have hres : ff_ofCell S c w = v34 := by subst e1 e10 e30 e34; simp only [ff_ofCell, if_neg c4, if_neg c13, if_pos c21]
        exact ⟨by rw [hres], rfl, rfl⟩
    · skip
      refine lv_iconst (v := (-1)) hx hb dX5_ofCell_16 (by decide) ?_
      refine lv_goto (tgt := 55) hx hb dX5_ofCell_17 (by decide) ?_
      refine mm_iret hx hb hr hlocks hW hS ?_ dX5_ofCell_55
      have hres : ff_ofCell S c w = (-1) := by subst e1 e10; simp only [ff_ofCell, if_neg c4, if_pos c13]
      exact ⟨by rw [hres], rfl, rfl⟩

set_option maxHeartbeats 4000000 in
theorem mc_isBody (lQ : Launch) (G : wm_G) (o : Nat) (S : mm_S) (E : mm_E) (b : Int32) : mm_Met lQ G o yX5_isBody (ws_ yX5_isBody cX5_isBody 2 (some .boolean)) 1 S E [.int b] (some (.int (ff_isBody S b))) S E := by
  refine mm_start (by decide +kernel) (Nat.le_of_ble_eq_true rfl) rfl (fun pQ eQ sQ mQ belowQ methQ cQ hx hb hml hr hlocks hts hown hK H hW hS ls hl => ?_)
  have hl : lv_has ls 2 [(0, .ref o), (1, .int b)] := hl
  generalize hlc : ([] : List Loc) = locs at hS ⊢
  refine lv_iload_n hx hb dX5_isBody_0 rfl (lv_at hl 1 rfl) ?_
  refine lv_iconst (v := 0) hx hb dX5_isBody_1 (by decide) ?_
  refine lv_aload_n hx hb dX5_isBody_2 rfl (lv_at hl 0 rfl) ?_
  refine mm_geti hx hb hts hown hK hW 4 rfl (by decide) q1689 dX5_isBody_3 ?_
  refine lv_iconst (v := 1) hx hb dX5_isBody_6 (by decide) ?_
  refine nv_isub hx hb dX5_isBody_7 (fun v7 e7 => ?_)
  refine pp_calli (As := [.int b, .int 0, .int v7]) (rest := []) (n := 3) ⟨hx, hb, hml, hown, hts⟩ (mc_in lQ b 0 v7) (lw_S q1979 q1980 q92 q1981) (by decide +kernel) rfl ⟨Nat.le_of_ble_eq_true rfl, Nat.le_of_ble_eq_true rfl⟩ hl.1 rfl (Nat.le_of_ble_eq_true rfl) dX5_isBody_8 ⟨Nat.le_of_ble_eq_true rfl, Nat.le_of_ble_eq_true rfl⟩ (fun v8 e8 => ?_)
  refine mm_zret hx hb hr hlocks hW hS (by rw [e8]; exact nz_ (ff_in_b _ _ _)) ?_ dX5_isBody_11
  have hres : ff_isBody S b = v8 := by subst e7 e8; simp only [ff_isBody]
  exact ⟨by rw [hres], rfl, rfl⟩

set_option maxHeartbeats 4000000 in
theorem mc_isHole (lQ : Launch) (G : wm_G) (o : Nat) (S : mm_S) (E : mm_E) (b : Int32) (hB : iv_B S) : mm_Met lQ G o yX5_isHole (ws_ yX5_isHole cX5_isHole 2 (some .boolean)) 2 S E [.int b] (some (.int (ff_isHole S b))) S E := by
  refine mm_start (by decide +kernel) (Nat.le_of_ble_eq_true rfl) rfl (fun pQ eQ sQ mQ belowQ methQ cQ hx hb hml hr hlocks hts hown hK H hW hS ls hl => ?_)
  have hl : lv_has ls 2 [(0, .ref o), (1, .int b)] := hl
  generalize hlc : ([] : List Loc) = locs at hS ⊢
  refine lv_aload_n hx hb dX5_isHole_0 rfl (lv_at hl 0 rfl) ?_
  refine lv_iload_n hx hb dX5_isHole_1 rfl (lv_at hl 1 rfl) ?_
  refine mm_callp (As := [.int b]) (rest := []) (n := 1) ⟨hx, hb, hml, hown, hts⟩ hK (mc_isBody lQ G o S E b) (lw_V q2020 q2022 qs38 q92 q2023) (by decide +kernel) rfl ⟨Nat.le_of_ble_eq_true rfl, Nat.le_of_ble_eq_true rfl⟩ hW hS hl.1 rfl (Nat.le_of_ble_eq_true rfl) dX5_isHole_2 ⟨Nat.le_of_ble_eq_true rfl, Nat.le_of_ble_eq_true rfl⟩ (fun v2 H locs e2 hW hS => ?_)
  refine lv_if_eq (tgt := 25) hx hb dX5_isHole_5 (by decide) (fun c5 => ?_) (fun c5 => ?_)
  · skip
    refine lv_iconst (v := 0) hx hb dX5_isHole_25 (by decide) ?_
    refine mm_zret hx hb hr hlocks hW hS rfl ?_ dX5_isHole_26
    have hres : ff_isHole S b = 0 := by subst e2; simp only [ff_isHole, if_pos c5]
    exact ⟨by rw [hres], rfl, rfl⟩
  · skip
    refine lv_aload_n hx hb dX5_isHole_8 rfl (lv_at hl 0 rfl) ?_
    refine mm_geta hx hb hts hown hK hW 5 rfl q1690 dX5_isHole_9 ?_
    refine lv_iload_n hx hb dX5_isHole_12 rfl (lv_at hl 1 rfl) ?_
    refine mm_iald hx hb hK hW 5 rfl (by have t := ff_isBody_t hB (by rw [← e2]; exact c5); exact ww_in t.1 t.2.2) dX5_isHole_13 ?_
    refine lv_iconst (v := 2) hx hb dX5_isHole_14 (by decide) ?_
    refine pp_calli (As := [.int (rd_ S 5 b), .int 2]) (rest := []) (n := 2) ⟨hx, hb, hml, hown, hts⟩ (mc_isUnder lQ (rd_ S 5 b) 2) (lw_S q2029 q2030 q92 q2031) (by decide +kernel) rfl ⟨Nat.le_of_ble_eq_true rfl, Nat.le_of_ble_eq_true rfl⟩ hl.1 rfl (Nat.le_of_ble_eq_true rfl) dX5_isHole_15 ⟨Nat.le_of_ble_eq_true rfl, Nat.le_of_ble_eq_true rfl⟩ (fun v15 e15 => ?_)
    refine lv_if_eq (tgt := 25) hx hb dX5_isHole_18 (by decide) (fun c18 => ?_) (fun c18 => ?_)
    · skip
      refine lv_iconst (v := 0) hx hb dX5_isHole_25 (by decide) ?_
      refine mm_zret hx hb hr hlocks hW hS rfl ?_ dX5_isHole_26
      have hres : ff_isHole S b = 0 := by subst e2 e15; simp only [ff_isHole, if_neg c5, if_pos c18]
      exact ⟨by rw [hres], rfl, rfl⟩
    · skip
      refine lv_iconst (v := 1) hx hb dX5_isHole_21 (by decide) ?_
      refine lv_goto (tgt := 26) hx hb dX5_isHole_22 (by decide) ?_
      refine mm_zret hx hb hr hlocks hW hS rfl ?_ dX5_isHole_26
      have hres : ff_isHole S b = 1 := by subst e2 e15; simp only [ff_isHole, if_neg c5, if_neg c18]
      exact ⟨by rw [hres], rfl, rfl⟩

set_option maxHeartbeats 4000000 in
theorem mc_isMan (lQ : Launch) (G : wm_G) (o : Nat) (S : mm_S) (E : mm_E) (b : Int32) (hB : iv_B S) : mm_Met lQ G o yX5_isMan (ws_ yX5_isMan cX5_isMan 2 (some .boolean)) 2 S E [.int b] (some (.int (ff_isMan S b))) S E := by
  refine mm_start (by decide +kernel) (Nat.le_of_ble_eq_true rfl) rfl (fun pQ eQ sQ mQ belowQ methQ cQ hx hb hml hr hlocks hts hown hK H hW hS ls hl => ?_)
  have hl : lv_has ls 2 [(0, .ref o), (1, .int b)] := hl
  generalize hlc : ([] : List Loc) = locs at hS ⊢
  refine lv_aload_n hx hb dX5_isMan_0 rfl (lv_at hl 0 rfl) ?_
  refine lv_iload_n hx hb dX5_isMan_1 rfl (lv_at hl 1 rfl) ?_
  refine mm_callp (As := [.int b]) (rest := []) (n := 1) ⟨hx, hb, hml, hown, hts⟩ hK (mc_isBody lQ G o S E b) (lw_V q2020 q2022 qs38 q92 q2023) (by decide +kernel) rfl ⟨Nat.le_of_ble_eq_true rfl, Nat.le_of_ble_eq_true rfl⟩ hW hS hl.1 rfl (Nat.le_of_ble_eq_true rfl) dX5_isMan_2 ⟨Nat.le_of_ble_eq_true rfl, Nat.le_of_ble_eq_true rfl⟩ (fun v2 H locs e2 hW hS => ?_)
  refine lv_if_eq (tgt := 23) hx hb dX5_isMan_5 (by decide) (fun c5 => ?_) (fun c5 => ?_)
  · skip
    refine lv_iconst (v := 0) hx hb dX5_isMan_23 (by decide) ?_
    refine mm_zret hx hb hr hlocks hW hS rfl ?_ dX5_isMan_24
    have hres : ff_isMan S b = 0 := by subst e2; simp only [ff_isMan, if_pos c5]
    exact ⟨by rw [hres], rfl, rfl⟩
  · skip
    refine lv_aload_n hx hb dX5_isMan_8 rfl (lv_at hl 0 rfl) ?_
    refine mm_geta hx hb hts hown hK hW 5 rfl q1690 dX5_isMan_9 ?_
    refine lv_iload_n hx hb dX5_isMan_12 rfl (lv_at hl 1 rfl) ?_
    refine mm_iald hx hb hK hW 5 rfl (by have t := ff_isBody_t hB (by rw [← e2]; exact c5); exact ww_in t.1 t.2.2) dX5_isMan_13 ?_
    refine lv_bipush (v := 7) hx hb dX5_isMan_14 (by decide) ?_
    refine lv_icmp_ne (tgt := 23) hx hb dX5_isMan_16 (by decide) (fun c16 => ?_) (fun c16 => ?_)
    · skip
      refine lv_iconst (v := 0) hx hb dX5_isMan_23 (by decide) ?_
      refine mm_zret hx hb hr hlocks hW hS rfl ?_ dX5_isMan_24
      have hres : ff_isMan S b = 0 := by subst e2; simp only [ff_isMan, if_neg c5, if_neg c16]
      exact ⟨by rw [hres], rfl, rfl⟩
    · skip
      refine lv_iconst (v := 1) hx hb dX5_isMan_19 (by decide) ?_
      refine lv_goto (tgt := 24) hx hb dX5_isMan_20 (by decide) ?_
      refine mm_zret hx hb hr hlocks hW hS rfl ?_ dX5_isMan_24
      have hres : ff_isMan S b = 1 := by subst e2; simp only [ff_isMan, if_neg c5, if_pos c16]
      exact ⟨by rw [hres], rfl, rfl⟩

set_option maxHeartbeats 4000000 in
theorem mc_add (lQ : Launch) (G : wm_G) (o : Nat) (S : mm_S) (E : mm_E) (k : Int32) (hB : iv_B S) (hne : ¬ fd_ S 4 = 120) : mm_Met lQ G o yX5_add (ws_ yX5_add cX5_add 2 (some .int)) 0 S E [.int k] (some (.int (ff_add S k).1)) (ff_add S k).2 E := by
  refine mm_start (by decide +kernel) (Nat.le_of_ble_eq_true rfl) rfl (fun pQ eQ sQ mQ belowQ methQ cQ hx hb hml hr hlocks hts hown hK H hW hS ls hl => ?_)
  have hl : lv_has ls 2 [(0, .ref o), (1, .int k)] := hl
  generalize hlc : ([] : List Loc) = locs at hS ⊢
  obtain ⟨h0, hlt⟩ := iv_B_lt hB hne
  refine lv_aload_n hx hb dX5_add_0 rfl (lv_at hl 0 rfl) ?_
  refine mm_geta hx hb hts hown hK hW 5 rfl q1690 dX5_add_1 ?_
  refine lv_aload_n hx hb dX5_add_4 rfl (lv_at hl 0 rfl) ?_
  refine mm_geti hx hb hts hown hK hW 4 rfl (by decide) q1689 dX5_add_5 ?_
  refine lv_iload_n hx hb dX5_add_8 rfl (lv_at hl 1 rfl) ?_
  refine mm_iast hx hb hK hW hS 5 rfl (ww_in (by omega) (by omega)) dX5_add_9 (fun S9 H locs f9 hW hS => ?_)
  refine lv_aload_n hx hb dX5_add_10 rfl (lv_at hl 0 rfl) ?_
  refine lv_dup hx hb dX5_add_11 rfl ?_
  refine mm_geti hx hb hts hown hK hW 4 rfl (by decide) q1689 dX5_add_12 ?_
  refine lv_iconst (v := 1) hx hb dX5_add_15 (by decide) ?_
  refine nv_iadd hx hb dX5_add_16 (fun v16 e16 => ?_)
  refine mm_puti hx hb hts hown hK hW hS 4 rfl (by decide) rfl rfl rfl q1689 dX5_add_17 (fun S17 H locs f17 hW hS => ?_)
  refine lv_aload_n hx hb dX5_add_20 rfl (lv_at hl 0 rfl) ?_
  refine mm_geti hx hb hts hown hK hW 4 rfl (by decide) q1689 dX5_add_21 ?_
  refine lv_iconst (v := 1) hx hb dX5_add_24 (by decide) ?_
  refine nv_isub hx hb dX5_add_25 (fun v25 e25 => ?_)
  refine mm_iret hx hb hr hlocks hW hS ?_ dX5_add_26
  have hres : ff_add S k = (v25, S17) := by subst f9 e16 f17 e25; simp only [ff_add]
  exact ⟨by rw [hres], by rw [hres], rfl⟩

set_option maxHeartbeats 4000000 in
theorem mc_body (lQ : Launch) (G : wm_G) (o : Nat) (S : mm_S) (E : mm_E) (k : Int32) (hB : iv_B S) : mm_Met lQ G o yX5_body (ws_ yX5_body cX5_body 2 (some .int)) 1 S E [.int k] (some (.int (ff_body S k).1)) (ff_body S k).2 E := by
  refine mm_start (by decide +kernel) (Nat.le_of_ble_eq_true rfl) rfl (fun pQ eQ sQ mQ belowQ methQ cQ hx hb hml hr hlocks hts hown hK H hW hS ls hl => ?_)
  have hl : lv_has ls 2 [(0, .ref o), (1, .int k)] := hl
  generalize hlc : ([] : List Loc) = locs at hS ⊢
  refine lv_iload_n hx hb dX5_body_0 rfl (lv_at hl 1 rfl) ?_
  refine lv_iconst (v := 0) hx hb dX5_body_1 (by decide) ?_
  refine lv_iconst (v := 1) hx hb dX5_body_2 (by decide) ?_
  refine pp_calli (As := [.int k, .int 0, .int 1]) (rest := []) (n := 3) ⟨hx, hb, hml, hown, hts⟩ (mc_in lQ k 0 1) (lw_S q1979 q1980 q92 q1981) (by decide +kernel) rfl ⟨Nat.le_of_ble_eq_true rfl, Nat.le_of_ble_eq_true rfl⟩ hl.1 rfl (Nat.le_of_ble_eq_true rfl) dX5_body_3 ⟨Nat.le_of_ble_eq_true rfl, Nat.le_of_ble_eq_true rfl⟩ (fun v3 e3 => ?_)
  refine lv_if_ne (tgt := 11) hx hb dX5_body_6 (by decide) (fun c6 => ?_) (fun c6 => ?_)
  · skip
    refine lv_aload_n hx hb dX5_body_11 rfl (lv_at hl 0 rfl) ?_
    refine mm_geti hx hb hts hown hK hW 4 rfl (by decide) q1689 dX5_body_12 ?_
    refine lv_bipush (v := 120) hx hb dX5_body_15 (by decide) ?_
    refine lv_icmp_ne (tgt := 25) hx hb dX5_body_17 (by decide) (fun c17 => ?_) (fun c17 => ?_)
    · skip
      refine lv_aload_n hx hb dX5_body_25 rfl (lv_at hl 0 rfl) ?_
      refine lv_iload_n hx hb dX5_body_26 rfl (lv_at hl 1 rfl) ?_
      refine mm_calli (As := [.int k]) (rest := []) (n := 1) ⟨hx, hb, hml, hown, hts⟩ hK (mc_add lQ G o S E k hB c17) (lw_V q1997 q1999 qs37 q92 q2000) (by decide +kernel) rfl ⟨Nat.le_of_ble_eq_true rfl, Nat.le_of_ble_eq_true rfl⟩ hW hS hl.1 rfl (Nat.le_of_ble_eq_true rfl) dX5_body_27 ⟨Nat.le_of_ble_eq_true rfl, Nat.le_of_ble_eq_true rfl⟩ (fun v27 S27 H locs e27 f27 hW hS => ?_)
      refine mm_iret hx hb hr hlocks hW hS ?_ dX5_body_30
      have hres : ff_body S k = (v27, S27) := by subst e3 e27 f27; simp only [ff_body, if_neg c6, if_neg c17]
      exact ⟨by rw [hres], by rw [hres], rfl⟩
    · skip
      refine lv_bipush (v := (-3)) hx hb dX5_body_20 (by decide) ?_
      refine lv_goto (tgt := 30) hx hb dX5_body_22 (by decide) ?_
      refine mm_iret hx hb hr hlocks hW hS ?_ dX5_body_30
      have hres : ff_body S k = ((-3), S) := by subst e3; simp only [ff_body, if_neg c6, if_pos c17]
      exact ⟨by rw [hres], by rw [hres], rfl⟩
  · skip
    refine lv_iconst (v := (-1)) hx hb dX5_body_9 (by decide) ?_
    refine mm_iret hx hb hr hlocks hW hS ?_ dX5_body_10
    have hres : ff_body S k = ((-1), S) := by subst e3; simp only [ff_body, if_pos c6]
    exact ⟨by rw [hres], by rw [hres], rfl⟩

set_option maxHeartbeats 4000000 in
theorem mc_hole (lQ : Launch) (G : wm_G) (o : Nat) (S : mm_S) (E : mm_E) (k : Int32) (w : Int32) (hB : iv_B S) : mm_Met lQ G o yX5_hole (ws_ yX5_hole cX5_hole 4 (some .int)) 1 S E [.int k, .int w] (some (.int (ff_hole S k w).1)) (ff_hole S k w).2 E := by
  refine mm_start (by decide +kernel) (Nat.le_of_ble_eq_true rfl) rfl (fun pQ eQ sQ mQ belowQ methQ cQ hx hb hml hr hlocks hts hown hK H hW hS ls hl => ?_)
  have hl : lv_has ls 4 [(0, .ref o), (1, .int k), (2, .int w)] := hl
  generalize hlc : ([] : List Loc) = locs at hS ⊢
  refine lv_iload_n hx hb dX5_hole_0 rfl (lv_at hl 1 rfl) ?_
  refine lv_iconst (v := 2) hx hb dX5_hole_1 (by decide) ?_
  refine lv_iconst (v := 5) hx hb dX5_hole_2 (by decide) ?_
  refine pp_calli (As := [.int k, .int 2, .int 5]) (rest := []) (n := 3) ⟨hx, hb, hml, hown, hts⟩ (mc_in lQ k 2 5) (lw_S q1979 q1980 q92 q1981) (by decide +kernel) rfl ⟨Nat.le_of_ble_eq_true rfl, Nat.le_of_ble_eq_true rfl⟩ hl.1 rfl (Nat.le_of_ble_eq_true rfl) dX5_hole_3 ⟨Nat.le_of_ble_eq_true rfl, Nat.le_of_ble_eq_true rfl⟩ (fun v3 e3 => ?_)
  refine lv_if_eq (tgt := 29) hx hb dX5_hole_6 (by decide) (fun c6 => ?_) (fun c6 => ?_)
  · skip
    refine lv_iconst (v := (-1)) hx hb dX5_hole_29 (by decide) ?_
    refine mm_iret hx hb hr hlocks hW hS ?_ dX5_hole_30
    have hres : ff_hole S k w = ((-1), S) := by subst e3; simp only [ff_hole, if_pos c6]
    exact ⟨by rw [hres], by rw [hres], rfl⟩
  · skip
    refine lv_iload_n hx hb dX5_hole_9 rfl (lv_at hl 2 rfl) ?_
    refine lv_if_lt (tgt := 29) hx hb dX5_hole_10 (by decide) (fun c10 => ?_) (fun c10 => ?_)
    · have t10 : (w).toInt < 0 := ww_lt c10
      refine lv_iconst (v := (-1)) hx hb dX5_hole_29 (by decide) ?_
      refine mm_iret hx hb hr hlocks hW hS ?_ dX5_hole_30
      have hres : ff_hole S k w = ((-1), S) := by subst e3; simp only [ff_hole, if_neg c6, if_pos c10]
      exact ⟨by rw [hres], by rw [hres], rfl⟩
    · have t10 : 0 ≤ (w).toInt := ww_nlt c10
      refine lv_iload_n hx hb dX5_hole_13 rfl (lv_at hl 2 rfl) ?_
      refine lv_bipush (v := 100) hx hb dX5_hole_14 (by decide) ?_
      refine nv_idiv hx hb dX5_hole_16 (by decide) (fun v16 e16 => ?_)
      refine lv_bipush (v := 32) hx hb dX5_hole_17 (by decide) ?_
      refine lv_icmp_ge (tgt := 29) hx hb dX5_hole_19 (by decide) (fun c19 => ?_) (fun c19 => ?_)
      · have t19 : 32 ≤ (v16).toInt := ww_le c19
        refine lv_iconst (v := (-1)) hx hb dX5_hole_29 (by decide) ?_
        refine mm_iret hx hb hr hlocks hW hS ?_ dX5_hole_30
        have hres : ff_hole S k w = ((-1), S) := by subst e3 e16; simp only [ff_hole, if_neg c6, if_neg c10, if_pos c19]
        exact ⟨by rw [hres], by rw [hres], rfl⟩
      · have t19 : (v16).toInt < 32 := ww_nle c19
        refine lv_iload_n hx hb dX5_hole_22 rfl (lv_at hl 2 rfl) ?_
        refine lv_bipush (v := 100) hx hb dX5_hole_23 (by decide) ?_
        refine nv_irem hx hb dX5_hole_25 (by decide) (fun v25 e25 => ?_)
        refine lv_if_ne (tgt := 31) hx hb dX5_hole_26 (by decide) (fun c26 => ?_) (fun c26 => ?_)
        · skip
          refine lv_aload_n hx hb dX5_hole_31 rfl (lv_at hl 0 rfl) ?_
          refine mm_geti hx hb hts hown hK hW 4 rfl (by decide) q1689 dX5_hole_32 ?_
          refine lv_bipush (v := 120) hx hb dX5_hole_35 (by decide) ?_
          refine lv_icmp_ne (tgt := 43) hx hb dX5_hole_37 (by decide) (fun c37 => ?_) (fun c37 => ?_)
          · skip
            refine lv_aload_n hx hb dX5_hole_43 rfl (lv_at hl 0 rfl) ?_
            refine lv_iload_n hx hb dX5_hole_44 rfl (lv_at hl 1 rfl) ?_
            refine mm_calli (As := [.int k]) (rest := []) (n := 1) ⟨hx, hb, hml, hown, hts⟩ hK (mc_add lQ G o S E k hB c37) (lw_V q1997 q1999 qs37 q92 q2000) (by decide +kernel) rfl ⟨Nat.le_of_ble_eq_true rfl, Nat.le_of_ble_eq_true rfl⟩ hW hS hl.1 rfl (Nat.le_of_ble_eq_true rfl) dX5_hole_45 ⟨Nat.le_of_ble_eq_true rfl, Nat.le_of_ble_eq_true rfl⟩ (fun v45 S45 H locs e45 f45 hW hS => ?_)
            obtain ⟨h0, hlt⟩ := iv_B_lt hB c37
            refine lv_istore_n (lv' := [(3, .int v45), (0, .ref o), (1, .int k), (2, .int w)]) hx hb dX5_hole_48 rfl hl (by decide) rfl (fun ls hl => ?_)
            refine lv_aload_n hx hb dX5_hole_49 rfl (lv_at hl 1 rfl) ?_
            refine mm_geta hx hb hts hown hK hW 6 rfl q1691 dX5_hole_50 ?_
            refine lv_iload_n hx hb dX5_hole_53 rfl (lv_at hl 0 rfl) ?_
            refine lv_iload_n hx hb dX5_hole_54 rfl (lv_at hl 3 rfl) ?_
            refine lv_bipush (v := 100) hx hb dX5_hole_55 (by decide) ?_
            refine nv_idiv hx hb dX5_hole_57 (by decide) (fun v57 e57 => ?_)
            refine mm_iast hx hb hK hW hS 6 rfl (by rw [e45, ff_add_1]; exact ww_in hB.1 hlt) dX5_hole_58 (fun S58 H locs f58 hW hS => ?_)
            refine lv_aload_n hx hb dX5_hole_59 rfl (lv_at hl 1 rfl) ?_
            refine mm_geta hx hb hts hown hK hW 8 rfl q1693 dX5_hole_60 ?_
            refine lv_iload_n hx hb dX5_hole_63 rfl (lv_at hl 0 rfl) ?_
            refine lv_iload_n hx hb dX5_hole_64 rfl (lv_at hl 3 rfl) ?_
            refine lv_bipush (v := 100) hx hb dX5_hole_65 (by decide) ?_
            refine nv_idiv hx hb dX5_hole_67 (by decide) (fun v67 e67 => ?_)
            refine mm_iast hx hb hK hW hS 8 rfl (by rw [e45, ff_add_1]; exact ww_in hB.1 hlt) dX5_hole_68 (fun S68 H locs f68 hW hS => ?_)
            refine lv_aload_n hx hb dX5_hole_69 rfl (lv_at hl 1 rfl) ?_
            refine mm_geta hx hb hts hown hK hW 7 rfl q1692 dX5_hole_70 ?_
            refine lv_iload_n hx hb dX5_hole_73 rfl (lv_at hl 0 rfl) ?_
            refine lv_iload_n hx hb dX5_hole_74 rfl (lv_at hl 3 rfl) ?_
            refine lv_bipush (v := 100) hx hb dX5_hole_75 (by decide) ?_
            refine nv_irem hx hb dX5_hole_77 (by decide) (fun v77 e77 => ?_)
            refine mm_iast hx hb hK hW hS 7 rfl (by rw [e45, ff_add_1]; exact ww_in hB.1 hlt) dX5_hole_78 (fun S78 H locs f78 hW hS => ?_)
            refine lv_iload_n hx hb dX5_hole_79 rfl (lv_at hl 0 rfl) ?_
            refine mm_iret hx hb hr hlocks hW hS ?_ dX5_hole_80
            have hres : ff_hole S k w = (v45, S78) := by subst e3 e16 e25 e45 f45 e57 f58 e67 f68 e77 f78; simp only [ff_hole, if_neg c6, if_neg c10, if_neg c19, if_neg c26, if_neg c37]
            exact ⟨by rw [hres], by rw [hres], rfl⟩
          · skip
            refine lv_bipush (v := (-3)) hx hb dX5_hole_40 (by decide) ?_
            refine mm_iret hx hb hr hlocks hW hS ?_ dX5_hole_42
            have hres : ff_hole S k w = ((-3), S) := by subst e3 e16 e25; simp only [ff_hole, if_neg c6, if_neg c10, if_neg c19, if_neg c26, if_pos c37]
            exact ⟨by rw [hres], by rw [hres], rfl⟩
        · skip
          refine lv_iconst (v := (-1)) hx hb dX5_hole_29 (by decide) ?_
          refine mm_iret hx hb hr hlocks hW hS ?_ dX5_hole_30
          have hres : ff_hole S k w = ((-1), S) := by subst e3 e16 e25; simp only [ff_hole, if_neg c6, if_neg c10, if_neg c19, if_pos c26]
          exact ⟨by rw [hres], by rw [hres], rfl⟩

set_option maxHeartbeats 4000000 in
theorem mc_shelter (lQ : Launch) (G : wm_G) (o : Nat) (S : mm_S) (E : mm_E) (s : Int32) (y : Int32) (hB : iv_B S) : mm_Met lQ G o yX5_shelter (ws_ yX5_shelter cX5_shelter 3 (some .int)) 1 S E [.int s, .int y] (some (.int (ff_shelter S s y).1)) (ff_shelter S s y).2 E := by
  refine mm_start (by decide +kernel) (Nat.le_of_ble_eq_true rfl) rfl (fun pQ eQ sQ mQ belowQ methQ cQ hx hb hml hr hlocks hts hown hK H hW hS ls hl => ?_)
  have hl : lv_has ls 3 [(0, .ref o), (1, .int s), (2, .int y)] := hl
  generalize hlc : ([] : List Loc) = locs at hS ⊢
  refine lv_iload_n hx hb dX5_shelter_0 rfl (lv_at hl 1 rfl) ?_
  refine pp_calli (As := [.int s]) (rest := []) (n := 1) ⟨hx, hb, hml, hown, hts⟩ (mc_isSpan lQ s) (lw_S q2009 q2010 q92 q2011) (by decide +kernel) rfl ⟨Nat.le_of_ble_eq_true rfl, Nat.le_of_ble_eq_true rfl⟩ hl.1 rfl (Nat.le_of_ble_eq_true rfl) dX5_shelter_1 ⟨Nat.le_of_ble_eq_true rfl, Nat.le_of_ble_eq_true rfl⟩ (fun v1 e1 => ?_)
  refine lv_if_eq (tgt := 17) hx hb dX5_shelter_4 (by decide) (fun c4 => ?_) (fun c4 => ?_)
  · skip
    refine lv_iconst (v := (-1)) hx hb dX5_shelter_17 (by decide) ?_
    refine mm_iret hx hb hr hlocks hW hS ?_ dX5_shelter_18
    have hres : ff_shelter S s y = ((-1), S) := by subst e1; simp only [ff_shelter, if_pos c4]
    exact ⟨by rw [hres], by rw [hres], rfl⟩
  · skip
    refine lv_iload_n hx hb dX5_shelter_7 rfl (lv_at hl 2 rfl) ?_
    refine lv_iconst (v := 1) hx hb dX5_shelter_8 (by decide) ?_
    refine lv_bipush (v := 60) hx hb dX5_shelter_9 (by decide) ?_
    refine pp_calli (As := [.int y, .int 1, .int 60]) (rest := []) (n := 3) ⟨hx, hb, hml, hown, hts⟩ (mc_in lQ y 1 60) (lw_S q1979 q1980 q92 q1981) (by decide +kernel) rfl ⟨Nat.le_of_ble_eq_true rfl, Nat.le_of_ble_eq_true rfl⟩ hl.1 rfl (Nat.le_of_ble_eq_true rfl) dX5_shelter_11 ⟨Nat.le_of_ble_eq_true rfl, Nat.le_of_ble_eq_true rfl⟩ (fun v11 e11 => ?_)
    refine lv_if_ne (tgt := 19) hx hb dX5_shelter_14 (by decide) (fun c14 => ?_) (fun c14 => ?_)
    · skip
      refine lv_aload_n hx hb dX5_shelter_19 rfl (lv_at hl 0 rfl) ?_
      refine mm_geti hx hb hts hown hK hW 21 rfl (by decide) q1706 dX5_shelter_20 ?_
      refine lv_if_lt (tgt := 29) hx hb dX5_shelter_23 (by decide) (fun c23 => ?_) (fun c23 => ?_)
      · have t23 : ((fd_ S 21)).toInt < 0 := ww_lt c23
        refine lv_aload_n hx hb dX5_shelter_29 rfl (lv_at hl 0 rfl) ?_
        refine mm_geti hx hb hts hown hK hW 4 rfl (by decide) q1689 dX5_shelter_30 ?_
        refine lv_bipush (v := 120) hx hb dX5_shelter_33 (by decide) ?_
        refine lv_icmp_ne (tgt := 41) hx hb dX5_shelter_35 (by decide) (fun c35 => ?_) (fun c35 => ?_)
        · skip
          refine lv_aload_n hx hb dX5_shelter_41 rfl (lv_at hl 0 rfl) ?_
          refine lv_aload_n hx hb dX5_shelter_42 rfl (lv_at hl 0 rfl) ?_
          refine lv_bipush (v := 6) hx hb dX5_shelter_43 (by decide) ?_
          refine mm_calli (As := [.int 6]) (rest := [.ref o]) (n := 1) ⟨hx, hb, hml, hown, hts⟩ hK (mc_add lQ G o S E 6 hB c35) (lw_V q1997 q1999 qs37 q92 q2000) (by decide +kernel) rfl ⟨Nat.le_of_ble_eq_true rfl, Nat.le_of_ble_eq_true rfl⟩ hW hS hl.1 rfl (Nat.le_of_ble_eq_true rfl) dX5_shelter_45 ⟨Nat.le_of_ble_eq_true rfl, Nat.le_of_ble_eq_true rfl⟩ (fun v45 S45 H locs e45 f45 hW hS => ?_)
          refine mm_puti hx hb hts hown hK hW hS 21 rfl (by decide) rfl rfl rfl q1706 dX5_shelter_48 (fun S48 H locs f48 hW hS => ?_)
          refine lv_aload_n hx hb dX5_shelter_51 rfl (lv_at hl 0 rfl) ?_
          refine lv_iload_n hx hb dX5_shelter_52 rfl (lv_at hl 1 rfl) ?_
          refine lv_bipush (v := 100) hx hb dX5_shelter_53 (by decide) ?_
          refine nv_idiv hx hb dX5_shelter_55 (by decide) (fun v55 e55 => ?_)
          refine mm_puti hx hb hts hown hK hW hS 22 rfl (by decide) rfl rfl rfl q1707 dX5_shelter_56 (fun S56 H locs f56 hW hS => ?_)
          refine lv_aload_n hx hb dX5_shelter_59 rfl (lv_at hl 0 rfl) ?_
          refine lv_iload_n hx hb dX5_shelter_60 rfl (lv_at hl 1 rfl) ?_
          refine lv_bipush (v := 100) hx hb dX5_shelter_61 (by decide) ?_
          refine nv_irem hx hb dX5_shelter_63 (by decide) (fun v63 e63 => ?_)
          refine mm_puti hx hb hts hown hK hW hS 23 rfl (by decide) rfl rfl rfl q1708 dX5_shelter_64 (fun S64 H locs f64 hW hS => ?_)
          refine lv_aload_n hx hb dX5_shelter_67 rfl (lv_at hl 0 rfl) ?_
          refine lv_iload_n hx hb dX5_shelter_68 rfl (lv_at hl 2 rfl) ?_
          refine mm_puti hx hb hts hown hK hW hS 24 rfl (by decide) rfl rfl rfl q1709 dX5_shelter_69 (fun S69 H locs f69 hW hS => ?_)
          refine lv_aload_n hx hb dX5_shelter_72 rfl (lv_at hl 0 rfl) ?_
          refine mm_geti hx hb hts hown hK hW 21 rfl (by decide) q1706 dX5_shelter_73 ?_
          refine mm_iret hx hb hr hlocks hW hS ?_ dX5_shelter_76
          have hres : ff_shelter S s y = ((fd_ S69 21), S69) := by subst e1 e11 e45 f45 f48 e55 f56 e63 f64 f69; simp only [ff_shelter, if_neg c4, if_neg c14, if_pos c23, if_neg c35]
          exact ⟨by rw [hres], by rw [hres], rfl⟩
        · skip
          refine lv_bipush (v := (-3)) hx hb dX5_shelter_38 (by decide) ?_
          refine mm_iret hx hb hr hlocks hW hS ?_ dX5_shelter_40
          have hres : ff_shelter S s y = ((-3), S) := by subst e1 e11; simp only [ff_shelter, if_neg c4, if_neg c14, if_pos c23, if_pos c35]
          exact ⟨by rw [hres], by rw [hres], rfl⟩
      · have t23 : 0 ≤ ((fd_ S 21)).toInt := ww_nlt c23
        refine lv_bipush (v := (-2)) hx hb dX5_shelter_26 (by decide) ?_
        refine mm_iret hx hb hr hlocks hW hS ?_ dX5_shelter_28
        have hres : ff_shelter S s y = ((-2), S) := by subst e1 e11; simp only [ff_shelter, if_neg c4, if_neg c14, if_neg c23]
        exact ⟨by rw [hres], by rw [hres], rfl⟩
    · skip
      refine lv_iconst (v := (-1)) hx hb dX5_shelter_17 (by decide) ?_
      refine mm_iret hx hb hr hlocks hW hS ?_ dX5_shelter_18
      have hres : ff_shelter S s y = ((-1), S) := by subst e1 e11; simp only [ff_shelter, if_neg c4, if_pos c14]
      exact ⟨by rw [hres], by rw [hres], rfl⟩

set_option maxHeartbeats 4000000 in
theorem mc_man (lQ : Launch) (G : wm_G) (o : Nat) (S : mm_S) (E : mm_E) (s : Int32) (w : Int32) (hB : iv_B S) : mm_Met lQ G o yX5_man (ws_ yX5_man cX5_man 4 (some .int)) 1 S E [.int s, .int w] (some (.int (ff_man S s w).1)) (ff_man S s w).2 E := by
  refine mm_start (by decide +kernel) (Nat.le_of_ble_eq_true rfl) rfl (fun pQ eQ sQ mQ belowQ methQ cQ hx hb hml hr hlocks hts hown hK H hW hS ls hl => ?_)
  have hl : lv_has ls 4 [(0, .ref o), (1, .int s), (2, .int w)] := hl
  generalize hlc : ([] : List Loc) = locs at hS ⊢
  refine lv_iload_n hx hb dX5_man_0 rfl (lv_at hl 1 rfl) ?_
  refine lv_iconst (v := 0) hx hb dX5_man_1 (by decide) ?_
  refine lv_sipush (v := 999) hx hb dX5_man_2 (by decide) ?_
  refine pp_calli (As := [.int s, .int 0, .int 999]) (rest := []) (n := 3) ⟨hx, hb, hml, hown, hts⟩ (mc_in lQ s 0 999) (lw_S q1979 q1980 q92 q1981) (by decide +kernel) rfl ⟨Nat.le_of_ble_eq_true rfl, Nat.le_of_ble_eq_true rfl⟩ hl.1 rfl (Nat.le_of_ble_eq_true rfl) dX5_man_5 ⟨Nat.le_of_ble_eq_true rfl, Nat.le_of_ble_eq_true rfl⟩ (fun v5 e5 => ?_)
  refine lv_if_eq (tgt := 21) hx hb dX5_man_8 (by decide) (fun c8 => ?_) (fun c8 => ?_)
  · skip
    refine lv_iconst (v := (-1)) hx hb dX5_man_21 (by decide) ?_
    refine mm_iret hx hb hr hlocks hW hS ?_ dX5_man_22
    have hres : ff_man S s w = ((-1), S) := by subst e5; simp only [ff_man, if_pos c8]
    exact ⟨by rw [hres], by rw [hres], rfl⟩
  · skip
    refine lv_iload_n hx hb dX5_man_11 rfl (lv_at hl 2 rfl) ?_
    refine lv_iconst (v := 0) hx hb dX5_man_12 (by decide) ?_
    refine lv_bipush (v := 99) hx hb dX5_man_13 (by decide) ?_
    refine pp_calli (As := [.int w, .int 0, .int 99]) (rest := []) (n := 3) ⟨hx, hb, hml, hown, hts⟩ (mc_in lQ w 0 99) (lw_S q1979 q1980 q92 q1981) (by decide +kernel) rfl ⟨Nat.le_of_ble_eq_true rfl, Nat.le_of_ble_eq_true rfl⟩ hl.1 rfl (Nat.le_of_ble_eq_true rfl) dX5_man_15 ⟨Nat.le_of_ble_eq_true rfl, Nat.le_of_ble_eq_true rfl⟩ (fun v15 e15 => ?_)
    refine lv_if_ne (tgt := 23) hx hb dX5_man_18 (by decide) (fun c18 => ?_) (fun c18 => ?_)
    · skip
      refine lv_aload_n hx hb dX5_man_23 rfl (lv_at hl 0 rfl) ?_
      refine mm_geti hx hb hts hown hK hW 4 rfl (by decide) q1689 dX5_man_24 ?_
      refine lv_bipush (v := 120) hx hb dX5_man_27 (by decide) ?_
      refine lv_icmp_ne (tgt := 35) hx hb dX5_man_29 (by decide) (fun c29 => ?_) (fun c29 => ?_)
      · skip
        refine lv_aload_n hx hb dX5_man_35 rfl (lv_at hl 0 rfl) ?_
        refine lv_bipush (v := 7) hx hb dX5_man_36 (by decide) ?_
        refine mm_calli (As := [.int 7]) (rest := []) (n := 1) ⟨hx, hb, hml, hown, hts⟩ hK (mc_add lQ G o S E 7 hB c29) (lw_V q1997 q1999 qs37 q92 q2000) (by decide +kernel) rfl ⟨Nat.le_of_ble_eq_true rfl, Nat.le_of_ble_eq_true rfl⟩ hW hS hl.1 rfl (Nat.le_of_ble_eq_true rfl) dX5_man_38 ⟨Nat.le_of_ble_eq_true rfl, Nat.le_of_ble_eq_true rfl⟩ (fun v38 S38 H locs e38 f38 hW hS => ?_)
        obtain ⟨h0, hlt⟩ := iv_B_lt hB c29
        refine lv_istore_n (lv' := [(3, .int v38), (0, .ref o), (1, .int s), (2, .int w)]) hx hb dX5_man_41 rfl hl (by decide) rfl (fun ls hl => ?_)
        refine lv_aload_n hx hb dX5_man_42 rfl (lv_at hl 1 rfl) ?_
        refine mm_geta hx hb hts hown hK hW 17 rfl q1702 dX5_man_43 ?_
        refine lv_iload_n hx hb dX5_man_46 rfl (lv_at hl 0 rfl) ?_
        refine lv_iload_n hx hb dX5_man_47 rfl (lv_at hl 2 rfl) ?_
        refine mm_iast hx hb hK hW hS 17 rfl (by rw [e38, ff_add_1]; exact ww_in hB.1 hlt) dX5_man_48 (fun S48 H locs f48 hW hS => ?_)
        refine lv_aload_n hx hb dX5_man_49 rfl (lv_at hl 1 rfl) ?_
        refine mm_geta hx hb hts hown hK hW 18 rfl q1703 dX5_man_50 ?_
        refine lv_iload_n hx hb dX5_man_53 rfl (lv_at hl 0 rfl) ?_
        refine lv_iload_n hx hb dX5_man_54 rfl (lv_at hl 3 rfl) ?_
        refine lv_bipush (v := 10) hx hb dX5_man_55 (by decide) ?_
        refine nv_idiv hx hb dX5_man_57 (by decide) (fun v57 e57 => ?_)
        refine mm_iast hx hb hK hW hS 18 rfl (by rw [e38, ff_add_1]; exact ww_in hB.1 hlt) dX5_man_58 (fun S58 H locs f58 hW hS => ?_)
        refine lv_aload_n hx hb dX5_man_59 rfl (lv_at hl 1 rfl) ?_
        refine mm_geta hx hb hts hown hK hW 19 rfl q1704 dX5_man_60 ?_
        refine lv_iload_n hx hb dX5_man_63 rfl (lv_at hl 0 rfl) ?_
        refine lv_iload_n hx hb dX5_man_64 rfl (lv_at hl 3 rfl) ?_
        refine lv_bipush (v := 10) hx hb dX5_man_65 (by decide) ?_
        refine nv_irem hx hb dX5_man_67 (by decide) (fun v67 e67 => ?_)
        refine mm_iast hx hb hK hW hS 19 rfl (by rw [e38, ff_add_1]; exact ww_in hB.1 hlt) dX5_man_68 (fun S68 H locs f68 hW hS => ?_)
        refine lv_aload_n hx hb dX5_man_69 rfl (lv_at hl 1 rfl) ?_
        refine mm_geta hx hb hts hown hK hW 20 rfl q1705 dX5_man_70 ?_
        refine lv_iload_n hx hb dX5_man_73 rfl (lv_at hl 0 rfl) ?_
        refine lv_iconst (v := 1) hx hb dX5_man_74 (by decide) ?_
        refine mm_zast hx hb hK hW hS 20 rfl rfl (by rw [e38, ff_add_1]; exact ww_in hB.1 hlt) dX5_man_75 (fun S75 H locs f75 hW hS => ?_)
        refine lv_iload_n hx hb dX5_man_76 rfl (lv_at hl 0 rfl) ?_
        refine mm_iret hx hb hr hlocks hW hS ?_ dX5_man_77
        have hres : ff_man S s w = (v38, S75) := by subst e5 e15 e38 f38 f48 e57 f58 e67 f68 f75; simp only [ff_man, if_neg c8, if_neg c18, if_neg c29]
        exact ⟨by rw [hres], by rw [hres], rfl⟩
      · skip
        refine lv_bipush (v := (-3)) hx hb dX5_man_32 (by decide) ?_
        refine mm_iret hx hb hr hlocks hW hS ?_ dX5_man_34
        have hres : ff_man S s w = ((-3), S) := by subst e5 e15; simp only [ff_man, if_neg c8, if_neg c18, if_pos c29]
        exact ⟨by rw [hres], by rw [hres], rfl⟩
    · skip
      refine lv_iconst (v := (-1)) hx hb dX5_man_21 (by decide) ?_
      refine mm_iret hx hb hr hlocks hW hS ?_ dX5_man_22
      have hres : ff_man S s w = ((-1), S) := by subst e5 e15; simp only [ff_man, if_neg c8, if_pos c18]
      exact ⟨by rw [hres], by rw [hres], rfl⟩

set_option maxHeartbeats 4000000 in
theorem mc_ofBody (lQ : Launch) (G : wm_G) (o : Nat) (S : mm_S) (E : mm_E) (b : Int32) (w : Int32) (hB : iv_B S) : mm_Met lQ G o yX5_ofBody (ws_ yX5_ofBody cX5_ofBody 3 (some .int)) 3 S E [.int b, .int w] (some (.int (ff_ofBody S b w))) S E := by
  refine mm_start (by decide +kernel) (Nat.le_of_ble_eq_true rfl) rfl (fun pQ eQ sQ mQ belowQ methQ cQ hx hb hml hr hlocks hts hown hK H hW hS ls hl => ?_)
  have hl : lv_has ls 3 [(0, .ref o), (1, .int b), (2, .int w)] := hl
  generalize hlc : ([] : List Loc) = locs at hS ⊢
  refine lv_aload_n hx hb dX5_ofBody_0 rfl (lv_at hl 0 rfl) ?_
  refine lv_iload_n hx hb dX5_ofBody_1 rfl (lv_at hl 1 rfl) ?_
  refine mm_callp (As := [.int b]) (rest := []) (n := 1) ⟨hx, hb, hml, hown, hts⟩ hK (mc_isBody lQ G o S E b) (lw_V q2020 q2022 qs38 q92 q2023) (by decide +kernel) rfl ⟨Nat.le_of_ble_eq_true rfl, Nat.le_of_ble_eq_true rfl⟩ hW hS hl.1 rfl (Nat.le_of_ble_eq_true rfl) dX5_ofBody_2 ⟨Nat.le_of_ble_eq_true rfl, Nat.le_of_ble_eq_true rfl⟩ (fun v2 H locs e2 hW hS => ?_)
  refine lv_if_ne (tgt := 12) hx hb dX5_ofBody_5 (by decide) (fun c5 => ?_) (fun c5 => ?_)
  · skip
    refine lv_iload_n hx hb dX5_ofBody_12 rfl (lv_at hl 2 rfl) ?_
    refine lv_if_ne (tgt := 23) hx hb dX5_ofBody_13 (by decide) (fun c13 => ?_) (fun c13 => ?_)
    · skip
      refine lv_aload_n hx hb dX5_ofBody_23 rfl (lv_at hl 0 rfl) ?_
      refine lv_iload_n hx hb dX5_ofBody_24 rfl (lv_at hl 1 rfl) ?_
      refine mm_callp (As := [.int b]) (rest := []) (n := 1) ⟨hx, hb, hml, hown, hts⟩ hK (mc_isHole lQ G o S E b hB) (lw_V q2025 q2027 qs39 q92 q2028) (by decide +kernel) rfl ⟨Nat.le_of_ble_eq_true rfl, Nat.le_of_ble_eq_true rfl⟩ hW hS hl.1 rfl (Nat.le_of_ble_eq_true rfl) dX5_ofBody_25 ⟨Nat.le_of_ble_eq_true rfl, Nat.le_of_ble_eq_true rfl⟩ (fun v25 H locs e25 hW hS => ?_)
      refine lv_if_eq (tgt := 137) hx hb dX5_ofBody_28 (by decide) (fun c28 => ?_) (fun c28 => ?_)
      · skip
        refine lv_aload_n hx hb dX5_ofBody_137 rfl (lv_at hl 0 rfl) ?_
        refine mm_geta hx hb hts hown hK hW 5 rfl q1690 dX5_ofBody_138 ?_
        refine lv_iload_n hx hb dX5_ofBody_141 rfl (lv_at hl 1 rfl) ?_
        refine mm_iald hx hb hK hW 5 rfl (by have t := ff_isBody_t hB (by rw [← e2]; exact c5); exact ww_in t.1 t.2.2) dX5_ofBody_142 ?_
        refine lv_bipush (v := 6) hx hb dX5_ofBody_143 (by decide) ?_
        refine lv_icmp_ne (tgt := 208) hx hb dX5_ofBody_145 (by decide) (fun c145 => ?_) (fun c145 => ?_)
        · skip
          refine lv_aload_n hx hb dX5_ofBody_208 rfl (lv_at hl 0 rfl) ?_
          refine mm_geta hx hb hts hown hK hW 5 rfl q1690 dX5_ofBody_209 ?_
          refine lv_iload_n hx hb dX5_ofBody_212 rfl (lv_at hl 1 rfl) ?_
          refine mm_iald hx hb hK hW 5 rfl (by have t := ff_isBody_t hB (by rw [← e2]; exact c5); exact ww_in t.1 t.2.2) dX5_ofBody_213 ?_
          refine lv_bipush (v := 7) hx hb dX5_ofBody_214 (by decide) ?_
          refine lv_icmp_eq (tgt := 223) hx hb dX5_ofBody_216 (by decide) (fun c216 => ?_) (fun c216 => ?_)
          · skip
            refine lv_iload_n hx hb dX5_ofBody_223 rfl (lv_at hl 2 rfl) ?_
            refine lv_iconst (v := 1) hx hb dX5_ofBody_224 (by decide) ?_
            refine lv_icmp_ne (tgt := 237) hx hb dX5_ofBody_225 (by decide) (fun c225 => ?_) (fun c225 => ?_)
            · skip
              refine lv_iload_n hx hb dX5_ofBody_237 rfl (lv_at hl 2 rfl) ?_
              refine lv_iconst (v := 2) hx hb dX5_ofBody_238 (by decide) ?_
              refine lv_icmp_ne (tgt := 251) hx hb dX5_ofBody_239 (by decide) (fun c239 => ?_) (fun c239 => ?_)
              · skip
                refine lv_iload_n hx hb dX5_ofBody_251 rfl (lv_at hl 2 rfl) ?_
                refine lv_iconst (v := 3) hx hb dX5_ofBody_252 (by decide) ?_
                refine lv_icmp_ne (tgt := 265) hx hb dX5_ofBody_253 (by decide) (fun c253 => ?_) (fun c253 => ?_)
                · skip
                  refine lv_iload_n hx hb dX5_ofBody_265 rfl (lv_at hl 2 rfl) ?_
                  refine lv_iconst (v := 4) hx hb dX5_ofBody_266 (by decide) ?_
                  refine lv_icmp_ne (tgt := 287) hx hb dX5_ofBody_267 (by decide) (fun c267 => ?_) (fun c267 => ?_)
                  · skip
                    refine lv_ldcw (v := (-2000000000)) hx hb hown (hts _ q2024) dX5_ofBody_287 ?_
                    refine mm_iret hx hb hr hlocks hW hS ?_ dX5_ofBody_290
                    have hres : ff_ofBody S b w = (-2000000000) := by subst e2 e25; simp only [ff_ofBody, if_neg c5, if_neg c13, if_pos c28, if_neg c145, if_pos c216, if_neg c225, if_neg c239, if_neg c253, if_neg c267]
                    exact ⟨by rw [hres], rfl, rfl⟩
                  · skip
                    refine lv_aload_n hx hb dX5_ofBody_270 rfl (lv_at hl 0 rfl) ?_
                    refine mm_geta hx hb hts hown hK hW 20 rfl q1705 dX5_ofBody_271 ?_
                    refine lv_iload_n hx hb dX5_ofBody_274 rfl (lv_at hl 1 rfl) ?_
                    refine mm_zald hx hb hK hW 20 rfl (by have t := ff_isBody_t hB (by rw [← e2]; exact c5); exact ww_in t.1 t.2.2) dX5_ofBody_275 ?_
                    refine lv_if_eq (tgt := 283) hx hb dX5_ofBody_276 (by decide) (fun c276 => ?_) (fun c276 => ?_)
                    · skip
                      refine lv_iconst (v := 0) hx hb dX5_ofBody_283 (by decide) ?_
                      refine lv_goto (tgt := 290) hx hb dX5_ofBody_284 (by decide) ?_
                      refine mm_iret hx hb hr hlocks hW hS ?_ dX5_ofBody_290
                      have hres : ff_ofBody S b w = 0 := by subst e2 e25; simp only [ff_ofBody, if_neg c5, if_neg c13, if_pos c28, if_neg c145, if_pos c216, if_neg c225, if_neg c239, if_neg c253, if_pos c267, if_pos c276]
                      exact ⟨by rw [hres], rfl, rfl⟩
                    · skip
                      refine lv_iconst (v := 1) hx hb dX5_ofBody_279 (by decide) ?_
                      refine lv_goto (tgt := 290) hx hb dX5_ofBody_280 (by decide) ?_
                      refine mm_iret hx hb hr hlocks hW hS ?_ dX5_ofBody_290
                      have hres : ff_ofBody S b w = 1 := by subst e2 e25; simp only [ff_ofBody, if_neg c5, if_neg c13, if_pos c28, if_neg c145, if_pos c216, if_neg c225, if_neg c239, if_neg c253, if_pos c267, if_neg c276]
                      exact ⟨by rw [hres], rfl, rfl⟩
                · skip
                  refine lv_aload_n hx hb dX5_ofBody_256 rfl (lv_at hl 0 rfl) ?_
                  refine mm_geta hx hb hts hown hK hW 19 rfl q1704 dX5_ofBody_257 ?_
                  refine lv_iload_n hx hb dX5_ofBody_260 rfl (lv_at hl 1 rfl) ?_
                  refine mm_iald hx hb hK hW 19 rfl (by have t := ff_isBody_t hB (by rw [← e2]; exact c5); exact ww_in t.1 t.2.2) dX5_ofBody_261 ?_
                  refine lv_goto (tgt := 290) hx hb dX5_ofBody_262 (by decide) ?_
                  refine mm_iret hx hb hr hlocks hW hS ?_ dX5_ofBody_290
                  have hres : ff_ofBody S b w = (rd_ S 19 b) := by subst e2 e25; simp only [ff_ofBody, if_neg c5, if_neg c13, if_pos c28, if_neg c145, if_pos c216, if_neg c225, if_neg c239, if_pos c253]
                  exact ⟨by rw [hres], rfl, rfl⟩
              · skip
                refine lv_aload_n hx hb dX5_ofBody_242 rfl (lv_at hl 0 rfl) ?_
                refine mm_geta hx hb hts hown hK hW 18 rfl q1703 dX5_ofBody_243 ?_
                refine lv_iload_n hx hb dX5_ofBody_246 rfl (lv_at hl 1 rfl) ?_
                refine mm_iald hx hb hK hW 18 rfl (by have t := ff_isBody_t hB (by rw [← e2]; exact c5); exact ww_in t.1 t.2.2) dX5_ofBody_247 ?_
                refine lv_goto (tgt := 290) hx hb dX5_ofBody_248 (by decide) ?_
                refine mm_iret hx hb hr hlocks hW hS ?_ dX5_ofBody_290
                have hres : ff_ofBody S b w = (rd_ S 18 b) := by subst e2 e25; simp only [ff_ofBody, if_neg c5, if_neg c13, if_pos c28, if_neg c145, if_pos c216, if_neg c225, if_pos c239]
                exact ⟨by rw [hres], rfl, rfl⟩
            · skip
              refine lv_aload_n hx hb dX5_ofBody_228 rfl (lv_at hl 0 rfl) ?_
              refine mm_geta hx hb hts hown hK hW 17 rfl q1702 dX5_ofBody_229 ?_
              refine lv_iload_n hx hb dX5_ofBody_232 rfl (lv_at hl 1 rfl) ?_
              refine mm_iald hx hb hK hW 17 rfl (by have t := ff_isBody_t hB (by rw [← e2]; exact c5); exact ww_in t.1 t.2.2) dX5_ofBody_233 ?_
              refine lv_goto (tgt := 290) hx hb dX5_ofBody_234 (by decide) ?_
              refine mm_iret hx hb hr hlocks hW hS ?_ dX5_ofBody_290
              have hres : ff_ofBody S b w = (rd_ S 17 b) := by subst e2 e25; simp only [ff_ofBody, if_neg c5, if_neg c13, if_pos c28, if_neg c145, if_pos c216, if_pos c225]
              exact ⟨by rw [hres], rfl, rfl⟩
          · skip
            refine lv_ldcw (v := (-2000000000)) hx hb hown (hts _ q2024) dX5_ofBody_219 ?_
            refine mm_iret hx hb hr hlocks hW hS ?_ dX5_ofBody_222
            have hres : ff_ofBody S b w = (-2000000000) := by subst e2 e25; simp only [ff_ofBody, if_neg c5, if_neg c13, if_pos c28, if_neg c145, if_neg c216]
            exact ⟨by rw [hres], rfl, rfl⟩
        · skip
          refine lv_iload_n hx hb dX5_ofBody_148 rfl (lv_at hl 2 rfl) ?_
          refine lv_iconst (v := 1) hx hb dX5_ofBody_149 (by decide) ?_
          refine lv_icmp_ne (tgt := 160) hx hb dX5_ofBody_150 (by decide) (fun c150 => ?_) (fun c150 => ?_)
          · skip
            refine lv_iload_n hx hb dX5_ofBody_160 rfl (lv_at hl 2 rfl) ?_
            refine lv_iconst (v := 2) hx hb dX5_ofBody_161 (by decide) ?_
            refine lv_icmp_ne (tgt := 172) hx hb dX5_ofBody_162 (by decide) (fun c162 => ?_) (fun c162 => ?_)
            · skip
              refine lv_iload_n hx hb dX5_ofBody_172 rfl (lv_at hl 2 rfl) ?_
              refine lv_iconst (v := 3) hx hb dX5_ofBody_173 (by decide) ?_
              refine lv_icmp_ne (tgt := 184) hx hb dX5_ofBody_174 (by decide) (fun c174 => ?_) (fun c174 => ?_)
              · skip
                refine lv_iload_n hx hb dX5_ofBody_184 rfl (lv_at hl 2 rfl) ?_
                refine lv_iconst (v := 4) hx hb dX5_ofBody_185 (by decide) ?_
                refine lv_icmp_ne (tgt := 204) hx hb dX5_ofBody_186 (by decide) (fun c186 => ?_) (fun c186 => ?_)
                · skip
                  refine lv_ldcw (v := (-2000000000)) hx hb hown (hts _ q2024) dX5_ofBody_204 ?_
                  refine mm_iret hx hb hr hlocks hW hS ?_ dX5_ofBody_207
                  have hres : ff_ofBody S b w = (-2000000000) := by subst e2 e25; simp only [ff_ofBody, if_neg c5, if_neg c13, if_pos c28, if_pos c145, if_neg c150, if_neg c162, if_neg c174, if_neg c186]
                  exact ⟨by rw [hres], rfl, rfl⟩
                · skip
                  refine lv_aload_n hx hb dX5_ofBody_189 rfl (lv_at hl 0 rfl) ?_
                  refine mm_geti hx hb hts hown hK hW 25 rfl (by decide) q1710 dX5_ofBody_190 ?_
                  refine lv_if_eq (tgt := 200) hx hb dX5_ofBody_193 (by decide) (fun c193 => ?_) (fun c193 => ?_)
                  · skip
                    refine lv_iconst (v := 0) hx hb dX5_ofBody_200 (by decide) ?_
                    refine lv_goto (tgt := 207) hx hb dX5_ofBody_201 (by decide) ?_
                    refine mm_iret hx hb hr hlocks hW hS ?_ dX5_ofBody_207
                    have hres : ff_ofBody S b w = 0 := by subst e2 e25; simp only [ff_ofBody, if_neg c5, if_neg c13, if_pos c28, if_pos c145, if_neg c150, if_neg c162, if_neg c174, if_pos c186, if_pos c193]
                    exact ⟨by rw [hres], rfl, rfl⟩
                  · skip
                    refine lv_iconst (v := 1) hx hb dX5_ofBody_196 (by decide) ?_
                    refine lv_goto (tgt := 207) hx hb dX5_ofBody_197 (by decide) ?_
                    refine mm_iret hx hb hr hlocks hW hS ?_ dX5_ofBody_207
                    have hres : ff_ofBody S b w = 1 := by subst e2 e25; simp only [ff_ofBody, if_neg c5, if_neg c13, if_pos c28, if_pos c145, if_neg c150, if_neg c162, if_neg c174, if_pos c186, if_neg c193]
                    exact ⟨by rw [hres], rfl, rfl⟩
              · skip
                refine lv_aload_n hx hb dX5_ofBody_177 rfl (lv_at hl 0 rfl) ?_
                refine mm_geti hx hb hts hown hK hW 24 rfl (by decide) q1709 dX5_ofBody_178 ?_
                refine lv_goto (tgt := 207) hx hb dX5_ofBody_181 (by decide) ?_
                refine mm_iret hx hb hr hlocks hW hS ?_ dX5_ofBody_207
                have hres : ff_ofBody S b w = (fd_ S 24) := by subst e2 e25; simp only [ff_ofBody, if_neg c5, if_neg c13, if_pos c28, if_pos c145, if_neg c150, if_neg c162, if_pos c174]
                exact ⟨by rw [hres], rfl, rfl⟩
            · skip
              refine lv_aload_n hx hb dX5_ofBody_165 rfl (lv_at hl 0 rfl) ?_
              refine mm_geti hx hb hts hown hK hW 23 rfl (by decide) q1708 dX5_ofBody_166 ?_
              refine lv_goto (tgt := 207) hx hb dX5_ofBody_169 (by decide) ?_
              refine mm_iret hx hb hr hlocks hW hS ?_ dX5_ofBody_207
              have hres : ff_ofBody S b w = (fd_ S 23) := by subst e2 e25; simp only [ff_ofBody, if_neg c5, if_neg c13, if_pos c28, if_pos c145, if_neg c150, if_pos c162]
              exact ⟨by rw [hres], rfl, rfl⟩
          · skip
            refine lv_aload_n hx hb dX5_ofBody_153 rfl (lv_at hl 0 rfl) ?_
            refine mm_geti hx hb hts hown hK hW 22 rfl (by decide) q1707 dX5_ofBody_154 ?_
            refine lv_goto (tgt := 207) hx hb dX5_ofBody_157 (by decide) ?_
            refine mm_iret hx hb hr hlocks hW hS ?_ dX5_ofBody_207
            have hres : ff_ofBody S b w = (fd_ S 22) := by subst e2 e25; simp only [ff_ofBody, if_neg c5, if_neg c13, if_pos c28, if_pos c145, if_pos c150]
            exact ⟨by rw [hres], rfl, rfl⟩
      · skip
        refine lv_iload_n hx hb dX5_ofBody_31 rfl (lv_at hl 2 rfl) ?_
        by_cases k32_1 : w = 1
        · skip
          refine lv_tableIn (off := 44) (tgt := 76) hx hb dX5_ofBody_32 (by rw [k32_1]; decide) (by rw [k32_1]; decide) (by rw [k32_1]; rfl) (by decide) ?_
          refine lv_aload_n hx hb dX5_ofBody_76 rfl (lv_at hl 0 rfl) ?_
          refine mm_geta hx hb hts hown hK hW 6 rfl q1691 dX5_ofBody_77 ?_
          refine lv_iload_n hx hb dX5_ofBody_80 rfl (lv_at hl 1 rfl) ?_
          refine mm_iald hx hb hK hW 6 rfl (by have t := ff_isBody_t hB (by rw [← e2]; exact c5); exact ww_in t.1 t.2.2) dX5_ofBody_81 ?_
          refine mm_iret hx hb hr hlocks hW hS ?_ dX5_ofBody_82
          have hres : ff_ofBody S b w = (rd_ S 6 b) := by subst e2 e25; simp only [ff_ofBody, if_neg c5, if_neg c13, if_neg c28, if_pos k32_1]
          exact ⟨by rw [hres], rfl, rfl⟩
        · skip
          by_cases k32_2 : w = 2
          · skip
            refine lv_tableIn (off := 51) (tgt := 83) hx hb dX5_ofBody_32 (by rw [k32_2]; decide) (by rw [k32_2]; decide) (by rw [k32_2]; rfl) (by decide) ?_
            refine lv_aload_n hx hb dX5_ofBody_83 rfl (lv_at hl 0 rfl) ?_
            refine mm_geta hx hb hts hown hK hW 7 rfl q1692 dX5_ofBody_84 ?_
            refine lv_iload_n hx hb dX5_ofBody_87 rfl (lv_at hl 1 rfl) ?_
            refine mm_iald hx hb hK hW 7 rfl (by have t := ff_isBody_t hB (by rw [← e2]; exact c5); exact ww_in t.1 t.2.2) dX5_ofBody_88 ?_
            refine mm_iret hx hb hr hlocks hW hS ?_ dX5_ofBody_89
            have hres : ff_ofBody S b w = (rd_ S 7 b) := by subst e2 e25; simp only [ff_ofBody, if_neg c5, if_neg c13, if_neg c28, if_neg k32_1, if_pos k32_2]
            exact ⟨by rw [hres], rfl, rfl⟩
          · skip
            by_cases k32_3 : w = 3
            · skip
              refine lv_tableIn (off := 58) (tgt := 90) hx hb dX5_ofBody_32 (by rw [k32_3]; decide) (by rw [k32_3]; decide) (by rw [k32_3]; rfl) (by decide) ?_
              refine lv_aload_n hx hb dX5_ofBody_90 rfl (lv_at hl 0 rfl) ?_
              refine mm_geta hx hb hts hown hK hW 10 rfl q1695 dX5_ofBody_91 ?_
              refine lv_iload_n hx hb dX5_ofBody_94 rfl (lv_at hl 1 rfl) ?_
              refine mm_iald hx hb hK hW 10 rfl (by have t := ff_isBody_t hB (by rw [← e2]; exact c5); exact ww_in t.1 t.2.2) dX5_ofBody_95 ?_
              refine mm_iret hx hb hr hlocks hW hS ?_ dX5_ofBody_96
              have hres : ff_ofBody S b w = (rd_ S 10 b) := by subst e2 e25; simp only [ff_ofBody, if_neg c5, if_neg c13, if_neg c28, if_neg k32_1, if_neg k32_2, if_pos k32_3]
              exact ⟨by rw [hres], rfl, rfl⟩
            · skip
              by_cases k32_4 : w = 4
              · skip
                refine lv_tableIn (off := 65) (tgt := 97) hx hb dX5_ofBody_32 (by rw [k32_4]; decide) (by rw [k32_4]; decide) (by rw [k32_4]; rfl) (by decide) ?_
                refine lv_aload_n hx hb dX5_ofBody_97 rfl (lv_at hl 0 rfl) ?_
                refine mm_geta hx hb hts hown hK hW 8 rfl q1693 dX5_ofBody_98 ?_
                refine lv_iload_n hx hb dX5_ofBody_101 rfl (lv_at hl 1 rfl) ?_
                refine mm_iald hx hb hK hW 8 rfl (by have t := ff_isBody_t hB (by rw [← e2]; exact c5); exact ww_in t.1 t.2.2) dX5_ofBody_102 ?_
                refine mm_iret hx hb hr hlocks hW hS ?_ dX5_ofBody_103
                have hres : ff_ofBody S b w = (rd_ S 8 b) := by subst e2 e25; simp only [ff_ofBody, if_neg c5, if_neg c13, if_neg c28, if_neg k32_1, if_neg k32_2, if_neg k32_3, if_pos k32_4]
                exact ⟨by rw [hres], rfl, rfl⟩
              · skip
                by_cases k32_5 : w = 5
                · skip
                  refine lv_tableIn (off := 72) (tgt := 104) hx hb dX5_ofBody_32 (by rw [k32_5]; decide) (by rw [k32_5]; decide) (by rw [k32_5]; rfl) (by decide) ?_
                  refine lv_aload_n hx hb dX5_ofBody_104 rfl (lv_at hl 0 rfl) ?_
                  refine mm_geta hx hb hts hown hK hW 12 rfl q1697 dX5_ofBody_105 ?_
                  refine lv_iload_n hx hb dX5_ofBody_108 rfl (lv_at hl 1 rfl) ?_
                  refine mm_iald hx hb hK hW 12 rfl (by have t := ff_isBody_t hB (by rw [← e2]; exact c5); exact ww_in t.1 t.2.2) dX5_ofBody_109 ?_
                  refine lv_if_le (tgt := 117) hx hb dX5_ofBody_110 (by decide) (fun c110 => ?_) (fun c110 => ?_)
                  · have t110 : ((rd_ S 12 b)).toInt ≤ 0 := ww_le c110
                    refine lv_iconst (v := 0) hx hb dX5_ofBody_117 (by decide) ?_
                    refine mm_iret hx hb hr hlocks hW hS ?_ dX5_ofBody_118
                    have hres : ff_ofBody S b w = 0 := by subst e2 e25; simp only [ff_ofBody, if_neg c5, if_neg c13, if_neg c28, if_neg k32_1, if_neg k32_2, if_neg k32_3, if_neg k32_4, if_pos k32_5, if_pos c110]
                    exact ⟨by rw [hres], rfl, rfl⟩
                  · have t110 : 0 < ((rd_ S 12 b)).toInt := ww_nle c110
                    refine lv_iconst (v := 1) hx hb dX5_ofBody_113 (by decide) ?_
                    refine lv_goto (tgt := 118) hx hb dX5_ofBody_114 (by decide) ?_
                    refine mm_iret hx hb hr hlocks hW hS ?_ dX5_ofBody_118
                    have hres : ff_ofBody S b w = 1 := by subst e2 e25; simp only [ff_ofBody, if_neg c5, if_neg c13, if_neg c28, if_neg k32_1, if_neg k32_2, if_neg k32_3, if_neg k32_4, if_pos k32_5, if_neg c110]
                    exact ⟨by rw [hres], rfl, rfl⟩
                · skip
                  by_cases k32_6 : w = 6
                  · skip
                    refine lv_tableIn (off := 87) (tgt := 119) hx hb dX5_ofBody_32 (by rw [k32_6]; decide) (by rw [k32_6]; decide) (by rw [k32_6]; rfl) (by decide) ?_
                    refine lv_aload_n hx hb dX5_ofBody_119 rfl (lv_at hl 0 rfl) ?_
                    refine mm_geta hx hb hts hown hK hW 11 rfl q1696 dX5_ofBody_120 ?_
                    refine lv_iload_n hx hb dX5_ofBody_123 rfl (lv_at hl 1 rfl) ?_
                    refine mm_iald hx hb hK hW 11 rfl (by have t := ff_isBody_t hB (by rw [← e2]; exact c5); exact ww_in t.1 t.2.2) dX5_ofBody_124 ?_
                    refine mm_iret hx hb hr hlocks hW hS ?_ dX5_ofBody_125
                    have hres : ff_ofBody S b w = (rd_ S 11 b) := by subst e2 e25; simp only [ff_ofBody, if_neg c5, if_neg c13, if_neg c28, if_neg k32_1, if_neg k32_2, if_neg k32_3, if_neg k32_4, if_neg k32_5, if_pos k32_6]
                    exact ⟨by rw [hres], rfl, rfl⟩
                  · skip
                    by_cases k32_7 : w = 7
                    · skip
                      refine lv_tableIn (off := 94) (tgt := 126) hx hb dX5_ofBody_32 (by rw [k32_7]; decide) (by rw [k32_7]; decide) (by rw [k32_7]; rfl) (by decide) ?_
                      refine lv_aload_n hx hb dX5_ofBody_126 rfl (lv_at hl 0 rfl) ?_
                      refine mm_geta hx hb hts hown hK hW 9 rfl q1694 dX5_ofBody_127 ?_
                      refine lv_iload_n hx hb dX5_ofBody_130 rfl (lv_at hl 1 rfl) ?_
                      refine mm_iald hx hb hK hW 9 rfl (by have t := ff_isBody_t hB (by rw [← e2]; exact c5); exact ww_in t.1 t.2.2) dX5_ofBody_131 ?_
                      refine mm_iret hx hb hr hlocks hW hS ?_ dX5_ofBody_132
                      have hres : ff_ofBody S b w = (rd_ S 9 b) := by subst e2 e25; simp only [ff_ofBody, if_neg c5, if_neg c13, if_neg c28, if_neg k32_1, if_neg k32_2, if_neg k32_3, if_neg k32_4, if_neg k32_5, if_neg k32_6, if_pos k32_7]
                      exact ⟨by rw [hres], rfl, rfl⟩
                    · skip
                      refine lv_tableOut (tgt := 133) hx hb dX5_ofBody_32 (by have hk32_1 : (w).toInt ≠ 1 := ww_ne k32_1; have hk32_2 : (w).toInt ≠ 2 := ww_ne k32_2; have hk32_3 : (w).toInt ≠ 3 := ww_ne k32_3; have hk32_4 : (w).toInt ≠ 4 := ww_ne k32_4; have hk32_5 : (w).toInt ≠ 5 := ww_ne k32_5; have hk32_6 : (w).toInt ≠ 6 := ww_ne k32_6; have hk32_7 : (w).toInt ≠ 7 := ww_ne k32_7; omega) (by decide) ?_
                      refine lv_ldcw (v := (-2000000000)) hx hb hown (hts _ q2024) dX5_ofBody_133 ?_
                      refine mm_iret hx hb hr hlocks hW hS ?_ dX5_ofBody_136
                      have hres : ff_ofBody S b w = (-2000000000) := by subst e2 e25; simp only [ff_ofBody, if_neg c5, if_neg c13, if_neg c28, if_neg k32_1, if_neg k32_2, if_neg k32_3, if_neg k32_4, if_neg k32_5, if_neg k32_6, if_neg k32_7]
                      exact ⟨by rw [hres], rfl, rfl⟩
    · skip
      refine lv_aload_n hx hb dX5_ofBody_16 rfl (lv_at hl 0 rfl) ?_
      refine mm_geta hx hb hts hown hK hW 5 rfl q1690 dX5_ofBody_17 ?_
      refine lv_iload_n hx hb dX5_ofBody_20 rfl (lv_at hl 1 rfl) ?_
      refine mm_iald hx hb hK hW 5 rfl (by have t := ff_isBody_t hB (by rw [← e2]; exact c5); exact ww_in t.1 t.2.2) dX5_ofBody_21 ?_
      refine mm_iret hx hb hr hlocks hW hS ?_ dX5_ofBody_22
      have hres : ff_ofBody S b w = (rd_ S 5 b) := by subst e2; simp only [ff_ofBody, if_neg c5, if_pos c13]
      exact ⟨by rw [hres], rfl, rfl⟩
  · skip
    refine lv_ldcw (v := (-2000000000)) hx hb hown (hts _ q2024) dX5_ofBody_8 ?_
    refine mm_iret hx hb hr hlocks hW hS ?_ dX5_ofBody_11
    have hres : ff_ofBody S b w = (-2000000000) := by subst e2; simp only [ff_ofBody, if_pos c5]
    exact ⟨by rw [hres], rfl, rfl⟩

set_option maxHeartbeats 4000000 in
theorem mc_ill (lQ : Launch) (G : wm_G) (o : Nat) (S : mm_S) (E : mm_E) (b : Int32) (v : Int32) (hB : iv_B S) : mm_Met lQ G o yX5_ill (ws_ yX5_ill cX5_ill 4 (some .int)) 3 S E [.int b, .int v] (some (.int (ff_ill S b v).1)) (ff_ill S b v).2 E := by
  refine mm_start (by decide +kernel) (Nat.le_of_ble_eq_true rfl) rfl (fun pQ eQ sQ mQ belowQ methQ cQ hx hb hml hr hlocks hts hown hK H hW hS ls hl => ?_)
  have hl : lv_has ls 4 [(0, .ref o), (1, .int b), (2, .int v)] := hl
  generalize hlc : ([] : List Loc) = locs at hS ⊢
  refine lv_aload_n hx hb dX5_ill_0 rfl (lv_at hl 0 rfl) ?_
  refine lv_iload_n hx hb dX5_ill_1 rfl (lv_at hl 1 rfl) ?_
  refine mm_callp (As := [.int b]) (rest := []) (n := 1) ⟨hx, hb, hml, hown, hts⟩ hK (mc_isMan lQ G o S E b hB) (lw_V q2036 q2038 qs40 q92 q2039) (by decide +kernel) rfl ⟨Nat.le_of_ble_eq_true rfl, Nat.le_of_ble_eq_true rfl⟩ hW hS hl.1 rfl (Nat.le_of_ble_eq_true rfl) dX5_ill_2 ⟨Nat.le_of_ble_eq_true rfl, Nat.le_of_ble_eq_true rfl⟩ (fun v2 H locs e2 hW hS => ?_)
  refine lv_if_eq (tgt := 18) hx hb dX5_ill_5 (by decide) (fun c5 => ?_) (fun c5 => ?_)
  · skip
    refine lv_iconst (v := (-1)) hx hb dX5_ill_18 (by decide) ?_
    refine mm_iret hx hb hr hlocks hW hS ?_ dX5_ill_19
    have hres : ff_ill S b v = ((-1), S) := by subst e2; simp only [ff_ill, if_pos c5]
    exact ⟨by rw [hres], by rw [hres], rfl⟩
  · skip
    refine lv_iload_n hx hb dX5_ill_8 rfl (lv_at hl 2 rfl) ?_
    refine lv_iconst (v := 0) hx hb dX5_ill_9 (by decide) ?_
    refine lv_bipush (v := 9) hx hb dX5_ill_10 (by decide) ?_
    refine pp_calli (As := [.int v, .int 0, .int 9]) (rest := []) (n := 3) ⟨hx, hb, hml, hown, hts⟩ (mc_in lQ v 0 9) (lw_S q1979 q1980 q92 q1981) (by decide +kernel) rfl ⟨Nat.le_of_ble_eq_true rfl, Nat.le_of_ble_eq_true rfl⟩ hl.1 rfl (Nat.le_of_ble_eq_true rfl) dX5_ill_12 ⟨Nat.le_of_ble_eq_true rfl, Nat.le_of_ble_eq_true rfl⟩ (fun v12 e12 => ?_)
    refine lv_if_ne (tgt := 20) hx hb dX5_ill_15 (by decide) (fun c15 => ?_) (fun c15 => ?_)
    · skip
      refine lv_aload_n hx hb dX5_ill_20 rfl (lv_at hl 0 rfl) ?_
      refine mm_geta hx hb hts hown hK hW 19 rfl q1704 dX5_ill_21 ?_
      refine lv_iload_n hx hb dX5_ill_24 rfl (lv_at hl 1 rfl) ?_
      refine mm_iald hx hb hK hW 19 rfl (by have t := ff_isMan_t hB (by rw [← e2]; exact c5); exact ww_in t.1 t.2.2) dX5_ill_25 ?_
      refine lv_istore_n (lv' := [(3, .int (rd_ S 19 b)), (0, .ref o), (1, .int b), (2, .int v)]) hx hb dX5_ill_26 rfl hl (by decide) rfl (fun ls hl => ?_)
      refine lv_aload_n hx hb dX5_ill_27 rfl (lv_at hl 1 rfl) ?_
      refine mm_geta hx hb hts hown hK hW 19 rfl q1704 dX5_ill_28 ?_
      refine lv_iload_n hx hb dX5_ill_31 rfl (lv_at hl 2 rfl) ?_
      refine lv_iload_n hx hb dX5_ill_32 rfl (lv_at hl 3 rfl) ?_
      refine mm_iast hx hb hK hW hS 19 rfl (by have t := ff_isMan_t hB (by rw [← e2]; exact c5); exact ww_in t.1 t.2.2) dX5_ill_33 (fun S33 H locs f33 hW hS => ?_)
      refine lv_iload_n hx hb dX5_ill_34 rfl (lv_at hl 0 rfl) ?_
      refine mm_iret hx hb hr hlocks hW hS ?_ dX5_ill_35
      have hres : ff_ill S b v = ((rd_ S 19 b), S33) := by subst e2 e12 f33; simp only [ff_ill, if_neg c5, if_neg c15]
      exact ⟨by rw [hres], by rw [hres], rfl⟩
    · skip
      refine lv_iconst (v := (-1)) hx hb dX5_ill_18 (by decide) ?_
      refine mm_iret hx hb hr hlocks hW hS ?_ dX5_ill_19
      have hres : ff_ill S b v = ((-1), S) := by subst e2 e12; simp only [ff_ill, if_neg c5, if_pos c15]
      exact ⟨by rw [hres], by rw [hres], rfl⟩

set_option maxHeartbeats 4000000 in
theorem mc_menBelow (lQ : Launch) (G : wm_G) (o : Nat) (S : mm_S) (E : mm_E) (hB : iv_B S) : mm_Met lQ G o yX5_menBelow (ws_ yX5_menBelow cX5_menBelow 3 (some .int)) 0 S E [] (some (.int (ff_menBelow S))) S E := by
  refine mm_start (by decide +kernel) (Nat.le_of_ble_eq_true rfl) rfl (fun pQ eQ sQ mQ belowQ methQ cQ hx hb hml hr hlocks hts hown hK H hW hS ls hl => ?_)
  have hl : lv_has ls 3 [(0, .ref o)] := hl
  generalize hlc : ([] : List Loc) = locs at hS ⊢
  refine lv_iconst (v := 0) hx hb dX5_menBelow_0 (by decide) ?_
  refine lv_istore_n (lv' := [(1, .int 0), (0, .ref o)]) hx hb dX5_menBelow_1 rfl hl (by decide) rfl (fun ls hl => ?_)
  refine lv_iconst (v := 0) hx hb dX5_menBelow_2 (by decide) ?_
  refine lv_istore_n (lv' := [(2, .int 0), (1, .int 0), (0, .ref o)]) hx hb dX5_menBelow_3 rfl hl (by decide) rfl (fun ls hl => ?_)
  have L4 : ∀ (fu4 : Nat) (n : Int32) (b : Int32), ((fd_ S 4).toInt - b.toInt < fu4) → (0 ≤ b.toInt) → (b.toInt ≤ (fd_ S 4).toInt) → (ff_menBelow_go fu4 S n b = ff_menBelow S) → ∀ ls : Array Slot, lv_has ls 3 [(2, .int b), (1, .int n), (0, .ref o)] → W pQ lQ eQ (wm_rm 0) sQ mQ (Value.ref o :: []).toArray belowQ methQ cQ H locs 0 0 (MQ belowQ (wm_Q (fun v H => v = some (.int (ff_menBelow S)) ∧ mm_W G o S E H) (mm_F o)) (Value.ref o :: []).toArray sQ 0 0 (mm_F o)) (F0 mQ 4 ls []) := by
    intro fu4
    induction fu4 with
    | zero =>
      intro n b hm4 i04 i14 hgo4 ls hl
      exact absurd hm4 (by omega)
    | succ fu4 ih4 =>
      intro n b hm4 i04 i14 hgo4 ls hl
      refine lv_iload_n hx hb dX5_menBelow_4 rfl (lv_at hl 0 rfl) ?_
      refine lv_aload_n hx hb dX5_menBelow_5 rfl (lv_at hl 2 rfl) ?_
      refine mm_geti hx hb hts hown hK hW 4 rfl (by decide) q1689 dX5_menBelow_6 ?_
      refine lv_icmp_ge (tgt := 35) hx hb dX5_menBelow_9 (by decide) (fun c9 => ?_) (fun c9 => ?_)
      · have t9 : ((fd_ S 4)).toInt ≤ (b).toInt := ww_le c9
        refine lv_iload_n hx hb dX5_menBelow_35 rfl (lv_at hl 1 rfl) ?_
        refine mm_iret hx hb hr hlocks hW hS ?_ dX5_menBelow_36
        have hres : ff_menBelow S = n := by rw [← hgo4]; simp only [ff_menBelow_go, if_pos c9]
        exact ⟨by rw [hres], rfl, rfl⟩
      · have t9 : (b).toInt < ((fd_ S 4)).toInt := ww_nle c9
        refine lv_iload_n hx hb dX5_menBelow_12 rfl (lv_at hl 1 rfl) ?_
        refine lv_aload_n hx hb dX5_menBelow_13 rfl (lv_at hl 2 rfl) ?_
        refine mm_geta hx hb hts hown hK hW 20 rfl q1705 dX5_menBelow_14 ?_
        refine lv_iload_n hx hb dX5_menBelow_17 rfl (lv_at hl 0 rfl) ?_
        refine mm_zald hx hb hK hW 20 rfl (by have := hB.2; exact ww_in (by omega) (by omega)) dX5_menBelow_18 ?_
        refine lv_if_eq (tgt := 26) hx hb dX5_menBelow_19 (by decide) (fun c19 => ?_) (fun c19 => ?_)
        · skip
          refine lv_iconst (v := 0) hx hb dX5_menBelow_26 (by decide) ?_
          refine nv_iadd hx hb dX5_menBelow_27 (fun v27 e27 => ?_)
          refine lv_istore_n (lv' := [(1, .int v27), (2, .int b), (0, .ref o)]) hx hb dX5_menBelow_28 rfl hl (by decide) rfl (fun ls hl => ?_)
          obtain ⟨v29, e29⟩ : ∃ yQ : Int32, yQ = b + 1 := ⟨_, rfl⟩
          refine lv_iinc (v := v29) (lv' := [(2, .int v29), (1, .int v27), (0, .ref o)]) hx hb dX5_menBelow_29 hl (k := 1) rfl (by rw [e29]; rfl) (by decide) rfl (fun ls hl => ?_)
          refine lv_goto (tgt := 4) hx hb dX5_menBelow_32 (by decide) ?_
          have tb : v29.toInt = b.toInt + 1 := by rw [e29]; exact ww_inc t9
          exact ih4 v27 v29 (by omega) (by omega) (by omega) (by subst e27 e29; simp only [ff_menBelow_go, if_neg c9, if_pos c19] at hgo4; exact hgo4) ls (lv_sub hl [0, 1, 2] rfl)
        · skip
          refine lv_iconst (v := 1) hx hb dX5_menBelow_22 (by decide) ?_
          refine lv_goto (tgt := 27) hx hb dX5_menBelow_23 (by decide) ?_
          refine nv_iadd hx hb dX5_menBelow_27 (fun v27 e27 => ?_)
          refine lv_istore_n (lv' := [(1, .int v27), (2, .int b), (0, .ref o)]) hx hb dX5_menBelow_28 rfl hl (by decide) rfl (fun ls hl => ?_)
          obtain ⟨v29, e29⟩ : ∃ yQ : Int32, yQ = b + 1 := ⟨_, rfl⟩
          refine lv_iinc (v := v29) (lv' := [(2, .int v29), (1, .int v27), (0, .ref o)]) hx hb dX5_menBelow_29 hl (k := 1) rfl (by rw [e29]; rfl) (by decide) rfl (fun ls hl => ?_)
          refine lv_goto (tgt := 4) hx hb dX5_menBelow_32 (by decide) ?_
          have tb : v29.toInt = b.toInt + 1 := by rw [e29]; exact ww_inc t9
          exact ih4 v27 v29 (by omega) (by omega) (by omega) (by subst e27 e29; simp only [ff_menBelow_go, if_neg c9, if_neg c19] at hgo4; exact hgo4) ls (lv_sub hl [0, 1, 2] rfl)
  exact L4 121 0 0 (by have := hB.2; show _ - 0 < _; omega) (by decide) hB.1 (by simp only [ff_menBelow]) ls (lv_sub hl [0, 1, 2] rfl)
