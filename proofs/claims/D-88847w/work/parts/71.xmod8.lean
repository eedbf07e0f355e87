set_option maxHeartbeats 4000000 in
theorem xc_Figure (lQ : Launch) (G : wm_G) (o d0 : Nat) (X : mm_S) (E : mm_E) (D : xg) (d : Nat) (cQ : xt) (aQ : Nat) (v : Int32) : xr_Met lQ G o d0 yX17_value (ws_ yX17_value cX17_value 1 (some .int)) d X E D (fun H => xt_nF G o cQ aQ v H) [.ref aQ] (some (.int (xt_val X cQ))) := by
  refine xr_start (own := RX17) (by decide +kernel) (Nat.le_of_ble_eq_true rfl) rfl (fun pQ eQ sQ mQ belowQ methQ cQ2 hx hb hml hr hlocks hts hown hK hN hW hP ls hl => ?_)
  have hv := (show xt_val X cQ = v by rw [hP.1]; rfl)
  have hO := hP.2
  have hl : lv_has ls 1 [(0, .ref aQ)] := hl
  refine lv_aload_n hx hb dX17_value_0 rfl (lv_at hl 0 rfl) ?_
  refine wm_get hx hb hts in_X17 hown hK (ci := 14) rfl hO 1 (by decide) q1093 (fun _ h => h) (v := .int v) rfl dX17_value_1 ?_
  refine pp_iret hx hb hr hlocks ?_ dX17_value_4
  have hres : (v : Int32) = v := by rfl
  rw [hv, hres]

set_option maxHeartbeats 4000000 in
theorem xc_Named (lQ : Launch) (G : wm_G) (o d0 : Nat) (X : mm_S) (E : mm_E) (D : xg) (d : Nat) (cQ : xt) (aQ : Nat) (n : Int32) : xr_Met lQ G o d0 yX16_value (ws_ yX16_value cX16_value 1 (some .int)) d X E D (fun H => xt_nN G o cQ aQ n H) [.ref aQ] (some (.int (xt_val X cQ))) := by
  refine xr_start (own := RX16) (by decide +kernel) (Nat.le_of_ble_eq_true rfl) rfl (fun pQ eQ sQ mQ belowQ methQ cQ2 hx hb hml hr hlocks hts hown hK hN hW hP ls hl => ?_)
  have hv := (show xt_val X cQ = rd_ X 19 n by rw [hP.1]; rfl)
  have hO := hP.2.2.2
  have n0 := hP.2.1
  have n1 := hP.2.2.1
  have hl : lv_has ls 1 [(0, .ref aQ)] := hl
  refine lv_aload_n hx hb dX16_value_0 rfl (lv_at hl 0 rfl) ?_
  refine wm_get hx hb hts in_X16 hown hK (ci := 13) rfl hO 2 (by decide) q1076 (fun _ h => h) (v := .ref o) rfl dX16_value_1 ?_
  refine xx_getaN hx hb hts hown hK hW 19 rfl (hN.nf q289) dX16_value_4 ?_
  refine lv_aload_n hx hb dX16_value_7 rfl (lv_at hl 0 rfl) ?_
  refine wm_get hx hb hts in_X16 hown hK (ci := 13) rfl hO 1 (by decide) q1075 (fun _ h => h) (v := .int n) rfl dX16_value_8 ?_
  refine xx_iald hx hb hK hW 19 rfl (ww_in (by omega) (by omega)) dX16_value_11 ?_
  refine pp_iret hx hb hr hlocks ?_ dX16_value_12
  have hres : (rd_ X 19 n : Int32) = (rd_ X 19 n) := by rfl
  rw [hv, hres]

set_option maxHeartbeats 4000000 in
theorem xc_Turned (lQ : Launch) (G : wm_G) (o d0 : Nat) (X : mm_S) (E : mm_E) (D : xg) (h : Nat) (ih : xt_Call lQ h) (cQ : xt) (aQ : Nat) (b : Int32) (c1 : xt) (a1 : Nat) : xr_Met lQ G o d0 yX15_value (ws_ yX15_value cX15_value 2 (some .int)) (h + 1) X E D (fun H => xt_nT G o D h cQ aQ b c1 a1 H) [.ref aQ] (some (.int (xt_val X cQ))) := by
  refine xr_start (own := RX15) (by decide +kernel) (Nat.le_of_ble_eq_true rfl) rfl (fun pQ eQ sQ mQ belowQ methQ cQ2 hx hb hml hr hlocks hts hown hK hN hW hP ls hl => ?_)
  have hv := (xt_val_T X hP)
  have hO := hP.2.1
  have hl : lv_has ls 2 [(0, .ref aQ)] := hl
  refine lv_aload_n hx hb dX15_value_0 rfl (lv_at hl 0 rfl) ?_
  refine wm_get hx hb hts in_X15 hown hK (ci := 12) rfl hO 2 (by decide) q970 (fun _ h => h) (v := .ref a1) rfl dX15_value_1 ?_
  refine ih (rest := []) ⟨hx, hb, hml, hown, hts⟩ hK hN hW hP.2.2 q1170 (by exact ⟨by show _ ≤ h + 1; omega, by show _ ≤ 60 * (h + 1); omega⟩) hl.1 (Nat.le_of_ble_eq_true rfl) dX15_value_4 ⟨Nat.le_of_ble_eq_true rfl, Nat.le_of_ble_eq_true rfl⟩ (fun v4 e4 => ?_)
  refine lv_istore_n (lv' := [(1, .int v4), (0, .ref aQ)]) hx hb dX15_value_7 rfl hl (by decide) rfl (fun ls hl => ?_)
  refine lv_aload_n hx hb dX15_value_8 rfl (lv_at hl 1 rfl) ?_
  refine wm_get hx hb hts in_X15 hown hK (ci := 12) rfl hO 1 (by decide) q969 (fun _ h => h) (v := .int b) rfl dX15_value_9 ?_
  refine lv_if_eq (tgt := 20) hx hb dX15_value_12 (by decide) (fun c12 => ?_) (fun c12 => ?_)
  · skip
    refine lv_iload_n hx hb dX15_value_20 rfl (lv_at hl 0 rfl) ?_
    refine lv_if_ne (tgt := 28) hx hb dX15_value_21 (by decide) (fun c21 => ?_) (fun c21 => ?_)
    · skip
      refine lv_iconst (v := 0) hx hb dX15_value_28 (by decide) ?_
      refine pp_iret hx hb hr hlocks ?_ dX15_value_29
      have hres : (if b = 0 then (if xt_val X c1 = 0 then 1 else 0) else -(xt_val X c1) : Int32) = 0 := by subst e4; simp only [if_pos c12, if_neg c21]
      rw [hv, hres]
    · skip
      refine lv_iconst (v := 1) hx hb dX15_value_24 (by decide) ?_
      refine lv_goto (tgt := 29) hx hb dX15_value_25 (by decide) ?_
      refine pp_iret hx hb hr hlocks ?_ dX15_value_29
      have hres : (if b = 0 then (if xt_val X c1 = 0 then 1 else 0) else -(xt_val X c1) : Int32) = 1 := by subst e4; simp only [if_pos c12, if_pos c21]
      rw [hv, hres]
  · skip
    refine lv_iload_n hx hb dX15_value_15 rfl (lv_at hl 0 rfl) ?_
    refine nv_ineg hx hb dX15_value_16 (fun v16 e16 => ?_)
    refine lv_goto (tgt := 29) hx hb dX15_value_17 (by decide) ?_
    refine pp_iret hx hb hr hlocks ?_ dX15_value_29
    have hres : (if b = 0 then (if xt_val X c1 = 0 then 1 else 0) else -(xt_val X c1) : Int32) = v16 := by subst e4 e16; simp only [if_neg c12]
    rw [hv, hres]

set_option maxHeartbeats 4000000 in
theorem xc_Both (lQ : Launch) (G : wm_G) (o d0 : Nat) (X : mm_S) (E : mm_E) (D : xg) (h : Nat) (ih : xt_Call lQ h) (cQ : xt) (aQ : Nat) (sg : Int32) (c1 c2 : xt) (a1 a2 : Nat) : xr_Met lQ G o d0 yX18_value (ws_ yX18_value cX18_value 3 (some .int)) (h + 1) X E D (fun H => xt_nB G o D h cQ aQ sg c1 c2 a1 a2 H) [.ref aQ] (some (.int (xt_val X cQ))) := by
  refine xr_start (own := RX18) (by decide +kernel) (Nat.le_of_ble_eq_true rfl) rfl (fun pQ eQ sQ mQ belowQ methQ cQ2 hx hb hml hr hlocks hts hown hK hN hW hP ls hl => ?_)
  have hv := (xt_val_B X hP)
  have hg := hP.1
  have hO := hP.2.2.1
  have ht1 := hP.2.2.2.1
  have ht2 := hP.2.2.2.2
  clear hP
  have hl : lv_has ls 3 [(0, .ref aQ)] := hl
  refine lv_aload_n hx hb dX18_value_0 rfl (lv_at hl 0 rfl) ?_
  refine wm_get hx hb hts in_X18 hown hK (ci := 15) rfl hO 2 (by decide) q1108 (fun _ h => h) (v := .ref a1) rfl dX18_value_1 ?_
  refine ih (rest := []) ⟨hx, hb, hml, hown, hts⟩ hK hN hW ht1 q1163 (by exact ⟨by show _ ≤ h + 1; omega, by show _ ≤ 60 * (h + 1); omega⟩) hl.1 (Nat.le_of_ble_eq_true rfl) dX18_value_4 ⟨Nat.le_of_ble_eq_true rfl, Nat.le_of_ble_eq_true rfl⟩ (fun v4 e4 => ?_)
  refine lv_istore_n (lv' := [(1, .int v4), (0, .ref aQ)]) hx hb dX18_value_7 rfl hl (by decide) rfl (fun ls hl => ?_)
  refine lv_aload_n hx hb dX18_value_8 rfl (lv_at hl 1 rfl) ?_
  refine wm_get hx hb hts in_X18 hown hK (ci := 15) rfl hO 3 (by decide) q1109 (fun _ h => h) (v := .ref a2) rfl dX18_value_9 ?_
  refine ih (rest := []) ⟨hx, hb, hml, hown, hts⟩ hK hN hW ht2 q1163 (by exact ⟨by show _ ≤ h + 1; omega, by show _ ≤ 60 * (h + 1); omega⟩) hl.1 (Nat.le_of_ble_eq_true rfl) dX18_value_12 ⟨Nat.le_of_ble_eq_true rfl, Nat.le_of_ble_eq_true rfl⟩ (fun v12 e12 => ?_)
  refine lv_istore_n (lv' := [(2, .int v12), (1, .int v4), (0, .ref aQ)]) hx hb dX18_value_15 rfl hl (by decide) rfl (fun ls hl => ?_)
  refine lv_aload_n hx hb dX18_value_16 rfl (lv_at hl 2 rfl) ?_
  refine wm_get hx hb hts in_X18 hown hK (ci := 15) rfl hO 1 (by decide) q1107 (fun _ h => h) (v := .int sg) rfl dX18_value_17 ?_
  have hgc : sg = 37 ∨ sg = 38 ∨ sg = 42 ∨ sg = 43 ∨ sg = 45 ∨ sg = 47 ∨ sg = 60 ∨ sg = 61 ∨ sg = 62 ∨ sg = 124 := by simpa only [xt_sg, List.mem_cons, List.not_mem_nil, or_false] using hg
  rcases hgc with rfl | rfl | rfl | rfl | rfl | rfl | rfl | rfl | rfl | rfl
  · skip
    refine lv_tableIn (off := 144) (tgt := 164) hx hb dX18_value_20 (by decide) (by decide) rfl (by decide) ?_
    refine lv_iload_n hx hb dX18_value_164 rfl (lv_at hl 0 rfl) ?_
    refine lv_if_ne (tgt := 172) hx hb dX18_value_165 (by decide) (fun c165 => ?_) (fun c165 => ?_)
    · skip
      refine lv_iload_n hx hb dX18_value_172 rfl (lv_at hl 1 rfl) ?_
      refine lv_iload_n hx hb dX18_value_173 rfl (lv_at hl 0 rfl) ?_
      refine nv_irem hx hb dX18_value_174 c165 (fun v174 e174 => ?_)
      refine pp_iret hx hb hr hlocks ?_ dX18_value_175
      have hres : xt_two 37 v4 v12 = v174 := by
        show (if v12 = 0 then 0 else jr_ v4 v12 : Int32) = _
        subst e174; simp only [if_neg c165]
      rw [e4, e12] at hres
      rw [hv, hres]
    · skip
      refine lv_iconst (v := 0) hx hb dX18_value_168 (by decide) ?_
      refine lv_goto (tgt := 175) hx hb dX18_value_169 (by decide) ?_
      refine pp_iret hx hb hr hlocks ?_ dX18_value_175
      have hres : xt_two 37 v4 v12 = 0 := by
        show (if v12 = 0 then 0 else jr_ v4 v12 : Int32) = _
        simp only [if_pos c165]
      rw [e4, e12] at hres
      rw [hv, hres]
  · skip
    refine lv_tableIn (off := 189) (tgt := 209) hx hb dX18_value_20 (by decide) (by decide) rfl (by decide) ?_
    refine lv_iload_n hx hb dX18_value_209 rfl (lv_at hl 1 rfl) ?_
    refine lv_if_eq (tgt := 221) hx hb dX18_value_210 (by decide) (fun c210 => ?_) (fun c210 => ?_)
    · skip
      refine lv_iconst (v := 0) hx hb dX18_value_221 (by decide) ?_
      refine pp_iret hx hb hr hlocks ?_ dX18_value_222
      have hres : xt_two 38 v4 v12 = 0 := by
        show (if v4 = 0 then 0 else if v12 = 0 then 0 else 1 : Int32) = _
        simp only [if_pos c210]
      rw [e4, e12] at hres
      rw [hv, hres]
    · skip
      refine lv_iload_n hx hb dX18_value_213 rfl (lv_at hl 0 rfl) ?_
      refine lv_if_eq (tgt := 221) hx hb dX18_value_214 (by decide) (fun c214 => ?_) (fun c214 => ?_)
      · skip
        refine lv_iconst (v := 0) hx hb dX18_value_221 (by decide) ?_
        refine pp_iret hx hb hr hlocks ?_ dX18_value_222
        have hres : xt_two 38 v4 v12 = 0 := by
          show (if v4 = 0 then 0 else if v12 = 0 then 0 else 1 : Int32) = _
          simp only [if_neg c210, if_pos c214]
        rw [e4, e12] at hres
        rw [hv, hres]
      · skip
        refine lv_iconst (v := 1) hx hb dX18_value_217 (by decide) ?_
        refine lv_goto (tgt := 222) hx hb dX18_value_218 (by decide) ?_
        refine pp_iret hx hb hr hlocks ?_ dX18_value_222
        have hres : xt_two 38 v4 v12 = 1 := by
          show (if v4 = 0 then 0 else if v12 = 0 then 0 else 1 : Int32) = _
          simp only [if_neg c210, if_neg c214]
        rw [e4, e12] at hres
        rw [hv, hres]
  · skip
    refine lv_tableIn (off := 128) (tgt := 148) hx hb dX18_value_20 (by decide) (by decide) rfl (by decide) ?_
    refine lv_iload_n hx hb dX18_value_148 rfl (lv_at hl 1 rfl) ?_
    refine lv_iload_n hx hb dX18_value_149 rfl (lv_at hl 0 rfl) ?_
    refine nv_imul hx hb dX18_value_150 (fun v150 e150 => ?_)
    refine pp_iret hx hb hr hlocks ?_ dX18_value_151
    have hres : xt_two 42 v4 v12 = v150 := by
      show (v4 * v12 : Int32) = _
      subst e150; rfl
    rw [e4, e12] at hres
    rw [hv, hres]
  · skip
    refine lv_tableIn (off := 120) (tgt := 140) hx hb dX18_value_20 (by decide) (by decide) rfl (by decide) ?_
    refine lv_iload_n hx hb dX18_value_140 rfl (lv_at hl 1 rfl) ?_
    refine lv_iload_n hx hb dX18_value_141 rfl (lv_at hl 0 rfl) ?_
    refine nv_iadd hx hb dX18_value_142 (fun v142 e142 => ?_)
    refine pp_iret hx hb hr hlocks ?_ dX18_value_143
    have hres : xt_two 43 v4 v12 = v142 := by
      show (v4 + v12 : Int32) = _
      subst e142; rfl
    rw [e4, e12] at hres
    rw [hv, hres]
  · skip
    refine lv_tableIn (off := 124) (tgt := 144) hx hb dX18_value_20 (by decide) (by decide) rfl (by decide) ?_
    refine lv_iload_n hx hb dX18_value_144 rfl (lv_at hl 1 rfl) ?_
    refine lv_iload_n hx hb dX18_value_145 rfl (lv_at hl 0 rfl) ?_
    refine nv_isub hx hb dX18_value_146 (fun v146 e146 => ?_)
    refine pp_iret hx hb hr hlocks ?_ dX18_value_147
    have hres : xt_two 45 v4 v12 = v146 := by
      show (v4 - v12 : Int32) = _
      subst e146; rfl
    rw [e4, e12] at hres
    rw [hv, hres]
  · skip
    refine lv_tableIn (off := 132) (tgt := 152) hx hb dX18_value_20 (by decide) (by decide) rfl (by decide) ?_
    refine lv_iload_n hx hb dX18_value_152 rfl (lv_at hl 0 rfl) ?_
    refine lv_if_ne (tgt := 160) hx hb dX18_value_153 (by decide) (fun c153 => ?_) (fun c153 => ?_)
    · skip
      refine lv_iload_n hx hb dX18_value_160 rfl (lv_at hl 1 rfl) ?_
      refine lv_iload_n hx hb dX18_value_161 rfl (lv_at hl 0 rfl) ?_
      refine nv_idiv hx hb dX18_value_162 c153 (fun v162 e162 => ?_)
      refine pp_iret hx hb hr hlocks ?_ dX18_value_163
      have hres : xt_two 47 v4 v12 = v162 := by
        show (if v12 = 0 then 0 else v4 / v12 : Int32) = _
        subst e162; simp only [if_neg c153]
      rw [e4, e12] at hres
      rw [hv, hres]
    · skip
      refine lv_iconst (v := 0) hx hb dX18_value_156 (by decide) ?_
      refine lv_goto (tgt := 163) hx hb dX18_value_157 (by decide) ?_
      refine pp_iret hx hb hr hlocks ?_ dX18_value_163
      have hres : xt_two 47 v4 v12 = 0 := by
        show (if v12 = 0 then 0 else v4 / v12 : Int32) = _
        simp only [if_pos c153]
      rw [e4, e12] at hres
      rw [hv, hres]
  · skip
    refine lv_tableIn (off := 156) (tgt := 176) hx hb dX18_value_20 (by decide) (by decide) rfl (by decide) ?_
    refine lv_iload_n hx hb dX18_value_176 rfl (lv_at hl 1 rfl) ?_
    refine lv_iload_n hx hb dX18_value_177 rfl (lv_at hl 0 rfl) ?_
    refine lv_icmp_ge (tgt := 185) hx hb dX18_value_178 (by decide) (fun c178 => ?_) (fun c178 => ?_)
    · have t178 : (v12).toInt ≤ (v4).toInt := ww_le c178
      refine lv_iconst (v := 0) hx hb dX18_value_185 (by decide) ?_
      refine pp_iret hx hb hr hlocks ?_ dX18_value_186
      have hres : xt_two 60 v4 v12 = 0 := by
        show (if v12 ≤ v4 then 0 else 1 : Int32) = _
        simp only [if_pos c178]
      rw [e4, e12] at hres
      rw [hv, hres]
    · have t178 : (v4).toInt < (v12).toInt := ww_nle c178
      refine lv_iconst (v := 1) hx hb dX18_value_181 (by decide) ?_
      refine lv_goto (tgt := 186) hx hb dX18_value_182 (by decide) ?_
      refine pp_iret hx hb hr hlocks ?_ dX18_value_186
      have hres : xt_two 60 v4 v12 = 1 := by
        show (if v12 ≤ v4 then 0 else 1 : Int32) = _
        simp only [if_neg c178]
      rw [e4, e12] at hres
      rw [hv, hres]
  · skip
    refine lv_tableIn (off := 167) (tgt := 187) hx hb dX18_value_20 (by decide) (by decide) rfl (by decide) ?_
    refine lv_iload_n hx hb dX18_value_187 rfl (lv_at hl 1 rfl) ?_
    refine lv_iload_n hx hb dX18_value_188 rfl (lv_at hl 0 rfl) ?_
    refine lv_icmp_ne (tgt := 196) hx hb dX18_value_189 (by decide) (fun c189 => ?_) (fun c189 => ?_)
    · skip
      refine lv_iconst (v := 0) hx hb dX18_value_196 (by decide) ?_
      refine pp_iret hx hb hr hlocks ?_ dX18_value_197
      have hres : xt_two 61 v4 v12 = 0 := by
        show (if v4 = v12 then 1 else 0 : Int32) = _
        simp only [if_neg c189]
      rw [e4, e12] at hres
      rw [hv, hres]
    · skip
      refine lv_iconst (v := 1) hx hb dX18_value_192 (by decide) ?_
      refine lv_goto (tgt := 197) hx hb dX18_value_193 (by decide) ?_
      refine pp_iret hx hb hr hlocks ?_ dX18_value_197
      have hres : xt_two 61 v4 v12 = 1 := by
        show (if v4 = v12 then 1 else 0 : Int32) = _
        simp only [if_pos c189]
      rw [e4, e12] at hres
      rw [hv, hres]
  · skip
    refine lv_tableIn (off := 178) (tgt := 198) hx hb dX18_value_20 (by decide) (by decide) rfl (by decide) ?_
    refine lv_iload_n hx hb dX18_value_198 rfl (lv_at hl 1 rfl) ?_
    refine lv_iload_n hx hb dX18_value_199 rfl (lv_at hl 0 rfl) ?_
    refine lv_icmp_le (tgt := 207) hx hb dX18_value_200 (by decide) (fun c200 => ?_) (fun c200 => ?_)
    · have t200 : (v4).toInt ≤ (v12).toInt := ww_le c200
      refine lv_iconst (v := 0) hx hb dX18_value_207 (by decide) ?_
      refine pp_iret hx hb hr hlocks ?_ dX18_value_208
      have hres : xt_two 62 v4 v12 = 0 := by
        show (if v4 ≤ v12 then 0 else 1 : Int32) = _
        simp only [if_pos c200]
      rw [e4, e12] at hres
      rw [hv, hres]
    · have t200 : (v12).toInt < (v4).toInt := ww_nle c200
      refine lv_iconst (v := 1) hx hb dX18_value_203 (by decide) ?_
      refine lv_goto (tgt := 208) hx hb dX18_value_204 (by decide) ?_
      refine pp_iret hx hb hr hlocks ?_ dX18_value_208
      have hres : xt_two 62 v4 v12 = 1 := by
        show (if v4 ≤ v12 then 0 else 1 : Int32) = _
        simp only [if_neg c200]
      rw [e4, e12] at hres
      rw [hv, hres]
  · skip
    refine lv_tableOut (tgt := 223) hx hb dX18_value_20 (by decide) (by decide) ?_
    refine lv_iload_n hx hb dX18_value_223 rfl (lv_at hl 1 rfl) ?_
    refine lv_if_ne (tgt := 231) hx hb dX18_value_224 (by decide) (fun c224 => ?_) (fun c224 => ?_)
    · skip
      refine lv_iconst (v := 1) hx hb dX18_value_231 (by decide) ?_
      refine lv_goto (tgt := 236) hx hb dX18_value_232 (by decide) ?_
      refine pp_iret hx hb hr hlocks ?_ dX18_value_236
      have hres : xt_two 124 v4 v12 = 1 := by
        show (if v4 = 0 then (if v12 = 0 then 0 else 1) else 1 : Int32) = _
        simp only [if_neg c224]
      rw [e4, e12] at hres
      rw [hv, hres]
    · skip
      refine lv_iload_n hx hb dX18_value_227 rfl (lv_at hl 0 rfl) ?_
      refine lv_if_eq (tgt := 235) hx hb dX18_value_228 (by decide) (fun c228 => ?_) (fun c228 => ?_)
      · skip
        refine lv_iconst (v := 0) hx hb dX18_value_235 (by decide) ?_
        refine pp_iret hx hb hr hlocks ?_ dX18_value_236
        have hres : xt_two 124 v4 v12 = 0 := by
          show (if v4 = 0 then (if v12 = 0 then 0 else 1) else 1 : Int32) = _
          simp only [if_pos c224, if_pos c228]
        rw [e4, e12] at hres
        rw [hv, hres]
      · skip
        refine lv_iconst (v := 1) hx hb dX18_value_231 (by decide) ?_
        refine lv_goto (tgt := 236) hx hb dX18_value_232 (by decide) ?_
        refine pp_iret hx hb hr hlocks ?_ dX18_value_236
        have hres : xt_two 124 v4 v12 = 1 := by
          show (if v4 = 0 then (if v12 = 0 then 0 else 1) else 1 : Int32) = _
          simp only [if_pos c224, if_neg c228]
        rw [e4, e12] at hres
        rw [hv, hres]

theorem xt_call_z (l : Launch) : xt_Call l 0 := by
  intro p e R s m args below meth c H locs cells slots Q cc pc ls rest G o d0 X E D nL index own a t F hK hN hW hat
  exact hat.elim
theorem xt_call_s (l : Launch) (h0 : Nat) (ih : xt_Call l h0) : xt_Call l (h0 + 1) := by
  intro p e R s m args below meth c H locs cells slots Q cc pc ls rest G o d0 X E D nL index own a t F hK hN hW hat hq hR hsz hrest hd hroom kk
  have hq : Cond.methodLink own index ⟨"ThirtyThreeBelow$Term", "value", "()I"⟩ ∈ lw_all := hq
  rcases xt_cases hat with ⟨v, q⟩ | ⟨n, q⟩ | ⟨b, c1, a1, q⟩ | ⟨sg, c1, c2, a1, a2, q⟩
  · exact xr_calli (C := RX17) (d := h0 + 1) F hK hN hW q (xc_Figure l _ _ _ _ _ _ (h0 + 1) t a v) (lw_app (List.forall_mem_cons.mpr ⟨hq, List.forall_mem_cons.mpr ⟨q1159, List.forall_mem_cons.mpr ⟨q1171, List.forall_mem_cons.mpr ⟨q1164, List.forall_mem_cons.mpr ⟨q110, fun _ h => absurd h List.not_mem_nil⟩⟩⟩⟩⟩) (lw_meth q1165)) (wm_O.recv (ci := 14) (q := (RX17, TX17, 3)) hK rfl (q.2)) ⟨hR.1, Nat.le_trans (by omega) hR.2⟩ hsz rfl hrest hd hroom kk
  · exact xr_calli (C := RX16) (d := h0 + 1) F hK hN hW q (xc_Named l _ _ _ _ _ _ (h0 + 1) t a n) (lw_app (List.forall_mem_cons.mpr ⟨hq, List.forall_mem_cons.mpr ⟨q1159, List.forall_mem_cons.mpr ⟨q1172, List.forall_mem_cons.mpr ⟨q1166, List.forall_mem_cons.mpr ⟨q109, fun _ h => absurd h List.not_mem_nil⟩⟩⟩⟩⟩) (lw_meth q1167)) (wm_O.recv (ci := 13) (q := (RX16, TX16, 3)) hK rfl (q.2.2.2)) ⟨hR.1, Nat.le_trans (by omega) hR.2⟩ hsz rfl hrest hd hroom kk
  · exact xr_calli (C := RX15) (d := h0 + 1) F hK hN hW q (xc_Turned l _ _ _ _ _ _ h0 ih t a b c1 a1) (lw_app (List.forall_mem_cons.mpr ⟨hq, List.forall_mem_cons.mpr ⟨q1159, List.forall_mem_cons.mpr ⟨q1173, List.forall_mem_cons.mpr ⟨q1168, List.forall_mem_cons.mpr ⟨q103, fun _ h => absurd h List.not_mem_nil⟩⟩⟩⟩⟩) (lw_meth q1169)) (wm_O.recv (ci := 12) (q := (RX15, TX15, 4)) hK rfl (q.2.1)) ⟨hR.1, Nat.le_trans (by omega) hR.2⟩ hsz rfl hrest hd hroom kk
  · exact xr_calli (C := RX18) (d := h0 + 1) F hK hN hW q (xc_Both l _ _ _ _ _ _ h0 ih t a sg c1 c2 a1 a2) (lw_app (List.forall_mem_cons.mpr ⟨hq, List.forall_mem_cons.mpr ⟨q1159, List.forall_mem_cons.mpr ⟨q1160, List.forall_mem_cons.mpr ⟨q1161, List.forall_mem_cons.mpr ⟨q111, fun _ h => absurd h List.not_mem_nil⟩⟩⟩⟩⟩) (lw_meth q1162)) (wm_O.recv (ci := 15) (q := (RX18, TX18, 5)) hK rfl (q.2.2.1)) ⟨hR.1, Nat.le_trans (by omega) hR.2⟩ hsz rfl hrest hd hroom kk
theorem xt_calls (l : Launch) : ∀ h : Nat, xt_Call l h
  | 0 => xt_call_z l
  | h + 1 => xt_call_s l h (xt_calls l h)