set_option maxHeartbeats 4000000 in
theorem xc_next (lQ : Launch) (G : wm_G) (o d0 : Nat) (X : mm_S) (E : mm_E) (D : xg) (hL : xv_L X) (hA : 0 ≤ (fd_ X 95).toInt) : xw_Met lQ G o d0 yX2_next (ws_ yX2_next cX2_next 1 (some .int)) 0 X E D [Value.ref (o + 16)] (some (.int (xq_nx X (fd_ X 95)))) X E := by
  refine xw_start (own := RX2) (by decide +kernel) (Nat.le_of_ble_eq_true rfl) rfl (fun pQ eQ sQ mQ belowQ methQ cQ hx hb hml hr hlocks hts hown hK hN H hW hS ls hl => ?_)
  have hl : lv_has ls 1 [(0, .ref (o + 16))] := hl
  generalize hlc : ([] : List Loc) = locs at hS ⊢
  refine lv_aload_n hx hb dX2_next_0 rfl (lv_at hl 0 rfl) ?_
  refine xq_get hx hb hts hown hK hW 1 (by decide) (v := .int (fd_ X 95)) rfl q216 rfl dX2_next_1 ?_
  refine lv_aload_n hx hb dX2_next_4 rfl (lv_at hl 0 rfl) ?_
  refine xq_get hx hb hts hown hK hW 3 (by decide) (v := .ref o) rfl q218 rfl dX2_next_5 ?_
  refine xx_getiN hx hb hts hown hK hW 22 rfl rfl (by decide) (by decide) (hN.nf q294) dX2_next_8 ?_
  refine lv_icmp_ge (tgt := 29) hx hb dX2_next_11 (by decide) (fun c11 => ?_) (fun c11 => ?_)
  · have t11 : ((fd_ X 22)).toInt ≤ ((fd_ X 95)).toInt := ww_le c11
    refine lv_iconst (v := (-1)) hx hb dX2_next_29 (by decide) ?_
    refine xw_iret hx hb hr hlocks hW hS ?_ dX2_next_30
    have hres : xq_nx X (fd_ X 95) = (-1) := by simp only [xq_nx, if_pos c11]
    exact ⟨by rw [hres], rfl, rfl⟩
  · have t11 : ((fd_ X 95)).toInt < ((fd_ X 22)).toInt := ww_nle c11
    obtain ⟨l0, l1⟩ := hL
    refine lv_aload_n hx hb dX2_next_14 rfl (lv_at hl 0 rfl) ?_
    refine xq_get hx hb hts hown hK hW 3 (by decide) (v := .ref o) rfl q218 rfl dX2_next_15 ?_
    refine xx_getaN hx hb hts hown hK hW 21 rfl (hN.nf q292) dX2_next_18 ?_
    refine lv_aload_n hx hb dX2_next_21 rfl (lv_at hl 0 rfl) ?_
    refine xq_get hx hb hts hown hK hW 1 (by decide) (v := .int (fd_ X 95)) rfl q216 rfl dX2_next_22 ?_
    refine xx_iald hx hb hK hW 21 rfl (ww_in (by omega) (by omega)) dX2_next_25 ?_
    refine lv_goto (tgt := 30) hx hb dX2_next_26 (by decide) ?_
    refine xw_iret hx hb hr hlocks hW hS ?_ dX2_next_30
    have hres : xq_nx X (fd_ X 95) = (rd_ X 21 (fd_ X 95)) := by simp only [xq_nx, if_neg c11]
    exact ⟨by rw [hres], rfl, rfl⟩

set_option maxHeartbeats 4000000 in
theorem xc_take (lQ : Launch) (G : wm_G) (o d0 : Nat) (X : mm_S) (E : mm_E) (D : xg) (c : Int32) (hL : xv_L X) (hA : 0 ≤ (fd_ X 95).toInt) : xw_Met lQ G o d0 yX2_take (ws_ yX2_take cX2_take 2 (some .boolean)) 1 X E D [Value.ref (o + 16), .int c] (some (.int (xq_take X c).1)) (xq_take X c).2 E := by
  refine xw_start (own := RX2) (by decide +kernel) (Nat.le_of_ble_eq_true rfl) rfl (fun pQ eQ sQ mQ belowQ methQ cQ hx hb hml hr hlocks hts hown hK hN H hW hS ls hl => ?_)
  have hl : lv_has ls 2 [(0, .ref (o + 16)), (1, .int c)] := hl
  generalize hlc : ([] : List Loc) = locs at hS ⊢
  refine lv_aload_n hx hb dX2_take_0 rfl (lv_at hl 0 rfl) ?_
  refine xw_p (xw_rV (As := []) (rest := []) (n := 0) ⟨hx, hb, hml, hown, hts⟩ hK hN hW (xc_next lQ G o d0 X E D hL hA) (lw_V q952 q954 qs17 q89 q955) (xr_rdr hK hW) (by decide +kernel) rfl ⟨Nat.le_of_ble_eq_true rfl, Nat.le_of_ble_eq_true rfl⟩ hl.1 rfl (Nat.le_of_ble_eq_true rfl) dX2_take_1 ⟨Nat.le_of_ble_eq_true rfl, Nat.le_of_ble_eq_true rfl⟩) hS (fun v1 H locs e1 hW hS => ?_)
  refine lv_iload_n hx hb dX2_take_4 rfl (lv_at hl 1 rfl) ?_
  refine lv_icmp_eq (tgt := 10) hx hb dX2_take_5 (by decide) (fun c5 => ?_) (fun c5 => ?_)
  · skip
    refine lv_aload_n hx hb dX2_take_10 rfl (lv_at hl 0 rfl) ?_
    refine lv_dup hx hb dX2_take_11 rfl ?_
    refine xq_get hx hb hts hown hK hW 1 (by decide) (v := .int (fd_ X 95)) rfl q216 rfl dX2_take_12 ?_
    refine lv_iconst (v := 1) hx hb dX2_take_15 (by decide) ?_
    refine nv_iadd hx hb dX2_take_16 (fun v16 e16 => ?_)
    refine xq_puta hx hb hts hown hK hW hS q216 dX2_take_17 (fun X17 H locs f17 hW hS => ?_)
    refine lv_iconst (v := 1) hx hb dX2_take_20 (by decide) ?_
    refine xw_zret hx hb hr hlocks hW hS rfl ?_ dX2_take_21
    have hres : xq_take X c = (1, X17) := by subst e1 e16 f17; simp only [xq_take, if_pos c5]
    exact ⟨by rw [hres], by rw [hres], rfl⟩
  · skip
    refine lv_iconst (v := 0) hx hb dX2_take_8 (by decide) ?_
    refine xw_zret hx hb hr hlocks hW hS rfl ?_ dX2_take_9
    have hres : xq_take X c = (0, X) := by subst e1; simp only [xq_take, if_neg c5]
    exact ⟨by rw [hres], by rw [hres], rfl⟩

set_option maxHeartbeats 4000000 in
theorem xc_deeper (lQ : Launch) (G : wm_G) (o d0 : Nat) (X : mm_S) (E : mm_E) (D : xg) (Hz : Heap) (hWz : xx_W G o d0 X E D Hz) : xz_Met lQ G o d0 yX2_deeper (ws_ yX2_deeper cX2_deeper 1 none) 0 0 0 Hz [Value.ref (o + 16)] (fun v X1 E1 D1 _ => E1 = E ∧ D1 = D ∧ ¬ fd_ X 96 = 8 ∧ v = none ∧ X1 = fw_ (fw_ X 96 (fd_ X 96 + 1)) 95 (fd_ X 95 + 1)) RX3 (fun X1 E1 D1 _ => X1 = X ∧ E1 = E ∧ D1 = D ∧ fd_ X 96 = 8) := by
  refine xz_start (own := RX2) (by decide +kernel) (Nat.le_of_ble_eq_true rfl) rfl (fun pQ eQ sQ mQ belowQ methQ cQ hx hb hml hr hlocks htb hts hown hK hN hHz hS ls hl => ?_)
  have hl : lv_has ls 1 [(0, .ref (o + 16))] := hl
  generalize hlc : ([] : List Loc) = locs at hS ⊢
  have hW := hWz
  generalize hHc : Hz = H at hS hW ⊢
  refine lv_aload_n hx hb dX2_deeper_0 rfl (lv_at hl 0 rfl) ?_
  refine xq_get hx hb hts hown hK hW 2 (by decide) (v := .int (fd_ X 96)) rfl q217 rfl dX2_deeper_1 ?_
  refine lv_bipush (v := 8) hx hb dX2_deeper_4 (by decide) ?_
  refine lv_icmp_ne (tgt := 14) hx hb dX2_deeper_6 (by decide) (fun c6 => ?_) (fun c6 => ?_)
  · skip
    refine lv_aload_n hx hb dX2_deeper_14 rfl (lv_at hl 0 rfl) ?_
    refine lv_dup hx hb dX2_deeper_15 rfl ?_
    refine xq_get hx hb hts hown hK hW 2 (by decide) (v := .int (fd_ X 96)) rfl q217 rfl dX2_deeper_16 ?_
    refine lv_iconst (v := 1) hx hb dX2_deeper_19 (by decide) ?_
    refine nv_iadd hx hb dX2_deeper_20 (fun v20 e20 => ?_)
    refine xq_puto hx hb hts hown hK hW hS q217 dX2_deeper_21 (fun X21 H locs f21 hW hS => ?_)
    refine lv_aload_n hx hb dX2_deeper_24 rfl (lv_at hl 0 rfl) ?_
    refine lv_dup hx hb dX2_deeper_25 rfl ?_
    refine xq_get hx hb hts hown hK hW 1 (by decide) (v := .int (fd_ X21 95)) rfl q216 rfl dX2_deeper_26 ?_
    refine lv_iconst (v := 1) hx hb dX2_deeper_29 (by decide) ?_
    refine nv_iadd hx hb dX2_deeper_30 (fun v30 e30 => ?_)
    refine xq_puta hx hb hts hown hK hW hS q216 dX2_deeper_31 (fun X31 H locs f31 hW hS => ?_)
    refine xz_vret hx hb hr hlocks hW hS ?_ (Nat.le_of_ble_eq_true rfl) (Nat.le_of_ble_eq_true rfl) dX2_deeper_34
    refine ⟨rfl, rfl, c6, rfl, ?_⟩; subst e20 f21 e30 f31; rw [fd_fn (by decide)]
  · skip
    refine lv_aload_n hx hb dX2_deeper_9 rfl (lv_at hl 0 rfl) ?_
    refine xq_get hx hb hts hown hK hW 0 (by decide) (v := .ref (o + 17)) rfl q215 rfl dX2_deeper_10 ?_
    obtain ⟨ceT, wT1, wT2, wT3⟩ := xz_fault hK hW
    refine vx_athrow hx hb dX2_deeper_13 (xz_on (fun x h => (htb x h).elim) hlocks hW hS ?_ wT1 wT2 wT3 (Nat.le_of_ble_eq_true rfl) (Nat.le_of_ble_eq_true rfl))
    exact ⟨rfl, rfl, rfl, c6⟩
