set_option maxHeartbeats 4000000 in
theorem mc_ran (lQ : Launch) (G : wm_G) (o : Nat) (S : mm_S) (E : mm_E) (b : Int32) (h0 : 0 ≤ (fd_ S 87).toInt) : mm_Met lQ G o yX5_ran (ws_ yX5_ran cX5_ran 2 none) 0 S E [.int b] (none) (ff_ran S b) E := by
  refine mm_start (by decide +kernel) (Nat.le_of_ble_eq_true rfl) rfl (fun pQ eQ sQ mQ belowQ methQ cQ hx hb hml hr hlocks hts hown hK H hW hS ls hl => ?_)
  have hl : lv_has ls 2 [(0, .ref o), (1, .int b)] := hl
  generalize hlc : ([] : List Loc) = locs at hS ⊢
  refine lv_aload_n hx hb dX5_ran_0 rfl (lv_at hl 0 rfl) ?_
  refine mm_geti hx hb hts hown hK hW 87 rfl (by decide) q1772 dX5_ran_1 ?_
  refine lv_bipush (v := 24) hx hb dX5_ran_4 (by decide) ?_
  refine lv_icmp_ge (tgt := 19) hx hb dX5_ran_6 (by decide) (fun c6 => ?_) (fun c6 => ?_)
  · have t6 : 24 ≤ ((fd_ S 87)).toInt := ww_le c6
    refine lv_aload_n hx hb dX5_ran_19 rfl (lv_at hl 0 rfl) ?_
    refine lv_dup hx hb dX5_ran_20 rfl ?_
    refine mm_geti hx hb hts hown hK hW 87 rfl (by decide) q1772 dX5_ran_21 ?_
    refine lv_iconst (v := 1) hx hb dX5_ran_24 (by decide) ?_
    refine nv_iadd hx hb dX5_ran_25 (fun v25 e25 => ?_)
    refine mm_puti hx hb hts hown hK hW hS 87 rfl (by decide) rfl rfl rfl q1772 dX5_ran_26 (fun S26 H locs f26 hW hS => ?_)
    refine mm_vret hx hb hr hlocks hW hS ?_ dX5_ran_29
    have hres : ff_ran S b = S26 := by subst e25 f26; simp only [ff_ran, if_pos c6]
    exact ⟨hres.symm, rfl⟩
  · have t6 : ((fd_ S 87)).toInt < 24 := ww_nle c6
    refine lv_aload_n hx hb dX5_ran_9 rfl (lv_at hl 0 rfl) ?_
    refine mm_geta hx hb hts hown hK hW 88 rfl q1773 dX5_ran_10 ?_
    refine lv_aload_n hx hb dX5_ran_13 rfl (lv_at hl 0 rfl) ?_
    refine mm_geti hx hb hts hown hK hW 87 rfl (by decide) q1772 dX5_ran_14 ?_
    refine lv_iload_n hx hb dX5_ran_17 rfl (lv_at hl 1 rfl) ?_
    refine mm_iast hx hb hK hW hS 88 rfl (ww_in (by omega) (by omega)) dX5_ran_18 (fun S18 H locs f18 hW hS => ?_)
    refine lv_aload_n hx hb dX5_ran_19 rfl (lv_at hl 0 rfl) ?_
    refine lv_dup hx hb dX5_ran_20 rfl ?_
    refine mm_geti hx hb hts hown hK hW 87 rfl (by decide) q1772 dX5_ran_21 ?_
    refine lv_iconst (v := 1) hx hb dX5_ran_24 (by decide) ?_
    refine nv_iadd hx hb dX5_ran_25 (fun v25 e25 => ?_)
    refine mm_puti hx hb hts hown hK hW hS 87 rfl (by decide) rfl rfl rfl q1772 dX5_ran_26 (fun S26 H locs f26 hW hS => ?_)
    refine mm_vret hx hb hr hlocks hW hS ?_ dX5_ran_29
    have hres : ff_ran S b = S26 := by subst f18 e25 f26; simp only [ff_ran, if_neg c6]
    exact ⟨hres.symm, rfl⟩

set_option maxHeartbeats 4000000 in
theorem mc_plainBores (lQ : Launch) (G : wm_G) (o : Nat) (S : mm_S) (E : mm_E) (b : Int32) (x : Int32) (h0 : 0 ≤ (fd_ S 87).toInt) (h1 : (fd_ S 87).toInt + 2 ≤ 1000) : mm_Met lQ G o yX5_plainBores (ws_ yX5_plainBores cX5_plainBores 3 (some .int)) 1 S E [.int b, .int x] (some (.int (ff_plainBores S b x).1)) (ff_plainBores S b x).2 E := by
  refine mm_start (by decide +kernel) (Nat.le_of_ble_eq_true rfl) rfl (fun pQ eQ sQ mQ belowQ methQ cQ hx hb hml hr hlocks hts hown hK H hW hS ls hl => ?_)
  have hl : lv_has ls 3 [(0, .ref o), (1, .int b), (2, .int x)] := hl
  generalize hlc : ([] : List Loc) = locs at hS ⊢
  refine lv_aload_n hx hb dX5_plainBores_0 rfl (lv_at hl 0 rfl) ?_
  refine lv_iconst (v := 1) hx hb dX5_plainBores_1 (by decide) ?_
  refine mm_callv (As := [.int 1]) (rest := []) (n := 1) ⟨hx, hb, hml, hown, hts⟩ hK (mc_ran lQ G o S E 1 h0) (lw_V q2337 q2339 qs72 q92 q2340) (by decide +kernel) rfl ⟨Nat.le_of_ble_eq_true rfl, Nat.le_of_ble_eq_true rfl⟩ hW hS hl.1 rfl (Nat.le_of_ble_eq_true rfl) dX5_plainBores_2 ⟨Nat.le_of_ble_eq_true rfl, Nat.le_of_ble_eq_true rfl⟩ (fun S2 H locs f2 hW hS => ?_)
  refine lv_iload_n hx hb dX5_plainBores_5 rfl (lv_at hl 2 rfl) ?_
  refine lv_iload_n hx hb dX5_plainBores_6 rfl (lv_at hl 1 rfl) ?_
  refine nv_iadd hx hb dX5_plainBores_7 (fun v7 e7 => ?_)
  refine mm_iret hx hb hr hlocks hW hS ?_ dX5_plainBores_8
  have hres : ff_plainBores S b x = (v7, S2) := by subst f2 e7; simp only [ff_plainBores]
  exact ⟨by rw [hres], by rw [hres], rfl⟩

set_option maxHeartbeats 4000000 in
theorem mc_wayBores (lQ : Launch) (G : wm_G) (o : Nat) (S : mm_S) (E : mm_E) (b : Int32) (x : Int32) (h0 : 0 ≤ (fd_ S 87).toInt) (h1 : (fd_ S 87).toInt + 3 ≤ 1000) : mm_Met lQ G o yX5_wayBores (ws_ yX5_wayBores cX5_wayBores 3 (some .int)) 2 S E [.int b, .int x] (some (.int (ff_wayBores S b x).1)) (ff_wayBores S b x).2 E := by
  refine mm_start (by decide +kernel) (Nat.le_of_ble_eq_true rfl) rfl (fun pQ eQ sQ mQ belowQ methQ cQ hx hb hml hr hlocks hts hown hK H hW hS ls hl => ?_)
  have hl : lv_has ls 3 [(0, .ref o), (1, .int b), (2, .int x)] := hl
  generalize hlc : ([] : List Loc) = locs at hS ⊢
  refine lv_aload_n hx hb dX5_wayBores_0 rfl (lv_at hl 0 rfl) ?_
  refine lv_bipush (v := 20) hx hb dX5_wayBores_1 (by decide) ?_
  refine mm_callv (As := [.int 20]) (rest := []) (n := 1) ⟨hx, hb, hml, hown, hts⟩ hK (mc_ran lQ G o S E 20 h0) (lw_V q2337 q2339 qs72 q92 q2340) (by decide +kernel) rfl ⟨Nat.le_of_ble_eq_true rfl, Nat.le_of_ble_eq_true rfl⟩ hW hS hl.1 rfl (Nat.le_of_ble_eq_true rfl) dX5_wayBores_3 ⟨Nat.le_of_ble_eq_true rfl, Nat.le_of_ble_eq_true rfl⟩ (fun S3 H locs f3 hW hS => ?_)
  obtain ⟨_, a3, z3⟩ := ran_tr (S := S) 20 (by omega); rw [← f3] at a3 z3
  refine lv_aload_n hx hb dX5_wayBores_6 rfl (lv_at hl 0 rfl) ?_
  refine lv_iload_n hx hb dX5_wayBores_7 rfl (lv_at hl 1 rfl) ?_
  refine lv_iload_n hx hb dX5_wayBores_8 rfl (lv_at hl 2 rfl) ?_
  refine mm_calli (As := [.int b, .int x]) (rest := []) (n := 2) ⟨hx, hb, hml, hown, hts⟩ hK (mc_plainBores lQ G o S3 E b x (by omega) (by omega)) (lw_V q2349 q2351 qs75 q92 q2352) (by decide +kernel) rfl ⟨Nat.le_of_ble_eq_true rfl, Nat.le_of_ble_eq_true rfl⟩ hW hS hl.1 rfl (Nat.le_of_ble_eq_true rfl) dX5_wayBores_9 ⟨Nat.le_of_ble_eq_true rfl, Nat.le_of_ble_eq_true rfl⟩ (fun v9 S9 H locs e9 f9 hW hS => ?_)
  refine lv_iconst (v := 2) hx hb dX5_wayBores_12 (by decide) ?_
  refine nv_imul hx hb dX5_wayBores_13 (fun v13 e13 => ?_)
  refine mm_iret hx hb hr hlocks hW hS ?_ dX5_wayBores_14
  have hres : ff_wayBores S b x = (v13, S9) := by subst f3 e9 f9 e13; simp only [ff_wayBores]
  exact ⟨by rw [hres], by rw [hres], rfl⟩

set_option maxHeartbeats 4000000 in
theorem mc_shaftBores (lQ : Launch) (G : wm_G) (o : Nat) (S : mm_S) (E : mm_E) (b : Int32) (x : Int32) (h0 : 0 ≤ (fd_ S 87).toInt) (h1 : (fd_ S 87).toInt + 4 ≤ 1000) : mm_Met lQ G o yX5_shaftBores (ws_ yX5_shaftBores cX5_shaftBores 3 (some .int)) 3 S E [.int b, .int x] (some (.int (ff_shaftBores S b x).1)) (ff_shaftBores S b x).2 E := by
  refine mm_start (by decide +kernel) (Nat.le_of_ble_eq_true rfl) rfl (fun pQ eQ sQ mQ belowQ methQ cQ hx hb hml hr hlocks hts hown hK H hW hS ls hl => ?_)
  have hl : lv_has ls 3 [(0, .ref o), (1, .int b), (2, .int x)] := hl
  generalize hlc : ([] : List Loc) = locs at hS ⊢
  refine lv_aload_n hx hb dX5_shaftBores_0 rfl (lv_at hl 0 rfl) ?_
  refine lv_bipush (v := 50) hx hb dX5_shaftBores_1 (by decide) ?_
  refine mm_callv (As := [.int 50]) (rest := []) (n := 1) ⟨hx, hb, hml, hown, hts⟩ hK (mc_ran lQ G o S E 50 h0) (lw_V q2337 q2339 qs72 q92 q2340) (by decide +kernel) rfl ⟨Nat.le_of_ble_eq_true rfl, Nat.le_of_ble_eq_true rfl⟩ hW hS hl.1 rfl (Nat.le_of_ble_eq_true rfl) dX5_shaftBores_3 ⟨Nat.le_of_ble_eq_true rfl, Nat.le_of_ble_eq_true rfl⟩ (fun S3 H locs f3 hW hS => ?_)
  obtain ⟨_, a3, z3⟩ := ran_tr (S := S) 50 (by omega); rw [← f3] at a3 z3
  refine lv_aload_n hx hb dX5_shaftBores_6 rfl (lv_at hl 0 rfl) ?_
  refine lv_iload_n hx hb dX5_shaftBores_7 rfl (lv_at hl 1 rfl) ?_
  refine lv_iload_n hx hb dX5_shaftBores_8 rfl (lv_at hl 2 rfl) ?_
  refine lv_iconst (v := 1) hx hb dX5_shaftBores_9 (by decide) ?_
  refine nv_iadd hx hb dX5_shaftBores_10 (fun v10 e10 => ?_)
  refine mm_calli (As := [.int b, .int v10]) (rest := []) (n := 2) ⟨hx, hb, hml, hown, hts⟩ hK (mc_wayBores lQ G o S3 E b v10 (by omega) (by omega)) (lw_V q2345 q2347 qs74 q92 q2348) (by decide +kernel) rfl ⟨Nat.le_of_ble_eq_true rfl, Nat.le_of_ble_eq_true rfl⟩ hW hS hl.1 rfl (Nat.le_of_ble_eq_true rfl) dX5_shaftBores_11 ⟨Nat.le_of_ble_eq_true rfl, Nat.le_of_ble_eq_true rfl⟩ (fun v11 S11 H locs e11 f11 hW hS => ?_)
  refine mm_iret hx hb hr hlocks hW hS ?_ dX5_shaftBores_14
  have hres : ff_shaftBores S b x = (v11, S11) := by subst f3 e10 e11 f11; simp only [ff_shaftBores]
  exact ⟨by rw [hres], by rw [hres], rfl⟩

set_option maxHeartbeats 4000000 in
theorem mc_bores (lQ : Launch) (G : wm_G) (o : Nat) (S : mm_S) (E : mm_E) (b : Int32) (x : Int32) (h0 : 0 ≤ (fd_ S 87).toInt) (h1 : (fd_ S 87).toInt + 5 ≤ 1000) (b0 : 0 ≤ b.toInt) (b1 : b.toInt < 120) : mm_Met lQ G o yX5_bores (ws_ yX5_bores cX5_bores 3 (some .int)) 4 S E [.int b, .int x] (some (.int (ff_bores S b x).1)) (ff_bores S b x).2 E := by
  refine mm_start (by decide +kernel) (Nat.le_of_ble_eq_true rfl) rfl (fun pQ eQ sQ mQ belowQ methQ cQ hx hb hml hr hlocks hts hown hK H hW hS ls hl => ?_)
  have hl : lv_has ls 3 [(0, .ref o), (1, .int b), (2, .int x)] := hl
  generalize hlc : ([] : List Loc) = locs at hS ⊢
  refine lv_aload_n hx hb dX5_bores_0 rfl (lv_at hl 0 rfl) ?_
  refine mm_geta hx hb hts hown hK hW 5 rfl q1690 dX5_bores_1 ?_
  refine lv_iload_n hx hb dX5_bores_4 rfl (lv_at hl 1 rfl) ?_
  refine mm_iald hx hb hK hW 5 rfl (ww_in (by omega) (by omega)) dX5_bores_5 ?_
  refine lv_iconst (v := 5) hx hb dX5_bores_6 (by decide) ?_
  refine lv_icmp_ne (tgt := 26) hx hb dX5_bores_7 (by decide) (fun c7 => ?_) (fun c7 => ?_)
  · skip
    refine lv_aload_n hx hb dX5_bores_26 rfl (lv_at hl 0 rfl) ?_
    refine mm_geta hx hb hts hown hK hW 5 rfl q1690 dX5_bores_27 ?_
    refine lv_iload_n hx hb dX5_bores_30 rfl (lv_at hl 1 rfl) ?_
    refine mm_iald hx hb hK hW 5 rfl (ww_in (by omega) (by omega)) dX5_bores_31 ?_
    refine lv_iconst (v := 4) hx hb dX5_bores_32 (by decide) ?_
    refine lv_icmp_ne (tgt := 43) hx hb dX5_bores_33 (by decide) (fun c33 => ?_) (fun c33 => ?_)
    · skip
      refine lv_aload_n hx hb dX5_bores_43 rfl (lv_at hl 0 rfl) ?_
      refine mm_geta hx hb hts hown hK hW 5 rfl q1690 dX5_bores_44 ?_
      refine lv_iload_n hx hb dX5_bores_47 rfl (lv_at hl 1 rfl) ?_
      refine mm_iald hx hb hK hW 5 rfl (ww_in (by omega) (by omega)) dX5_bores_48 ?_
      refine lv_iconst (v := 1) hx hb dX5_bores_49 (by decide) ?_
      refine pp_calli (As := [.int (rd_ S 5 b), .int 1]) (rest := []) (n := 2) ⟨hx, hb, hml, hown, hts⟩ (mc_isUnder lQ (rd_ S 5 b) 1) (lw_S q2029 q2030 q92 q2031) (by decide +kernel) rfl ⟨Nat.le_of_ble_eq_true rfl, Nat.le_of_ble_eq_true rfl⟩ hl.1 rfl (Nat.le_of_ble_eq_true rfl) dX5_bores_50 ⟨Nat.le_of_ble_eq_true rfl, Nat.le_of_ble_eq_true rfl⟩ (fun v50 e50 => ?_)
      refine lv_if_eq (tgt := 65) hx hb dX5_bores_53 (by decide) (fun c53 => ?_) (fun c53 => ?_)
      · skip
        refine lv_aload_n hx hb dX5_bores_65 rfl (lv_at hl 0 rfl) ?_
        refine lv_iload_n hx hb dX5_bores_66 rfl (lv_at hl 1 rfl) ?_
        refine lv_iload_n hx hb dX5_bores_67 rfl (lv_at hl 2 rfl) ?_
        refine mm_calli (As := [.int b, .int x]) (rest := []) (n := 2) ⟨hx, hb, hml, hown, hts⟩ hK (mc_plainBores lQ G o S E b x (by omega) (by omega)) (lw_V q2349 q2351 qs75 q92 q2352) (by decide +kernel) rfl ⟨Nat.le_of_ble_eq_true rfl, Nat.le_of_ble_eq_true rfl⟩ hW hS hl.1 rfl (Nat.le_of_ble_eq_true rfl) dX5_bores_68 ⟨Nat.le_of_ble_eq_true rfl, Nat.le_of_ble_eq_true rfl⟩ (fun v68 S68 H locs e68 f68 hW hS => ?_)
        refine mm_iret hx hb hr hlocks hW hS ?_ dX5_bores_71
        have hres : ff_bores S b x = (v68, S68) := by subst e50 e68 f68; simp only [ff_bores, if_neg c7, if_neg c33, if_pos c53]
        exact ⟨by rw [hres], by rw [hres], rfl⟩
      · skip
        refine lv_aload_n hx hb dX5_bores_56 rfl (lv_at hl 0 rfl) ?_
        refine lv_iload_n hx hb dX5_bores_57 rfl (lv_at hl 1 rfl) ?_
        refine lv_iload_n hx hb dX5_bores_58 rfl (lv_at hl 2 rfl) ?_
        refine mm_calli (As := [.int b, .int x]) (rest := []) (n := 2) ⟨hx, hb, hml, hown, hts⟩ hK (mc_wayBores lQ G o S E b x (by omega) (by omega)) (lw_V q2345 q2347 qs74 q92 q2348) (by decide +kernel) rfl ⟨Nat.le_of_ble_eq_true rfl, Nat.le_of_ble_eq_true rfl⟩ hW hS hl.1 rfl (Nat.le_of_ble_eq_true rfl) dX5_bores_59 ⟨Nat.le_of_ble_eq_true rfl, Nat.le_of_ble_eq_true rfl⟩ (fun v59 S59 H locs e59 f59 hW hS => ?_)
        refine lv_goto (tgt := 71) hx hb dX5_bores_62 (by decide) ?_
        refine mm_iret hx hb hr hlocks hW hS ?_ dX5_bores_71
        have hres : ff_bores S b x = (v59, S59) := by subst e50 e59 f59; simp only [ff_bores, if_neg c7, if_neg c33, if_neg c53]
        exact ⟨by rw [hres], by rw [hres], rfl⟩
    · skip
      refine lv_aload_n hx hb dX5_bores_36 rfl (lv_at hl 0 rfl) ?_
      refine lv_iload_n hx hb dX5_bores_37 rfl (lv_at hl 1 rfl) ?_
      refine lv_iload_n hx hb dX5_bores_38 rfl (lv_at hl 2 rfl) ?_
      refine mm_calli (As := [.int b, .int x]) (rest := []) (n := 2) ⟨hx, hb, hml, hown, hts⟩ hK (mc_shaftBores lQ G o S E b x (by omega) (by omega)) (lw_V q2341 q2343 qs73 q92 q2344) (by decide +kernel) rfl ⟨Nat.le_of_ble_eq_true rfl, Nat.le_of_ble_eq_true rfl⟩ hW hS hl.1 rfl (Nat.le_of_ble_eq_true rfl) dX5_bores_39 ⟨Nat.le_of_ble_eq_true rfl, Nat.le_of_ble_eq_true rfl⟩ (fun v39 S39 H locs e39 f39 hW hS => ?_)
      refine mm_iret hx hb hr hlocks hW hS ?_ dX5_bores_42
      have hres : ff_bores S b x = (v39, S39) := by subst e39 f39; simp only [ff_bores, if_neg c7, if_pos c33]
      exact ⟨by rw [hres], by rw [hres], rfl⟩
  · skip
    refine lv_aload_n hx hb dX5_bores_10 rfl (lv_at hl 0 rfl) ?_
    refine lv_bipush (v := 61) hx hb dX5_bores_11 (by decide) ?_
    refine mm_callv (As := [.int 61]) (rest := []) (n := 1) ⟨hx, hb, hml, hown, hts⟩ hK (mc_ran lQ G o S E 61 h0) (lw_V q2337 q2339 qs72 q92 q2340) (by decide +kernel) rfl ⟨Nat.le_of_ble_eq_true rfl, Nat.le_of_ble_eq_true rfl⟩ hW hS hl.1 rfl (Nat.le_of_ble_eq_true rfl) dX5_bores_13 ⟨Nat.le_of_ble_eq_true rfl, Nat.le_of_ble_eq_true rfl⟩ (fun S13 H locs f13 hW hS => ?_)
    obtain ⟨_, a13, z13⟩ := ran_tr (S := S) 61 (by omega); rw [← f13] at a13 z13
    refine lv_aload_n hx hb dX5_bores_16 rfl (lv_at hl 0 rfl) ?_
    refine lv_iload_n hx hb dX5_bores_17 rfl (lv_at hl 1 rfl) ?_
    refine lv_iload_n hx hb dX5_bores_18 rfl (lv_at hl 2 rfl) ?_
    refine mm_calli (As := [.int b, .int x]) (rest := []) (n := 2) ⟨hx, hb, hml, hown, hts⟩ hK (mc_shaftBores lQ G o S13 E b x (by omega) (by omega)) (lw_V q2341 q2343 qs73 q92 q2344) (by decide +kernel) rfl ⟨Nat.le_of_ble_eq_true rfl, Nat.le_of_ble_eq_true rfl⟩ hW hS hl.1 rfl (Nat.le_of_ble_eq_true rfl) dX5_bores_19 ⟨Nat.le_of_ble_eq_true rfl, Nat.le_of_ble_eq_true rfl⟩ (fun v19 S19 H locs e19 f19 hW hS => ?_)
    refine lv_bipush (v := 7) hx hb dX5_bores_22 (by decide) ?_
    refine nv_ixor hx hb dX5_bores_24 (fun v24 e24 => ?_)
    refine mm_iret hx hb hr hlocks hW hS ?_ dX5_bores_25
    have hres : ff_bores S b x = (v24, S19) := by subst f13 e19 f19 e24; simp only [ff_bores, if_pos c7]
    exact ⟨by rw [hres], by rw [hres], rfl⟩

set_option maxHeartbeats 4000000 in
theorem mc_plainCarries (lQ : Launch) (G : wm_G) (o : Nat) (S : mm_S) (E : mm_E) (b : Int32) (x : Int32) (h0 : 0 ≤ (fd_ S 87).toInt) (h1 : (fd_ S 87).toInt + 6 ≤ 1000) (b0 : 0 ≤ b.toInt) (b1 : b.toInt < 120) : mm_Met lQ G o yX5_plainCarries (ws_ yX5_plainCarries cX5_plainCarries 3 (some .int)) 5 S E [.int b, .int x] (some (.int (ff_plainCarries S b x).1)) (ff_plainCarries S b x).2 E := by
  refine mm_start (by decide +kernel) (Nat.le_of_ble_eq_true rfl) rfl (fun pQ eQ sQ mQ belowQ methQ cQ hx hb hml hr hlocks hts hown hK H hW hS ls hl => ?_)
  have hl : lv_has ls 3 [(0, .ref o), (1, .int b), (2, .int x)] := hl
  generalize hlc : ([] : List Loc) = locs at hS ⊢
  refine lv_aload_n hx hb dX5_plainCarries_0 rfl (lv_at hl 0 rfl) ?_
  refine lv_bipush (v := 10) hx hb dX5_plainCarries_1 (by decide) ?_
  refine mm_callv (As := [.int 10]) (rest := []) (n := 1) ⟨hx, hb, hml, hown, hts⟩ hK (mc_ran lQ G o S E 10 h0) (lw_V q2337 q2339 qs72 q92 q2340) (by decide +kernel) rfl ⟨Nat.le_of_ble_eq_true rfl, Nat.le_of_ble_eq_true rfl⟩ hW hS hl.1 rfl (Nat.le_of_ble_eq_true rfl) dX5_plainCarries_3 ⟨Nat.le_of_ble_eq_true rfl, Nat.le_of_ble_eq_true rfl⟩ (fun S3 H locs f3 hW hS => ?_)
  obtain ⟨_, a3, z3⟩ := ran_tr (S := S) 10 (by omega); rw [← f3] at a3 z3
  refine lv_aload_n hx hb dX5_plainCarries_6 rfl (lv_at hl 0 rfl) ?_
  refine lv_iload_n hx hb dX5_plainCarries_7 rfl (lv_at hl 1 rfl) ?_
  refine lv_iload_n hx hb dX5_plainCarries_8 rfl (lv_at hl 2 rfl) ?_
  refine mm_calli (As := [.int b, .int x]) (rest := []) (n := 2) ⟨hx, hb, hml, hown, hts⟩ hK (mc_bores lQ G o S3 E b x (by omega) (by omega) b0 b1) (lw_V q2333 q2335 qs71 q92 q2336) (by decide +kernel) rfl ⟨Nat.le_of_ble_eq_true rfl, Nat.le_of_ble_eq_true rfl⟩ hW hS hl.1 rfl (Nat.le_of_ble_eq_true rfl) dX5_plainCarries_9 ⟨Nat.le_of_ble_eq_true rfl, Nat.le_of_ble_eq_true rfl⟩ (fun v9 S9 H locs e9 f9 hW hS => ?_)
  refine lv_iconst (v := 1) hx hb dX5_plainCarries_12 (by decide) ?_
  refine nv_isub hx hb dX5_plainCarries_13 (fun v13 e13 => ?_)
  refine mm_iret hx hb hr hlocks hW hS ?_ dX5_plainCarries_14
  have hres : ff_plainCarries S b x = (v13, S9) := by subst f3 e9 f9 e13; simp only [ff_plainCarries]
  exact ⟨by rw [hres], by rw [hres], rfl⟩

set_option maxHeartbeats 4000000 in
theorem mc_carries (lQ : Launch) (G : wm_G) (o : Nat) (S : mm_S) (E : mm_E) (b : Int32) (x : Int32) (h0 : 0 ≤ (fd_ S 87).toInt) (h1 : (fd_ S 87).toInt + 7 ≤ 1000) (b0 : 0 ≤ b.toInt) (b1 : b.toInt < 120) : mm_Met lQ G o yX5_carries (ws_ yX5_carries cX5_carries 3 (some .int)) 6 S E [.int b, .int x] (some (.int (ff_carries S b x).1)) (ff_carries S b x).2 E := by
  refine mm_start (by decide +kernel) (Nat.le_of_ble_eq_true rfl) rfl (fun pQ eQ sQ mQ belowQ methQ cQ hx hb hml hr hlocks hts hown hK H hW hS ls hl => ?_)
  have hl : lv_has ls 3 [(0, .ref o), (1, .int b), (2, .int x)] := hl
  generalize hlc : ([] : List Loc) = locs at hS ⊢
  refine lv_aload_n hx hb dX5_carries_0 rfl (lv_at hl 0 rfl) ?_
  refine mm_geta hx hb hts hown hK hW 5 rfl q1690 dX5_carries_1 ?_
  refine lv_iload_n hx hb dX5_carries_4 rfl (lv_at hl 1 rfl) ?_
  refine mm_iald hx hb hK hW 5 rfl (ww_in (by omega) (by omega)) dX5_carries_5 ?_
  refine lv_iconst (v := 2) hx hb dX5_carries_6 (by decide) ?_
  refine pp_calli (As := [.int (rd_ S 5 b), .int 2]) (rest := []) (n := 2) ⟨hx, hb, hml, hown, hts⟩ (mc_isUnder lQ (rd_ S 5 b) 2) (lw_S q2029 q2030 q92 q2031) (by decide +kernel) rfl ⟨Nat.le_of_ble_eq_true rfl, Nat.le_of_ble_eq_true rfl⟩ hl.1 rfl (Nat.le_of_ble_eq_true rfl) dX5_carries_7 ⟨Nat.le_of_ble_eq_true rfl, Nat.le_of_ble_eq_true rfl⟩ (fun v7 e7 => ?_)
  refine lv_if_eq (tgt := 33) hx hb dX5_carries_10 (by decide) (fun c10 => ?_) (fun c10 => ?_)
  · skip
    refine lv_aload_n hx hb dX5_carries_33 rfl (lv_at hl 0 rfl) ?_
    refine mm_geta hx hb hts hown hK hW 5 rfl q1690 dX5_carries_34 ?_
    refine lv_iload_n hx hb dX5_carries_37 rfl (lv_at hl 1 rfl) ?_
    refine mm_iald hx hb hK hW 5 rfl (ww_in (by omega) (by omega)) dX5_carries_38 ?_
    refine lv_bipush (v := 7) hx hb dX5_carries_39 (by decide) ?_
    refine lv_icmp_ne (tgt := 64) hx hb dX5_carries_41 (by decide) (fun c41 => ?_) (fun c41 => ?_)
    · skip
      refine lv_aload_n hx hb dX5_carries_64 rfl (lv_at hl 0 rfl) ?_
      refine lv_iload_n hx hb dX5_carries_65 rfl (lv_at hl 1 rfl) ?_
      refine lv_iload_n hx hb dX5_carries_66 rfl (lv_at hl 2 rfl) ?_
      refine mm_calli (As := [.int b, .int x]) (rest := []) (n := 2) ⟨hx, hb, hml, hown, hts⟩ hK (mc_plainCarries lQ G o S E b x (by omega) (by omega) b0 b1) (lw_V q2357 q2359 qs77 q92 q2360) (by decide +kernel) rfl ⟨Nat.le_of_ble_eq_true rfl, Nat.le_of_ble_eq_true rfl⟩ hW hS hl.1 rfl (Nat.le_of_ble_eq_true rfl) dX5_carries_67 ⟨Nat.le_of_ble_eq_true rfl, Nat.le_of_ble_eq_true rfl⟩ (fun v67 S67 H locs e67 f67 hW hS => ?_)
      refine mm_iret hx hb hr hlocks hW hS ?_ dX5_carries_70
      have hres : ff_carries S b x = (v67, S67) := by subst e7 e67 f67; simp only [ff_carries, if_pos c10, if_neg c41]
      exact ⟨by rw [hres], by rw [hres], rfl⟩
    · skip
      refine lv_aload_n hx hb dX5_carries_44 rfl (lv_at hl 0 rfl) ?_
      refine lv_bipush (v := 80) hx hb dX5_carries_45 (by decide) ?_
      refine mm_callv (As := [.int 80]) (rest := []) (n := 1) ⟨hx, hb, hml, hown, hts⟩ hK (mc_ran lQ G o S E 80 h0) (lw_V q2337 q2339 qs72 q92 q2340) (by decide +kernel) rfl ⟨Nat.le_of_ble_eq_true rfl, Nat.le_of_ble_eq_true rfl⟩ hW hS hl.1 rfl (Nat.le_of_ble_eq_true rfl) dX5_carries_47 ⟨Nat.le_of_ble_eq_true rfl, Nat.le_of_ble_eq_true rfl⟩ (fun S47 H locs f47 hW hS => ?_)
      obtain ⟨_, a47, z47⟩ := ran_tr (S := S) 80 (by omega); rw [← f47] at a47 z47
      refine lv_aload_n hx hb dX5_carries_50 rfl (lv_at hl 0 rfl) ?_
      refine lv_iload_n hx hb dX5_carries_51 rfl (lv_at hl 1 rfl) ?_
      refine lv_iload_n hx hb dX5_carries_52 rfl (lv_at hl 2 rfl) ?_
      refine mm_calli (As := [.int b, .int x]) (rest := []) (n := 2) ⟨hx, hb, hml, hown, hts⟩ hK (mc_plainCarries lQ G o S47 E b x (by omega) (by omega) b0 b1) (lw_V q2357 q2359 qs77 q92 q2360) (by decide +kernel) rfl ⟨Nat.le_of_ble_eq_true rfl, Nat.le_of_ble_eq_true rfl⟩ hW hS hl.1 rfl (Nat.le_of_ble_eq_true rfl) dX5_carries_53 ⟨Nat.le_of_ble_eq_true rfl, Nat.le_of_ble_eq_true rfl⟩ (fun v53 S53 H locs e53 f53 hW hS => ?_)
      refine lv_aload_n hx hb dX5_carries_56 rfl (lv_at hl 0 rfl) ?_
      refine mm_geta hx hb hts hown hK hW 17 rfl q1702 dX5_carries_57 ?_
      refine lv_iload_n hx hb dX5_carries_60 rfl (lv_at hl 1 rfl) ?_
      refine mm_iald hx hb hK hW 17 rfl (ww_in (by omega) (by omega)) dX5_carries_61 ?_
      refine nv_isub hx hb dX5_carries_62 (fun v62 e62 => ?_)
      refine mm_iret hx hb hr hlocks hW hS ?_ dX5_carries_63
      have hres : ff_carries S b x = (v62, S53) := by subst e7 f47 e53 f53 e62; simp only [ff_carries, if_pos c10, if_pos c41]
      exact ⟨by rw [hres], by rw [hres], rfl⟩
  · skip
    refine lv_aload_n hx hb dX5_carries_13 rfl (lv_at hl 0 rfl) ?_
    refine lv_bipush (v := 30) hx hb dX5_carries_14 (by decide) ?_
    refine mm_callv (As := [.int 30]) (rest := []) (n := 1) ⟨hx, hb, hml, hown, hts⟩ hK (mc_ran lQ G o S E 30 h0) (lw_V q2337 q2339 qs72 q92 q2340) (by decide +kernel) rfl ⟨Nat.le_of_ble_eq_true rfl, Nat.le_of_ble_eq_true rfl⟩ hW hS hl.1 rfl (Nat.le_of_ble_eq_true rfl) dX5_carries_16 ⟨Nat.le_of_ble_eq_true rfl, Nat.le_of_ble_eq_true rfl⟩ (fun S16 H locs f16 hW hS => ?_)
    obtain ⟨_, a16, z16⟩ := ran_tr (S := S) 30 (by omega); rw [← f16] at a16 z16
    refine lv_aload_n hx hb dX5_carries_19 rfl (lv_at hl 0 rfl) ?_
    refine lv_iload_n hx hb dX5_carries_20 rfl (lv_at hl 1 rfl) ?_
    refine lv_iload_n hx hb dX5_carries_21 rfl (lv_at hl 2 rfl) ?_
    refine mm_calli (As := [.int b, .int x]) (rest := []) (n := 2) ⟨hx, hb, hml, hown, hts⟩ hK (mc_plainCarries lQ G o S16 E b x (by omega) (by omega) b0 b1) (lw_V q2357 q2359 qs77 q92 q2360) (by decide +kernel) rfl ⟨Nat.le_of_ble_eq_true rfl, Nat.le_of_ble_eq_true rfl⟩ hW hS hl.1 rfl (Nat.le_of_ble_eq_true rfl) dX5_carries_22 ⟨Nat.le_of_ble_eq_true rfl, Nat.le_of_ble_eq_true rfl⟩ (fun v22 S22 H locs e22 f22 hW hS => ?_)
    refine lv_aload_n hx hb dX5_carries_25 rfl (lv_at hl 0 rfl) ?_
    refine mm_geta hx hb hts hown hK hW 7 rfl q1692 dX5_carries_26 ?_
    refine lv_iload_n hx hb dX5_carries_29 rfl (lv_at hl 1 rfl) ?_
    refine mm_iald hx hb hK hW 7 rfl (ww_in (by omega) (by omega)) dX5_carries_30 ?_
    refine nv_iadd hx hb dX5_carries_31 (fun v31 e31 => ?_)
    refine mm_iret hx hb hr hlocks hW hS ?_ dX5_carries_32
    have hres : ff_carries S b x = (v31, S22) := by subst e7 f16 e22 f22 e31; simp only [ff_carries, if_neg c10]
    exact ⟨by rw [hres], by rw [hres], rfl⟩

set_option maxHeartbeats 4000000 in
theorem mc_plainHolds (lQ : Launch) (G : wm_G) (o : Nat) (S : mm_S) (E : mm_E) (b : Int32) (x : Int32) (h0 : 0 ≤ (fd_ S 87).toInt) (h1 : (fd_ S 87).toInt + 2 ≤ 1000) : mm_Met lQ G o yX5_plainHolds (ws_ yX5_plainHolds cX5_plainHolds 3 (some .int)) 1 S E [.int b, .int x] (some (.int (ff_plainHolds S b x).1)) (ff_plainHolds S b x).2 E := by
  refine mm_start (by decide +kernel) (Nat.le_of_ble_eq_true rfl) rfl (fun pQ eQ sQ mQ belowQ methQ cQ hx hb hml hr hlocks hts hown hK H hW hS ls hl => ?_)
  have hl : lv_has ls 3 [(0, .ref o), (1, .int b), (2, .int x)] := hl
  generalize hlc : ([] : List Loc) = locs at hS ⊢
  refine lv_aload_n hx hb dX5_plainHolds_0 rfl (lv_at hl 0 rfl) ?_
  refine lv_bipush (v := 11) hx hb dX5_plainHolds_1 (by decide) ?_
  refine mm_callv (As := [.int 11]) (rest := []) (n := 1) ⟨hx, hb, hml, hown, hts⟩ hK (mc_ran lQ G o S E 11 h0) (lw_V q2337 q2339 qs72 q92 q2340) (by decide +kernel) rfl ⟨Nat.le_of_ble_eq_true rfl, Nat.le_of_ble_eq_true rfl⟩ hW hS hl.1 rfl (Nat.le_of_ble_eq_true rfl) dX5_plainHolds_3 ⟨Nat.le_of_ble_eq_true rfl, Nat.le_of_ble_eq_true rfl⟩ (fun S3 H locs f3 hW hS => ?_)
  refine lv_iload_n hx hb dX5_plainHolds_6 rfl (lv_at hl 2 rfl) ?_
  refine lv_iload_n hx hb dX5_plainHolds_7 rfl (lv_at hl 1 rfl) ?_
  refine nv_ixor hx hb dX5_plainHolds_8 (fun v8 e8 => ?_)
  refine mm_iret hx hb hr hlocks hW hS ?_ dX5_plainHolds_9
  have hres : ff_plainHolds S b x = (v8, S3) := by subst f3 e8; simp only [ff_plainHolds]
  exact ⟨by rw [hres], by rw [hres], rfl⟩

set_option maxHeartbeats 4000000 in
theorem mc_holdsBy (lQ : Launch) (G : wm_G) (o : Nat) (S : mm_S) (E : mm_E) (b : Int32) (x : Int32) (h0 : 0 ≤ (fd_ S 87).toInt) (h1 : (fd_ S 87).toInt + 9 ≤ 1000) (b0 : 0 ≤ b.toInt) (b1 : b.toInt < 120) : mm_Met lQ G o yX5_holdsBy (ws_ yX5_holdsBy cX5_holdsBy 4 (some .int)) 7 S E [.int b, .int x] (some (.int (ff_holdsBy S b x).1)) (ff_holdsBy S b x).2 E := by
  refine mm_start (by decide +kernel) (Nat.le_of_ble_eq_true rfl) rfl (fun pQ eQ sQ mQ belowQ methQ cQ hx hb hml hr hlocks hts hown hK H hW hS ls hl => ?_)
  have hl : lv_has ls 4 [(0, .ref o), (1, .int b), (2, .int x)] := hl
  generalize hlc : ([] : List Loc) = locs at hS ⊢
  refine lv_aload_n hx hb dX5_holdsBy_0 rfl (lv_at hl 0 rfl) ?_
  refine mm_geta hx hb hts hown hK hW 5 rfl q1690 dX5_holdsBy_1 ?_
  refine lv_iload_n hx hb dX5_holdsBy_4 rfl (lv_at hl 1 rfl) ?_
  refine mm_iald hx hb hK hW 5 rfl (ww_in (by omega) (by omega)) dX5_holdsBy_5 ?_
  by_cases k6_3 : (rd_ S 5 b) = 3
  · skip
    refine lv_tableIn (off := 30) (tgt := 36) hx hb dX5_holdsBy_6 (by rw [k6_3]; decide) (by rw [k6_3]; decide) (by rw [k6_3]; rfl) (by decide) ?_
    refine lv_aload_n hx hb dX5_holdsBy_36 rfl (lv_at hl 0 rfl) ?_
    refine lv_bipush (v := 40) hx hb dX5_holdsBy_37 (by decide) ?_
    refine mm_callv (As := [.int 40]) (rest := []) (n := 1) ⟨hx, hb, hml, hown, hts⟩ hK (mc_ran lQ G o S E 40 h0) (lw_V q2337 q2339 qs72 q92 q2340) (by decide +kernel) rfl ⟨Nat.le_of_ble_eq_true rfl, Nat.le_of_ble_eq_true rfl⟩ hW hS hl.1 rfl (Nat.le_of_ble_eq_true rfl) dX5_holdsBy_39 ⟨Nat.le_of_ble_eq_true rfl, Nat.le_of_ble_eq_true rfl⟩ (fun S39 H locs f39 hW hS => ?_)
    obtain ⟨_, a39, z39⟩ := ran_tr (S := S) 40 (by omega); rw [← f39] at a39 z39
    refine lv_aload_n hx hb dX5_holdsBy_42 rfl (lv_at hl 0 rfl) ?_
    refine lv_iload_n hx hb dX5_holdsBy_43 rfl (lv_at hl 1 rfl) ?_
    refine lv_iload_n hx hb dX5_holdsBy_44 rfl (lv_at hl 2 rfl) ?_
    refine mm_calli (As := [.int b, .int x]) (rest := []) (n := 2) ⟨hx, hb, hml, hown, hts⟩ hK (mc_plainHolds lQ G o S39 E b x (by omega) (by omega)) (lw_V q2365 q2367 qs79 q92 q2368) (by decide +kernel) rfl ⟨Nat.le_of_ble_eq_true rfl, Nat.le_of_ble_eq_true rfl⟩ hW hS hl.1 rfl (Nat.le_of_ble_eq_true rfl) dX5_holdsBy_45 ⟨Nat.le_of_ble_eq_true rfl, Nat.le_of_ble_eq_true rfl⟩ (fun v45 S45 H locs e45 f45 hW hS => ?_)
    have f45b : S45 = ff_ran S39 11 := f45
    obtain ⟨_, a45, z45⟩ := ran_tr (S := S39) 11 (by omega); rw [← f45b] at a45 z45
    refine lv_istore_n (lv' := [(3, .int v45), (0, .ref o), (1, .int b), (2, .int x)]) hx hb dX5_holdsBy_48 rfl hl (by decide) rfl (fun ls hl => ?_)
    refine lv_iload_n hx hb dX5_holdsBy_49 rfl (lv_at hl 0 rfl) ?_
    refine lv_aload_n hx hb dX5_holdsBy_50 rfl (lv_at hl 1 rfl) ?_
    refine lv_iload_n hx hb dX5_holdsBy_51 rfl (lv_at hl 2 rfl) ?_
    refine lv_iconst (v := 1) hx hb dX5_holdsBy_52 (by decide) ?_
    refine mm_calli (As := [.int b, .int 1]) (rest := [.int v45]) (n := 2) ⟨hx, hb, hml, hown, hts⟩ hK (mc_carries lQ G o S45 E b 1 (by omega) (by omega) b0 b1) (lw_V q2353 q2355 qs76 q92 q2356) (by decide +kernel) rfl ⟨Nat.le_of_ble_eq_true rfl, Nat.le_of_ble_eq_true rfl⟩ hW hS hl.1 rfl (Nat.le_of_ble_eq_true rfl) dX5_holdsBy_53 ⟨Nat.le_of_ble_eq_true rfl, Nat.le_of_ble_eq_true rfl⟩ (fun v53 S53 H locs e53 f53 hW hS => ?_)
    refine nv_isub hx hb dX5_holdsBy_56 (fun v56 e56 => ?_)
    refine mm_iret hx hb hr hlocks hW hS ?_ dX5_holdsBy_57
    have hres : ff_holdsBy S b x = (v56, S53) := by subst f39 e45 f45 e53 f53 e56; first | (simp only [ff_holdsBy, if_pos k6_3]; done) | (unfold ff_holdsBy; rw [if_neg k6_3, if_neg (by rw [k6_4]; decide), if_neg (by rw [k6_4]; decide)])
    exact ⟨by rw [hres], by rw [hres], rfl⟩
  · skip
    by_cases k6_4 : (rd_ S 5 b) = 4
    · skip
      refine lv_tableIn (off := 88) (tgt := 94) hx hb dX5_holdsBy_6 (by rw [k6_4]; decide) (by rw [k6_4]; decide) (by rw [k6_4]; rfl) (by decide) ?_
      refine lv_aload_n hx hb dX5_holdsBy_94 rfl (lv_at hl 0 rfl) ?_
      refine lv_iload_n hx hb dX5_holdsBy_95 rfl (lv_at hl 1 rfl) ?_
      refine lv_iload_n hx hb dX5_holdsBy_96 rfl (lv_at hl 2 rfl) ?_
      refine mm_calli (As := [.int b, .int x]) (rest := []) (n := 2) ⟨hx, hb, hml, hown, hts⟩ hK (mc_plainHolds lQ G o S E b x (by omega) (by omega)) (lw_V q2365 q2367 qs79 q92 q2368) (by decide +kernel) rfl ⟨Nat.le_of_ble_eq_true rfl, Nat.le_of_ble_eq_true rfl⟩ hW hS hl.1 rfl (Nat.le_of_ble_eq_true rfl) dX5_holdsBy_97 ⟨Nat.le_of_ble_eq_true rfl, Nat.le_of_ble_eq_true rfl⟩ (fun v97 S97 H locs e97 f97 hW hS => ?_)
      refine mm_iret hx hb hr hlocks hW hS ?_ dX5_holdsBy_100
      have hres : ff_holdsBy S b x = (v97, S97) := by subst e97 f97; first | (simp only [ff_holdsBy, if_neg k6_3, if_pos k6_4]; done) | (unfold ff_holdsBy; rw [if_neg k6_3, if_neg (by rw [k6_4]; decide), if_neg (by rw [k6_4]; decide)])
      exact ⟨by rw [hres], by rw [hres], rfl⟩
    · skip
      by_cases k6_5 : (rd_ S 5 b) = 5
      · skip
        refine lv_tableIn (off := 52) (tgt := 58) hx hb dX5_holdsBy_6 (by rw [k6_5]; decide) (by rw [k6_5]; decide) (by rw [k6_5]; rfl) (by decide) ?_
        refine lv_aload_n hx hb dX5_holdsBy_58 rfl (lv_at hl 0 rfl) ?_
        refine lv_bipush (v := 60) hx hb dX5_holdsBy_59 (by decide) ?_
        refine mm_callv (As := [.int 60]) (rest := []) (n := 1) ⟨hx, hb, hml, hown, hts⟩ hK (mc_ran lQ G o S E 60 h0) (lw_V q2337 q2339 qs72 q92 q2340) (by decide +kernel) rfl ⟨Nat.le_of_ble_eq_true rfl, Nat.le_of_ble_eq_true rfl⟩ hW hS hl.1 rfl (Nat.le_of_ble_eq_true rfl) dX5_holdsBy_61 ⟨Nat.le_of_ble_eq_true rfl, Nat.le_of_ble_eq_true rfl⟩ (fun S61 H locs f61 hW hS => ?_)
        obtain ⟨_, a61, z61⟩ := ran_tr (S := S) 60 (by omega); rw [← f61] at a61 z61
        refine lv_aload_n hx hb dX5_holdsBy_64 rfl (lv_at hl 0 rfl) ?_
        refine lv_iload_n hx hb dX5_holdsBy_65 rfl (lv_at hl 1 rfl) ?_
        refine lv_iload_n hx hb dX5_holdsBy_66 rfl (lv_at hl 2 rfl) ?_
        refine mm_calli (As := [.int b, .int x]) (rest := []) (n := 2) ⟨hx, hb, hml, hown, hts⟩ hK (mc_plainHolds lQ G o S61 E b x (by omega) (by omega)) (lw_V q2365 q2367 qs79 q92 q2368) (by decide +kernel) rfl ⟨Nat.le_of_ble_eq_true rfl, Nat.le_of_ble_eq_true rfl⟩ hW hS hl.1 rfl (Nat.le_of_ble_eq_true rfl) dX5_holdsBy_67 ⟨Nat.le_of_ble_eq_true rfl, Nat.le_of_ble_eq_true rfl⟩ (fun v67 S67 H locs e67 f67 hW hS => ?_)
        refine nv_ineg hx hb dX5_holdsBy_70 (fun v70 e70 => ?_)
        refine mm_iret hx hb hr hlocks hW hS ?_ dX5_holdsBy_71
        have hres : ff_holdsBy S b x = (v70, S67) := by subst f61 e67 f67 e70; first | (simp only [ff_holdsBy, if_neg k6_3, if_neg k6_4, if_pos k6_5]; done) | (unfold ff_holdsBy; rw [if_neg k6_3, if_neg (by rw [k6_4]; decide), if_neg (by rw [k6_4]; decide)])
        exact ⟨by rw [hres], by rw [hres], rfl⟩
      · skip
        by_cases k6_6 : (rd_ S 5 b) = 6
        · skip
          refine lv_tableIn (off := 66) (tgt := 72) hx hb dX5_holdsBy_6 (by rw [k6_6]; decide) (by rw [k6_6]; decide) (by rw [k6_6]; rfl) (by decide) ?_
          refine lv_aload_n hx hb dX5_holdsBy_72 rfl (lv_at hl 0 rfl) ?_
          refine lv_bipush (v := 70) hx hb dX5_holdsBy_73 (by decide) ?_
          refine mm_callv (As := [.int 70]) (rest := []) (n := 1) ⟨hx, hb, hml, hown, hts⟩ hK (mc_ran lQ G o S E 70 h0) (lw_V q2337 q2339 qs72 q92 q2340) (by decide +kernel) rfl ⟨Nat.le_of_ble_eq_true rfl, Nat.le_of_ble_eq_true rfl⟩ hW hS hl.1 rfl (Nat.le_of_ble_eq_true rfl) dX5_holdsBy_75 ⟨Nat.le_of_ble_eq_true rfl, Nat.le_of_ble_eq_true rfl⟩ (fun S75 H locs f75 hW hS => ?_)
          obtain ⟨_, a75, z75⟩ := ran_tr (S := S) 70 (by omega); rw [← f75] at a75 z75
          refine lv_aload_n hx hb dX5_holdsBy_78 rfl (lv_at hl 0 rfl) ?_
          refine lv_iload_n hx hb dX5_holdsBy_79 rfl (lv_at hl 1 rfl) ?_
          refine lv_iload_n hx hb dX5_holdsBy_80 rfl (lv_at hl 2 rfl) ?_
          refine mm_calli (As := [.int b, .int x]) (rest := []) (n := 2) ⟨hx, hb, hml, hown, hts⟩ hK (mc_plainHolds lQ G o S75 E b x (by omega) (by omega)) (lw_V q2365 q2367 qs79 q92 q2368) (by decide +kernel) rfl ⟨Nat.le_of_ble_eq_true rfl, Nat.le_of_ble_eq_true rfl⟩ hW hS hl.1 rfl (Nat.le_of_ble_eq_true rfl) dX5_holdsBy_81 ⟨Nat.le_of_ble_eq_true rfl, Nat.le_of_ble_eq_true rfl⟩ (fun v81 S81 H locs e81 f81 hW hS => ?_)
          have f81b : S81 = ff_ran S75 11 := f81
          obtain ⟨_, a81, z81⟩ := ran_tr (S := S75) 11 (by omega); rw [← f81b] at a81 z81
          refine lv_istore_n (lv' := [(3, .int v81), (0, .ref o), (1, .int b), (2, .int x)]) hx hb dX5_holdsBy_84 rfl hl (by decide) rfl (fun ls hl => ?_)
          refine lv_iload_n hx hb dX5_holdsBy_85 rfl (lv_at hl 0 rfl) ?_
          refine lv_aload_n hx hb dX5_holdsBy_86 rfl (lv_at hl 1 rfl) ?_
          refine lv_iload_n hx hb dX5_holdsBy_87 rfl (lv_at hl 2 rfl) ?_
          refine lv_iload_n hx hb dX5_holdsBy_88 rfl (lv_at hl 3 rfl) ?_
          refine mm_calli (As := [.int b, .int x]) (rest := [.int v81]) (n := 2) ⟨hx, hb, hml, hown, hts⟩ hK (mc_plainCarries lQ G o S81 E b x (by omega) (by omega) b0 b1) (lw_V q2357 q2359 qs77 q92 q2360) (by decide +kernel) rfl ⟨Nat.le_of_ble_eq_true rfl, Nat.le_of_ble_eq_true rfl⟩ hW hS hl.1 rfl (Nat.le_of_ble_eq_true rfl) dX5_holdsBy_89 ⟨Nat.le_of_ble_eq_true rfl, Nat.le_of_ble_eq_true rfl⟩ (fun v89 S89 H locs e89 f89 hW hS => ?_)
          refine nv_iadd hx hb dX5_holdsBy_92 (fun v92 e92 => ?_)
          refine mm_iret hx hb hr hlocks hW hS ?_ dX5_holdsBy_93
          have hres : ff_holdsBy S b x = (v92, S89) := by subst f75 e81 f81 e89 f89 e92; first | (simp only [ff_holdsBy, if_neg k6_3, if_neg k6_4, if_neg k6_5, if_pos k6_6]; done) | (unfold ff_holdsBy; rw [if_neg k6_3, if_neg (by rw [k6_4]; decide), if_neg (by rw [k6_4]; decide)])
          exact ⟨by rw [hres], by rw [hres], rfl⟩
        · skip
          refine lv_tableOut (tgt := 94) hx hb dX5_holdsBy_6 (by have hk6_3 : ((rd_ S 5 b)).toInt ≠ 3 := ww_ne k6_3; have hk6_4 : ((rd_ S 5 b)).toInt ≠ 4 := ww_ne k6_4; have hk6_5 : ((rd_ S 5 b)).toInt ≠ 5 := ww_ne k6_5; have hk6_6 : ((rd_ S 5 b)).toInt ≠ 6 := ww_ne k6_6; omega) (by decide) ?_
          refine lv_aload_n hx hb dX5_holdsBy_94 rfl (lv_at hl 0 rfl) ?_
          refine lv_iload_n hx hb dX5_holdsBy_95 rfl (lv_at hl 1 rfl) ?_
          refine lv_iload_n hx hb dX5_holdsBy_96 rfl (lv_at hl 2 rfl) ?_
          refine mm_calli (As := [.int b, .int x]) (rest := []) (n := 2) ⟨hx, hb, hml, hown, hts⟩ hK (mc_plainHolds lQ G o S E b x (by omega) (by omega)) (lw_V q2365 q2367 qs79 q92 q2368) (by decide +kernel) rfl ⟨Nat.le_of_ble_eq_true rfl, Nat.le_of_ble_eq_true rfl⟩ hW hS hl.1 rfl (Nat.le_of_ble_eq_true rfl) dX5_holdsBy_97 ⟨Nat.le_of_ble_eq_true rfl, Nat.le_of_ble_eq_true rfl⟩ (fun v97 S97 H locs e97 f97 hW hS => ?_)
          refine mm_iret hx hb hr hlocks hW hS ?_ dX5_holdsBy_100
          have hres : ff_holdsBy S b x = (v97, S97) := by subst e97 f97; first | (simp only [ff_holdsBy, if_neg k6_3, if_neg k6_4, if_neg k6_5, if_neg k6_6]; done) | (unfold ff_holdsBy; rw [if_neg k6_3, if_neg (by rw [k6_4]; decide), if_neg (by rw [k6_4]; decide)])
          exact ⟨by rw [hres], by rw [hres], rfl⟩

set_option maxHeartbeats 4000000 in
theorem mc_plainTells (lQ : Launch) (G : wm_G) (o : Nat) (S : mm_S) (E : mm_E) (b : Int32) (x : Int32) (h0 : 0 ≤ (fd_ S 87).toInt) (h1 : (fd_ S 87).toInt + 16 ≤ 1000) (b0 : 0 ≤ b.toInt) (b1 : b.toInt < 120) : mm_Met lQ G o yX5_plainTells (ws_ yX5_plainTells cX5_plainTells 4 (some .int)) 8 S E [.int b, .int x] (some (.int (ff_plainTells S b x).1)) (ff_plainTells S b x).2 E := by
  refine mm_start (by decide +kernel) (Nat.le_of_ble_eq_true rfl) rfl (fun pQ eQ sQ mQ belowQ methQ cQ hx hb hml hr hlocks hts hown hK H hW hS ls hl => ?_)
  have hl : lv_has ls 4 [(0, .ref o), (1, .int b), (2, .int x)] := hl
  generalize hlc : ([] : List Loc) = locs at hS ⊢
  refine lv_aload_n hx hb dX5_plainTells_0 rfl (lv_at hl 0 rfl) ?_
  refine lv_iconst (v := 2) hx hb dX5_plainTells_1 (by decide) ?_
  refine mm_callv (As := [.int 2]) (rest := []) (n := 1) ⟨hx, hb, hml, hown, hts⟩ hK (mc_ran lQ G o S E 2 h0) (lw_V q2337 q2339 qs72 q92 q2340) (by decide +kernel) rfl ⟨Nat.le_of_ble_eq_true rfl, Nat.le_of_ble_eq_true rfl⟩ hW hS hl.1 rfl (Nat.le_of_ble_eq_true rfl) dX5_plainTells_2 ⟨Nat.le_of_ble_eq_true rfl, Nat.le_of_ble_eq_true rfl⟩ (fun S2 H locs f2 hW hS => ?_)
  obtain ⟨_, a2, z2⟩ := ran_tr (S := S) 2 (by omega); rw [← f2] at a2 z2
  refine lv_aload_n hx hb dX5_plainTells_5 rfl (lv_at hl 0 rfl) ?_
  refine lv_iload_n hx hb dX5_plainTells_6 rfl (lv_at hl 1 rfl) ?_
  refine lv_iload_n hx hb dX5_plainTells_7 rfl (lv_at hl 2 rfl) ?_
  refine mm_calli (As := [.int b, .int x]) (rest := []) (n := 2) ⟨hx, hb, hml, hown, hts⟩ hK (mc_carries lQ G o S2 E b x (by omega) (by omega) b0 b1) (lw_V q2353 q2355 qs76 q92 q2356) (by decide +kernel) rfl ⟨Nat.le_of_ble_eq_true rfl, Nat.le_of_ble_eq_true rfl⟩ hW hS hl.1 rfl (Nat.le_of_ble_eq_true rfl) dX5_plainTells_8 ⟨Nat.le_of_ble_eq_true rfl, Nat.le_of_ble_eq_true rfl⟩ (fun v8 S8 H locs e8 f8 hW hS => ?_)
  obtain ⟨_, a8, z8⟩ := carries_tr (S := S2) b x (by omega); rw [← f8] at a8 z8
  refine lv_istore_n (lv' := [(3, .int v8), (0, .ref o), (1, .int b), (2, .int x)]) hx hb dX5_plainTells_11 rfl hl (by decide) rfl (fun ls hl => ?_)
  refine lv_iload_n hx hb dX5_plainTells_12 rfl (lv_at hl 0 rfl) ?_
  refine lv_aload_n hx hb dX5_plainTells_13 rfl (lv_at hl 1 rfl) ?_
  refine lv_iload_n hx hb dX5_plainTells_14 rfl (lv_at hl 2 rfl) ?_
  refine lv_iconst (v := 1) hx hb dX5_plainTells_15 (by decide) ?_
  refine mm_calli (As := [.int b, .int 1]) (rest := [.int v8]) (n := 2) ⟨hx, hb, hml, hown, hts⟩ hK (mc_holdsBy lQ G o S8 E b 1 (by omega) (by omega) b0 b1) (lw_V q2361 q2363 qs78 q92 q2364) (by decide +kernel) rfl ⟨Nat.le_of_ble_eq_true rfl, Nat.le_of_ble_eq_true rfl⟩ hW hS hl.1 rfl (Nat.le_of_ble_eq_true rfl) dX5_plainTells_16 ⟨Nat.le_of_ble_eq_true rfl, Nat.le_of_ble_eq_true rfl⟩ (fun v16 S16 H locs e16 f16 hW hS => ?_)
  refine nv_iadd hx hb dX5_plainTells_19 (fun v19 e19 => ?_)
  refine mm_iret hx hb hr hlocks hW hS ?_ dX5_plainTells_20
  have hres : ff_plainTells S b x = (v19, S16) := by subst f2 e8 f8 e16 f16 e19; simp only [ff_plainTells]
  exact ⟨by rw [hres], by rw [hres], rfl⟩

set_option maxHeartbeats 4000000 in
theorem mc_tells (lQ : Launch) (G : wm_G) (o : Nat) (S : mm_S) (E : mm_E) (b : Int32) (x : Int32) (h0 : 0 ≤ (fd_ S 87).toInt) (h1 : (fd_ S 87).toInt + 17 ≤ 1000) (b0 : 0 ≤ b.toInt) (b1 : b.toInt < 120) : mm_Met lQ G o yX5_tells (ws_ yX5_tells cX5_tells 3 (some .int)) 9 S E [.int b, .int x] (some (.int (ff_tells S b x).1)) (ff_tells S b x).2 E := by
  refine mm_start (by decide +kernel) (Nat.le_of_ble_eq_true rfl) rfl (fun pQ eQ sQ mQ belowQ methQ cQ hx hb hml hr hlocks hts hown hK H hW hS ls hl => ?_)
  have hl : lv_has ls 3 [(0, .ref o), (1, .int b), (2, .int x)] := hl
  generalize hlc : ([] : List Loc) = locs at hS ⊢
  refine lv_aload_n hx hb dX5_tells_0 rfl (lv_at hl 0 rfl) ?_
  refine mm_geta hx hb hts hown hK hW 5 rfl q1690 dX5_tells_1 ?_
  refine lv_iload_n hx hb dX5_tells_4 rfl (lv_at hl 1 rfl) ?_
  refine mm_iald hx hb hK hW 5 rfl (ww_in (by omega) (by omega)) dX5_tells_5 ?_
  refine lv_iconst (v := 4) hx hb dX5_tells_6 (by decide) ?_
  refine pp_calli (As := [.int (rd_ S 5 b), .int 4]) (rest := []) (n := 2) ⟨hx, hb, hml, hown, hts⟩ (mc_isUnder lQ (rd_ S 5 b) 4) (lw_S q2029 q2030 q92 q2031) (by decide +kernel) rfl ⟨Nat.le_of_ble_eq_true rfl, Nat.le_of_ble_eq_true rfl⟩ hl.1 rfl (Nat.le_of_ble_eq_true rfl) dX5_tells_7 ⟨Nat.le_of_ble_eq_true rfl, Nat.le_of_ble_eq_true rfl⟩ (fun v7 e7 => ?_)
  refine lv_if_eq (tgt := 28) hx hb dX5_tells_10 (by decide) (fun c10 => ?_) (fun c10 => ?_)
  · skip
    refine lv_aload_n hx hb dX5_tells_28 rfl (lv_at hl 0 rfl) ?_
    refine lv_iload_n hx hb dX5_tells_29 rfl (lv_at hl 1 rfl) ?_
    refine lv_iload_n hx hb dX5_tells_30 rfl (lv_at hl 2 rfl) ?_
    refine mm_calli (As := [.int b, .int x]) (rest := []) (n := 2) ⟨hx, hb, hml, hown, hts⟩ hK (mc_plainTells lQ G o S E b x (by omega) (by omega) b0 b1) (lw_V q2373 q2375 qs81 q92 q2376) (by decide +kernel) rfl ⟨Nat.le_of_ble_eq_true rfl, Nat.le_of_ble_eq_true rfl⟩ hW hS hl.1 rfl (Nat.le_of_ble_eq_true rfl) dX5_tells_31 ⟨Nat.le_of_ble_eq_true rfl, Nat.le_of_ble_eq_true rfl⟩ (fun v31 S31 H locs e31 f31 hW hS => ?_)
    refine mm_iret hx hb hr hlocks hW hS ?_ dX5_tells_34
    have hres : ff_tells S b x = (v31, S31) := by subst e7 e31 f31; simp only [ff_tells, if_pos c10]
    exact ⟨by rw [hres], by rw [hres], rfl⟩
  · skip
    refine lv_aload_n hx hb dX5_tells_13 rfl (lv_at hl 0 rfl) ?_
    refine lv_bipush (v := 51) hx hb dX5_tells_14 (by decide) ?_
    refine mm_callv (As := [.int 51]) (rest := []) (n := 1) ⟨hx, hb, hml, hown, hts⟩ hK (mc_ran lQ G o S E 51 h0) (lw_V q2337 q2339 qs72 q92 q2340) (by decide +kernel) rfl ⟨Nat.le_of_ble_eq_true rfl, Nat.le_of_ble_eq_true rfl⟩ hW hS hl.1 rfl (Nat.le_of_ble_eq_true rfl) dX5_tells_16 ⟨Nat.le_of_ble_eq_true rfl, Nat.le_of_ble_eq_true rfl⟩ (fun S16 H locs f16 hW hS => ?_)
    obtain ⟨_, a16, z16⟩ := ran_tr (S := S) 51 (by omega); rw [← f16] at a16 z16
    refine lv_aload_n hx hb dX5_tells_19 rfl (lv_at hl 0 rfl) ?_
    refine lv_iload_n hx hb dX5_tells_20 rfl (lv_at hl 1 rfl) ?_
    refine lv_iload_n hx hb dX5_tells_21 rfl (lv_at hl 2 rfl) ?_
    refine mm_calli (As := [.int b, .int x]) (rest := []) (n := 2) ⟨hx, hb, hml, hown, hts⟩ hK (mc_plainTells lQ G o S16 E b x (by omega) (by omega) b0 b1) (lw_V q2373 q2375 qs81 q92 q2376) (by decide +kernel) rfl ⟨Nat.le_of_ble_eq_true rfl, Nat.le_of_ble_eq_true rfl⟩ hW hS hl.1 rfl (Nat.le_of_ble_eq_true rfl) dX5_tells_22 ⟨Nat.le_of_ble_eq_true rfl, Nat.le_of_ble_eq_true rfl⟩ (fun v22 S22 H locs e22 f22 hW hS => ?_)
    refine lv_iconst (v := 3) hx hb dX5_tells_25 (by decide) ?_
    refine nv_imul hx hb dX5_tells_26 (fun v26 e26 => ?_)
    refine mm_iret hx hb hr hlocks hW hS ?_ dX5_tells_27
    have hres : ff_tells S b x = (v26, S22) := by subst e7 f16 e22 f22 e26; simp only [ff_tells, if_neg c10]
    exact ⟨by rw [hres], by rw [hres], rfl⟩

set_option maxHeartbeats 4000000 in
theorem mc_act (lQ : Launch) (G : wm_G) (o : Nat) (S : mm_S) (E : mm_E) (b : Int32) (w : Int32) (x : Int32) (hB : iv_B S) : mm_Met lQ G o yX5_act (ws_ yX5_act cX5_act 4 (some .int)) 10 S E [.int b, .int w, .int x] (some (.int (ff_act S b w x).1)) (ff_act S b w x).2 E := by
  refine mm_start (by decide +kernel) (Nat.le_of_ble_eq_true rfl) rfl (fun pQ eQ sQ mQ belowQ methQ cQ hx hb hml hr hlocks hts hown hK H hW hS ls hl => ?_)
  have hl : lv_has ls 4 [(0, .ref o), (1, .int b), (2, .int w), (3, .int x)] := hl
  generalize hlc : ([] : List Loc) = locs at hS ⊢
  refine lv_aload_n hx hb dX5_act_0 rfl (lv_at hl 0 rfl) ?_
  refine lv_iconst (v := 0) hx hb dX5_act_1 (by decide) ?_
  refine mm_puti hx hb hts hown hK hW hS 87 rfl (by decide) rfl rfl rfl q1772 dX5_act_2 (fun S2 H locs f2 hW hS => ?_)
  have z2 : (fd_ S2 87).toInt = 0 := by rw [f2, fd_fw]; decide
  have hB2 : iv_B S2 := iv_B_of (by rw [f2]; exact gm_fw (by decide)) hB
  refine lv_aload_n hx hb dX5_act_5 rfl (lv_at hl 0 rfl) ?_
  refine lv_iload_n hx hb dX5_act_6 rfl (lv_at hl 1 rfl) ?_
  refine mm_callp (As := [.int b]) (rest := []) (n := 1) ⟨hx, hb, hml, hown, hts⟩ hK (mc_isBody lQ G o S2 E b) (lw_V q2020 q2022 qs38 q92 q2023) (by decide +kernel) rfl ⟨Nat.le_of_ble_eq_true rfl, Nat.le_of_ble_eq_true rfl⟩ hW hS hl.1 rfl (Nat.le_of_ble_eq_true rfl) dX5_act_7 ⟨Nat.le_of_ble_eq_true rfl, Nat.le_of_ble_eq_true rfl⟩ (fun v7 H locs e7 hW hS => ?_)
  refine lv_if_eq (tgt := 22) hx hb dX5_act_10 (by decide) (fun c10 => ?_) (fun c10 => ?_)
  · skip
    refine lv_iconst (v := 0) hx hb dX5_act_22 (by decide) ?_
    refine mm_iret hx hb hr hlocks hW hS ?_ dX5_act_23
    have hres : ff_act S b w x = (0, S2) := by subst f2 e7; simp only [ff_act, if_pos c10]
    exact ⟨by rw [hres], by rw [hres], rfl⟩
  · skip
    obtain ⟨b0, _, b1⟩ := ff_isBody_t hB2 (by rw [← e7]; exact c10)
    refine lv_iload_n hx hb dX5_act_13 rfl (lv_at hl 2 rfl) ?_
    refine lv_iconst (v := 0) hx hb dX5_act_14 (by decide) ?_
    refine lv_iconst (v := 3) hx hb dX5_act_15 (by decide) ?_
    refine pp_calli (As := [.int w, .int 0, .int 3]) (rest := []) (n := 3) ⟨hx, hb, hml, hown, hts⟩ (mc_in lQ w 0 3) (lw_S q1979 q1980 q92 q1981) (by decide +kernel) rfl ⟨Nat.le_of_ble_eq_true rfl, Nat.le_of_ble_eq_true rfl⟩ hl.1 rfl (Nat.le_of_ble_eq_true rfl) dX5_act_16 ⟨Nat.le_of_ble_eq_true rfl, Nat.le_of_ble_eq_true rfl⟩ (fun v16 e16 => ?_)
    refine lv_if_ne (tgt := 24) hx hb dX5_act_19 (by decide) (fun c19 => ?_) (fun c19 => ?_)
    · skip
      refine lv_iload_n hx hb dX5_act_24 rfl (lv_at hl 2 rfl) ?_
      refine lv_if_ne (tgt := 37) hx hb dX5_act_25 (by decide) (fun c25 => ?_) (fun c25 => ?_)
      · skip
        refine lv_iload_n hx hb dX5_act_37 rfl (lv_at hl 2 rfl) ?_
        refine lv_iconst (v := 1) hx hb dX5_act_38 (by decide) ?_
        refine lv_icmp_ne (tgt := 51) hx hb dX5_act_39 (by decide) (fun c39 => ?_) (fun c39 => ?_)
        · skip
          refine lv_iload_n hx hb dX5_act_51 rfl (lv_at hl 2 rfl) ?_
          refine lv_iconst (v := 2) hx hb dX5_act_52 (by decide) ?_
          refine lv_icmp_ne (tgt := 65) hx hb dX5_act_53 (by decide) (fun c53 => ?_) (fun c53 => ?_)
          · skip
            refine lv_aload_n hx hb dX5_act_65 rfl (lv_at hl 0 rfl) ?_
            refine lv_iload_n hx hb dX5_act_66 rfl (lv_at hl 1 rfl) ?_
            refine lv_iload_n hx hb dX5_act_67 rfl (lv_at hl 3 rfl) ?_
            refine mm_calli (As := [.int b, .int x]) (rest := []) (n := 2) ⟨hx, hb, hml, hown, hts⟩ hK (mc_tells lQ G o S2 E b x (by rw [z2]; decide) (by rw [z2]; decide) b0 b1) (lw_V q2369 q2371 qs80 q92 q2372) (by decide +kernel) rfl ⟨Nat.le_of_ble_eq_true rfl, Nat.le_of_ble_eq_true rfl⟩ hW hS hl.1 rfl (Nat.le_of_ble_eq_true rfl) dX5_act_68 ⟨Nat.le_of_ble_eq_true rfl, Nat.le_of_ble_eq_true rfl⟩ (fun v68 S68 H locs e68 f68 hW hS => ?_)
            refine mm_iret hx hb hr hlocks hW hS ?_ dX5_act_71
            have hres : ff_act S b w x = (v68, S68) := by subst f2 e7 e16 e68 f68; simp only [ff_act, if_neg c10, if_neg c19, if_neg c25, if_neg c39, if_neg c53]
            exact ⟨by rw [hres], by rw [hres], rfl⟩
          · skip
            refine lv_aload_n hx hb dX5_act_56 rfl (lv_at hl 0 rfl) ?_
            refine lv_iload_n hx hb dX5_act_57 rfl (lv_at hl 1 rfl) ?_
            refine lv_iload_n hx hb dX5_act_58 rfl (lv_at hl 3 rfl) ?_
            refine mm_calli (As := [.int b, .int x]) (rest := []) (n := 2) ⟨hx, hb, hml, hown, hts⟩ hK (mc_holdsBy lQ G o S2 E b x (by rw [z2]; decide) (by rw [z2]; decide) b0 b1) (lw_V q2361 q2363 qs78 q92 q2364) (by decide +kernel) rfl ⟨Nat.le_of_ble_eq_true rfl, Nat.le_of_ble_eq_true rfl⟩ hW hS hl.1 rfl (Nat.le_of_ble_eq_true rfl) dX5_act_59 ⟨Nat.le_of_ble_eq_true rfl, Nat.le_of_ble_eq_true rfl⟩ (fun v59 S59 H locs e59 f59 hW hS => ?_)
            refine lv_goto (tgt := 71) hx hb dX5_act_62 (by decide) ?_
            refine mm_iret hx hb hr hlocks hW hS ?_ dX5_act_71
            have hres : ff_act S b w x = (v59, S59) := by subst f2 e7 e16 e59 f59; simp only [ff_act, if_neg c10, if_neg c19, if_neg c25, if_neg c39, if_pos c53]
            exact ⟨by rw [hres], by rw [hres], rfl⟩
        · skip
          refine lv_aload_n hx hb dX5_act_42 rfl (lv_at hl 0 rfl) ?_
          refine lv_iload_n hx hb dX5_act_43 rfl (lv_at hl 1 rfl) ?_
          refine lv_iload_n hx hb dX5_act_44 rfl (lv_at hl 3 rfl) ?_
          refine mm_calli (As := [.int b, .int x]) (rest := []) (n := 2) ⟨hx, hb, hml, hown, hts⟩ hK (mc_carries lQ G o S2 E b x (by rw [z2]; decide) (by rw [z2]; decide) b0 b1) (lw_V q2353 q2355 qs76 q92 q2356) (by decide +kernel) rfl ⟨Nat.le_of_ble_eq_true rfl, Nat.le_of_ble_eq_true rfl⟩ hW hS hl.1 rfl (Nat.le_of_ble_eq_true rfl) dX5_act_45 ⟨Nat.le_of_ble_eq_true rfl, Nat.le_of_ble_eq_true rfl⟩ (fun v45 S45 H locs e45 f45 hW hS => ?_)
          refine lv_goto (tgt := 71) hx hb dX5_act_48 (by decide) ?_
          refine mm_iret hx hb hr hlocks hW hS ?_ dX5_act_71
          have hres : ff_act S b w x = (v45, S45) := by subst f2 e7 e16 e45 f45; simp only [ff_act, if_neg c10, if_neg c19, if_neg c25, if_pos c39]
          exact ⟨by rw [hres], by rw [hres], rfl⟩
      · skip
        refine lv_aload_n hx hb dX5_act_28 rfl (lv_at hl 0 rfl) ?_
        refine lv_iload_n hx hb dX5_act_29 rfl (lv_at hl 1 rfl) ?_
        refine lv_iload_n hx hb dX5_act_30 rfl (lv_at hl 3 rfl) ?_
        refine mm_calli (As := [.int b, .int x]) (rest := []) (n := 2) ⟨hx, hb, hml, hown, hts⟩ hK (mc_bores lQ G o S2 E b x (by rw [z2]; decide) (by rw [z2]; decide) b0 b1) (lw_V q2333 q2335 qs71 q92 q2336) (by decide +kernel) rfl ⟨Nat.le_of_ble_eq_true rfl, Nat.le_of_ble_eq_true rfl⟩ hW hS hl.1 rfl (Nat.le_of_ble_eq_true rfl) dX5_act_31 ⟨Nat.le_of_ble_eq_true rfl, Nat.le_of_ble_eq_true rfl⟩ (fun v31 S31 H locs e31 f31 hW hS => ?_)
        refine lv_goto (tgt := 71) hx hb dX5_act_34 (by decide) ?_
        refine mm_iret hx hb hr hlocks hW hS ?_ dX5_act_71
        have hres : ff_act S b w x = (v31, S31) := by subst f2 e7 e16 e31 f31; simp only [ff_act, if_neg c10, if_neg c19, if_pos c25]
        exact ⟨by rw [hres], by rw [hres], rfl⟩
    · skip
      refine lv_iconst (v := 0) hx hb dX5_act_22 (by decide) ?_
      refine mm_iret hx hb hr hlocks hW hS ?_ dX5_act_23
      have hres : ff_act S b w x = (0, S2) := by subst f2 e7 e16; simp only [ff_act, if_neg c10, if_pos c19]
      exact ⟨by rw [hres], by rw [hres], rfl⟩

set_option maxHeartbeats 4000000 in
theorem mc_trace (lQ : Launch) (G : wm_G) (o : Nat) (S : mm_S) (E : mm_E) (i : Int32) : mm_Met lQ G o yX5_trace (ws_ yX5_trace cX5_trace 2 (some .int)) 0 S E [.int i] (some (.int (ff_trace S i))) S E := by
  refine mm_start (by decide +kernel) (Nat.le_of_ble_eq_true rfl) rfl (fun pQ eQ sQ mQ belowQ methQ cQ hx hb hml hr hlocks hts hown hK H hW hS ls hl => ?_)
  have hl : lv_has ls 2 [(0, .ref o), (1, .int i)] := hl
  generalize hlc : ([] : List Loc) = locs at hS ⊢
  refine lv_iload_n hx hb dX5_trace_0 rfl (lv_at hl 1 rfl) ?_
  refine lv_if_lt (tgt := 27) hx hb dX5_trace_1 (by decide) (fun c1 => ?_) (fun c1 => ?_)
  · have t1 : (i).toInt < 0 := ww_lt c1
    refine lv_iconst (v := (-1)) hx hb dX5_trace_27 (by decide) ?_
    refine mm_iret hx hb hr hlocks hW hS ?_ dX5_trace_28
    have hres : ff_trace S i = (-1) := by simp only [ff_trace, if_pos c1]
    exact ⟨by rw [hres], rfl, rfl⟩
  · have t1 : 0 ≤ (i).toInt := ww_nlt c1
    refine lv_iload_n hx hb dX5_trace_4 rfl (lv_at hl 1 rfl) ?_
    refine lv_aload_n hx hb dX5_trace_5 rfl (lv_at hl 0 rfl) ?_
    refine mm_geti hx hb hts hown hK hW 87 rfl (by decide) q1772 dX5_trace_6 ?_
    refine lv_icmp_ge (tgt := 27) hx hb dX5_trace_9 (by decide) (fun c9 => ?_) (fun c9 => ?_)
    · have t9 : ((fd_ S 87)).toInt ≤ (i).toInt := ww_le c9
      refine lv_iconst (v := (-1)) hx hb dX5_trace_27 (by decide) ?_
      refine mm_iret hx hb hr hlocks hW hS ?_ dX5_trace_28
      have hres : ff_trace S i = (-1) := by simp only [ff_trace, if_neg c1, if_pos c9]
      exact ⟨by rw [hres], rfl, rfl⟩
    · have t9 : (i).toInt < ((fd_ S 87)).toInt := ww_nle c9
      refine lv_iload_n hx hb dX5_trace_12 rfl (lv_at hl 1 rfl) ?_
      refine lv_bipush (v := 24) hx hb dX5_trace_13 (by decide) ?_
      refine lv_icmp_ge (tgt := 27) hx hb dX5_trace_15 (by decide) (fun c15 => ?_) (fun c15 => ?_)
      · have t15 : 24 ≤ (i).toInt := ww_le c15
        refine lv_iconst (v := (-1)) hx hb dX5_trace_27 (by decide) ?_
        refine mm_iret hx hb hr hlocks hW hS ?_ dX5_trace_28
        have hres : ff_trace S i = (-1) := by simp only [ff_trace, if_neg c1, if_neg c9, if_pos c15]
        exact ⟨by rw [hres], rfl, rfl⟩
      · have t15 : (i).toInt < 24 := ww_nle c15
        refine lv_aload_n hx hb dX5_trace_18 rfl (lv_at hl 0 rfl) ?_
        refine mm_geta hx hb hts hown hK hW 88 rfl q1773 dX5_trace_19 ?_
        refine lv_iload_n hx hb dX5_trace_22 rfl (lv_at hl 1 rfl) ?_
        refine mm_iald hx hb hK hW 88 rfl (ww_in (by omega) (by omega)) dX5_trace_23 ?_
        refine lv_goto (tgt := 28) hx hb dX5_trace_24 (by decide) ?_
        refine mm_iret hx hb hr hlocks hW hS ?_ dX5_trace_28
        have hres : ff_trace S i = (rd_ S 88 i) := by simp only [ff_trace, if_neg c1, if_neg c9, if_neg c15]
        exact ⟨by rw [hres], rfl, rfl⟩

set_option maxHeartbeats 4000000 in
theorem mc_count (lQ : Launch) (G : wm_G) (o : Nat) (S : mm_S) (E : mm_E) (w : Int32) (hB : iv_B S) : mm_Met lQ G o yX5_count (ws_ yX5_count cX5_count 4 (some .int)) 3 S E [.int w] (some (.int (ff_count S w))) S E := by
  refine mm_start (by decide +kernel) (Nat.le_of_ble_eq_true rfl) rfl (fun pQ eQ sQ mQ belowQ methQ cQ hx hb hml hr hlocks hts hown hK H hW hS ls hl => ?_)
  have hl : lv_has ls 4 [(0, .ref o), (1, .int w)] := hl
  generalize hlc : ([] : List Loc) = locs at hS ⊢
  have hb2 := hB.2
  refine lv_iconst (v := 0) hx hb dX5_count_0 (by decide) ?_
  refine lv_istore_n (lv' := [(2, .int 0), (0, .ref o), (1, .int w)]) hx hb dX5_count_1 rfl hl (by decide) rfl (fun ls hl => ?_)
  refine lv_iload_n hx hb dX5_count_2 rfl (lv_at hl 2 rfl) ?_
  by_cases k3_0 : w = 0
  · skip
    refine lv_tableIn (off := 61) (tgt := 64) hx hb dX5_count_3 (by rw [k3_0]; decide) (by rw [k3_0]; decide) (by rw [k3_0]; rfl) (by decide) ?_
    refine lv_aload_n hx hb dX5_count_64 rfl (lv_at hl 1 rfl) ?_
    refine mm_geti hx hb hts hown hK hW 4 rfl (by decide) q1689 dX5_count_65 ?_
    refine mm_iret hx hb hr hlocks hW hS ?_ dX5_count_68
    have hres : ff_count S w = (fd_ S 4) := by simp only [ff_count, if_pos k3_0]
    exact ⟨by rw [hres], rfl, rfl⟩
  · skip
    by_cases k3_1 : w = 1
    · skip
      refine lv_tableIn (off := 66) (tgt := 69) hx hb dX5_count_3 (by rw [k3_1]; decide) (by rw [k3_1]; decide) (by rw [k3_1]; rfl) (by decide) ?_
      refine lv_iconst (v := 0) hx hb dX5_count_69 (by decide) ?_
      refine lv_istore_n (lv' := [(3, .int 0), (2, .int 0), (0, .ref o), (1, .int w)]) hx hb dX5_count_70 rfl hl (by decide) rfl (fun ls hl => ?_)
      have L71 : ∀ (fu71 : Nat) (n : Int32) (b : Int32) (H : Heap) (locs : List Loc), ((fd_ S 4).toInt - b.toInt < fu71) → (0 ≤ b.toInt) → (b.toInt ≤ (fd_ S 4).toInt) → (ff_cnt1 fu71 S n b = ff_c1 S) → mm_W G o S E H → va_S (mm_F o) sQ.heap H locs → ∀ ls : Array Slot, lv_has ls 4 [(3, .int b), (2, .int n), (0, .ref o), (1, .int w)] → W pQ lQ eQ (wm_rm 3) sQ mQ (Value.ref o :: [.int w]).toArray belowQ methQ cQ H locs 0 0 (MQ belowQ (wm_Q (fun vQ HQ => vQ = some (.int (ff_count S w)) ∧ mm_W G o S E HQ) (mm_F o)) (Value.ref o :: [.int w]).toArray sQ 0 0 (mm_F o)) (F0 mQ 71 ls []) := by
        intro fu71
        induction fu71 with
        | zero =>
          intro n b H locs hm71 i071 i171 hgo71 hW hS ls hl
          exact absurd hm71 (by omega)
        | succ fu71 ih71 =>
          intro n b H locs hm71 i071 i171 hgo71 hW hS ls hl
          refine lv_iload_n hx hb dX5_count_71 rfl (lv_at hl 0 rfl) ?_
          refine lv_aload_n hx hb dX5_count_72 rfl (lv_at hl 2 rfl) ?_
          refine mm_geti hx hb hts hown hK hW 4 rfl (by decide) q1689 dX5_count_73 ?_
          refine lv_icmp_ge (tgt := 101) hx hb dX5_count_76 (by decide) (fun c76 => ?_) (fun c76 => ?_)
          · have t76 : ((fd_ S 4)).toInt ≤ (b).toInt := ww_le c76
            have hs : n = ff_c1 S := by simp only [ff_cnt1, if_pos c76] at hgo71; exact hgo71
            refine lv_iload_n hx hb dX5_count_101 rfl (lv_at hl 1 rfl) ?_
            refine mm_iret hx hb hr hlocks hW hS ?_ dX5_count_102
            have hres : ff_count S w = n := by subst hs; simp only [ff_count, if_neg k3_0, if_pos k3_1, if_pos c76]
            exact ⟨by rw [hres], rfl, rfl⟩
          · have t76 : (b).toInt < ((fd_ S 4)).toInt := ww_nle c76
            refine lv_iload_n hx hb dX5_count_79 rfl (lv_at hl 1 rfl) ?_
            refine lv_aload_n hx hb dX5_count_80 rfl (lv_at hl 2 rfl) ?_
            refine lv_iload_n hx hb dX5_count_81 rfl (lv_at hl 0 rfl) ?_
            refine mm_callp (As := [.int b]) (rest := [.int n]) (n := 1) ⟨hx, hb, hml, hown, hts⟩ hK (mc_isHole lQ G o S E b hB) (lw_V q2025 q2027 qs39 q92 q2028) (by decide +kernel) rfl ⟨Nat.le_of_ble_eq_true rfl, Nat.le_of_ble_eq_true rfl⟩ hW hS hl.1 rfl (Nat.le_of_ble_eq_true rfl) dX5_count_82 ⟨Nat.le_of_ble_eq_true rfl, Nat.le_of_ble_eq_true rfl⟩ (fun v82 H locs e82 hW hS => ?_)
            refine lv_if_eq (tgt := 92) hx hb dX5_count_85 (by decide) (fun c85 => ?_) (fun c85 => ?_)
            · skip
              refine lv_iconst (v := 0) hx hb dX5_count_92 (by decide) ?_
              refine nv_iadd hx hb dX5_count_93 (fun v93 e93 => ?_)
              refine lv_istore_n (lv' := [(2, .int v93), (3, .int b), (0, .ref o), (1, .int w)]) hx hb dX5_count_94 rfl hl (by decide) rfl (fun ls hl => ?_)
              obtain ⟨v95, e95⟩ : ∃ yQ : Int32, yQ = b + 1 := ⟨_, rfl⟩
              refine lv_iinc (v := v95) (lv' := [(3, .int v95), (2, .int v93), (0, .ref o), (1, .int w)]) hx hb dX5_count_95 hl (k := 1) rfl (by rw [e95]; rfl) (by decide) rfl (fun ls hl => ?_)
              refine lv_goto (tgt := 71) hx hb dX5_count_98 (by decide) ?_
              have tb : v95.toInt = b.toInt + 1 := by rw [e95]; exact ww_inc t76
              exact ih71 v93 v95 H locs (by omega) (by omega) (by omega) (by subst e82 e93 e95; simp only [ff_cnt1, if_neg c76, if_pos c85] at hgo71; exact hgo71) hW hS ls (lv_sub hl [0, 1, 2, 3] rfl)
            · skip
              refine lv_iconst (v := 1) hx hb dX5_count_88 (by decide) ?_
              refine lv_goto (tgt := 93) hx hb dX5_count_89 (by decide) ?_
              refine nv_iadd hx hb dX5_count_93 (fun v93 e93 => ?_)
              refine lv_istore_n (lv' := [(2, .int v93), (3, .int b), (0, .ref o), (1, .int w)]) hx hb dX5_count_94 rfl hl (by decide) rfl (fun ls hl => ?_)
              obtain ⟨v95, e95⟩ : ∃ yQ : Int32, yQ = b + 1 := ⟨_, rfl⟩
              refine lv_iinc (v := v95) (lv' := [(3, .int v95), (2, .int v93), (0, .ref o), (1, .int w)]) hx hb dX5_count_95 hl (k := 1) rfl (by rw [e95]; rfl) (by decide) rfl (fun ls hl => ?_)
              refine lv_goto (tgt := 71) hx hb dX5_count_98 (by decide) ?_
              have tb : v95.toInt = b.toInt + 1 := by rw [e95]; exact ww_inc t76
              exact ih71 v93 v95 H locs (by omega) (by omega) (by omega) (by subst e82 e93 e95; simp only [ff_cnt1, if_neg c76, if_neg c85] at hgo71; exact hgo71) hW hS ls (lv_sub hl [0, 1, 2, 3] rfl)
      exact L71 121 0 0 H locs (by have := hB.2; show _ - 0 < _; omega) (by decide) hB.1 (rfl) hW hS ls (lv_sub hl [0, 1, 2, 3] rfl)
    · skip
      by_cases k3_2 : w = 2
      · skip
        refine lv_tableIn (off := 100) (tgt := 103) hx hb dX5_count_3 (by rw [k3_2]; decide) (by rw [k3_2]; decide) (by rw [k3_2]; rfl) (by decide) ?_
        refine lv_iconst (v := 0) hx hb dX5_count_103 (by decide) ?_
        refine lv_istore_n (lv' := [(3, .int 0), (2, .int 0), (0, .ref o), (1, .int w)]) hx hb dX5_count_104 rfl hl (by decide) rfl (fun ls hl => ?_)
        have L105 : ∀ (fu105 : Nat) (n : Int32) (b : Int32), ((fd_ S 4).toInt - b.toInt < fu105) → (0 ≤ b.toInt) → (b.toInt ≤ (fd_ S 4).toInt) → (ff_cnt2 fu105 S n b = ff_c2 S) → ∀ ls : Array Slot, lv_has ls 4 [(3, .int b), (2, .int n), (0, .ref o), (1, .int w)] → W pQ lQ eQ (wm_rm 3) sQ mQ (Value.ref o :: [.int w]).toArray belowQ methQ cQ H locs 0 0 (MQ belowQ (wm_Q (fun vQ HQ => vQ = some (.int (ff_count S w)) ∧ mm_W G o S E HQ) (mm_F o)) (Value.ref o :: [.int w]).toArray sQ 0 0 (mm_F o)) (F0 mQ 105 ls []) := by
          intro fu105
          induction fu105 with
          | zero =>
            intro n b hm105 i0105 i1105 hgo105 ls hl
            exact absurd hm105 (by omega)
          | succ fu105 ih105 =>
            intro n b hm105 i0105 i1105 hgo105 ls hl
            refine lv_iload_n hx hb dX5_count_105 rfl (lv_at hl 0 rfl) ?_
            refine lv_aload_n hx hb dX5_count_106 rfl (lv_at hl 2 rfl) ?_
            refine mm_geti hx hb hts hown hK hW 4 rfl (by decide) q1689 dX5_count_107 ?_
            refine lv_icmp_ge (tgt := 136) hx hb dX5_count_110 (by decide) (fun c110 => ?_) (fun c110 => ?_)
            · have t110 : ((fd_ S 4)).toInt ≤ (b).toInt := ww_le c110
              have hs : n = ff_c2 S := by simp only [ff_cnt2, if_pos c110] at hgo105; exact hgo105
              refine lv_iload_n hx hb dX5_count_136 rfl (lv_at hl 1 rfl) ?_
              refine mm_iret hx hb hr hlocks hW hS ?_ dX5_count_137
              have hres : ff_count S w = n := by subst hs; simp only [ff_count, if_neg k3_0, if_neg k3_1, if_pos k3_2, if_pos c110]
              exact ⟨by rw [hres], rfl, rfl⟩
            · have t110 : (b).toInt < ((fd_ S 4)).toInt := ww_nle c110
              refine lv_iload_n hx hb dX5_count_113 rfl (lv_at hl 1 rfl) ?_
              refine wm_join (P := fun w128 : Int32 => w128 = (if rd_ S 12 b ≤ 0 then 0 else 1)) (j := 128) (rest := [.int n]) (ls := ls) (fun w128 ew128 => ?_) (fun J128 => ?_)
              · skip
                refine nv_iadd hx hb dX5_count_128 (fun v128 e128 => ?_)
                refine lv_istore_n (lv' := [(2, .int v128), (3, .int b), (0, .ref o), (1, .int w)]) hx hb dX5_count_129 rfl hl (by decide) rfl (fun ls hl => ?_)
                obtain ⟨v130, e130⟩ : ∃ yQ : Int32, yQ = b + 1 := ⟨_, rfl⟩
                refine lv_iinc (v := v130) (lv' := [(3, .int v130), (2, .int v128), (0, .ref o), (1, .int w)]) hx hb dX5_count_130 hl (k := 1) rfl (by rw [e130]; rfl) (by decide) rfl (fun ls hl => ?_)
                refine lv_goto (tgt := 105) hx hb dX5_count_133 (by decide) ?_
                have tb : v130.toInt = b.toInt + 1 := by rw [e130]; exact ww_inc t110
                exact ih105 v128 v130 (by omega) (by omega) (by omega) (by subst ew128 e128 e130; simp only [ff_cnt2, if_neg c110] at hgo105; exact hgo105) ls (lv_sub hl [0, 1, 2, 3] rfl)
              refine lv_aload_n hx hb dX5_count_114 rfl (lv_at hl 2 rfl) ?_
              refine mm_geta hx hb hts hown hK hW 12 rfl q1697 dX5_count_115 ?_
              refine lv_iload_n hx hb dX5_count_118 rfl (lv_at hl 0 rfl) ?_
              refine mm_iald hx hb hK hW 12 rfl (ww_in (by omega) (by omega)) dX5_count_119 ?_
              refine lv_if_le (tgt := 127) hx hb dX5_count_120 (by decide) (fun c120 => ?_) (fun c120 => ?_)
              · have t120 : ((rd_ S 12 b)).toInt ≤ 0 := ww_le c120
                refine lv_iconst (v := 0) hx hb dX5_count_127 (by decide) ?_
                exact J128 _ (by simp only [if_neg c110, if_pos c120])
              · have t120 : 0 < ((rd_ S 12 b)).toInt := ww_nle c120
                refine lv_iconst (v := 1) hx hb dX5_count_123 (by decide) ?_
                refine lv_goto (tgt := 128) hx hb dX5_count_124 (by decide) ?_
                exact J128 _ (by simp only [if_neg c110, if_neg c120])
        exact L105 121 0 0 (by have := hB.2; show _ - 0 < _; omega) (by decide) hB.1 (rfl) ls (lv_sub hl [0, 1, 2, 3] rfl)
      · skip
        by_cases k3_3 : w = 3
        · skip
          refine lv_tableIn (off := 135) (tgt := 138) hx hb dX5_count_3 (by rw [k3_3]; decide) (by rw [k3_3]; decide) (by rw [k3_3]; rfl) (by decide) ?_
          refine lv_aload_n hx hb dX5_count_138 rfl (lv_at hl 1 rfl) ?_
          refine mm_callp (As := []) (rest := []) (n := 0) ⟨hx, hb, hml, hown, hts⟩ hK (mc_menBelow lQ G o S E hB) (lw_V q2205 q2207 qs61 q92 q2208) (by decide +kernel) rfl ⟨Nat.le_of_ble_eq_true rfl, Nat.le_of_ble_eq_true rfl⟩ hW hS hl.1 rfl (Nat.le_of_ble_eq_true rfl) dX5_count_139 ⟨Nat.le_of_ble_eq_true rfl, Nat.le_of_ble_eq_true rfl⟩ (fun v139 H locs e139 hW hS => ?_)
          refine mm_iret hx hb hr hlocks hW hS ?_ dX5_count_142
          have hres : ff_count S w = v139 := by subst e139; simp only [ff_count, if_neg k3_0, if_neg k3_1, if_neg k3_2, if_pos k3_3]
          exact ⟨by rw [hres], rfl, rfl⟩
        · skip
          by_cases k3_4 : w = 4
          · skip
            refine lv_tableIn (off := 140) (tgt := 143) hx hb dX5_count_3 (by rw [k3_4]; decide) (by rw [k3_4]; decide) (by rw [k3_4]; rfl) (by decide) ?_
            refine lv_aload_n hx hb dX5_count_143 rfl (lv_at hl 1 rfl) ?_
            refine mm_geti hx hb hts hown hK hW 1 rfl (by decide) q1686 dX5_count_144 ?_
            refine mm_iret hx hb hr hlocks hW hS ?_ dX5_count_147
            have hres : ff_count S w = (fd_ S 1) := by simp only [ff_count, if_neg k3_0, if_neg k3_1, if_neg k3_2, if_neg k3_3, if_pos k3_4]
            exact ⟨by rw [hres], rfl, rfl⟩
          · skip
            by_cases k3_5 : w = 5
            · skip
              refine lv_tableIn (off := 145) (tgt := 148) hx hb dX5_count_3 (by rw [k3_5]; decide) (by rw [k3_5]; decide) (by rw [k3_5]; rfl) (by decide) ?_
              refine lv_aload_n hx hb dX5_count_148 rfl (lv_at hl 1 rfl) ?_
              refine mm_geti hx hb hts hown hK hW 30 rfl (by decide) q1715 dX5_count_149 ?_
              refine mm_iret hx hb hr hlocks hW hS ?_ dX5_count_152
              have hres : ff_count S w = (fd_ S 30) := by simp only [ff_count, if_neg k3_0, if_neg k3_1, if_neg k3_2, if_neg k3_3, if_neg k3_4, if_pos k3_5]
              exact ⟨by rw [hres], rfl, rfl⟩
            · skip
              by_cases k3_6 : w = 6
              · skip
                refine lv_tableIn (off := 150) (tgt := 153) hx hb dX5_count_3 (by rw [k3_6]; decide) (by rw [k3_6]; decide) (by rw [k3_6]; rfl) (by decide) ?_
                refine lv_aload_n hx hb dX5_count_153 rfl (lv_at hl 1 rfl) ?_
                refine mm_geti hx hb hts hown hK hW 38 rfl (by decide) q1723 dX5_count_154 ?_
                refine mm_iret hx hb hr hlocks hW hS ?_ dX5_count_157
                have hres : ff_count S w = (fd_ S 38) := by simp only [ff_count, if_neg k3_0, if_neg k3_1, if_neg k3_2, if_neg k3_3, if_neg k3_4, if_neg k3_5, if_pos k3_6]
                exact ⟨by rw [hres], rfl, rfl⟩
              · skip
                by_cases k3_7 : w = 7
                · skip
                  refine lv_tableIn (off := 155) (tgt := 158) hx hb dX5_count_3 (by rw [k3_7]; decide) (by rw [k3_7]; decide) (by rw [k3_7]; rfl) (by decide) ?_
                  refine lv_aload_n hx hb dX5_count_158 rfl (lv_at hl 1 rfl) ?_
                  refine mm_geti hx hb hts hown hK hW 37 rfl (by decide) q1722 dX5_count_159 ?_
                  refine mm_iret hx hb hr hlocks hW hS ?_ dX5_count_162
                  have hres : ff_count S w = (fd_ S 37) := by simp only [ff_count, if_neg k3_0, if_neg k3_1, if_neg k3_2, if_neg k3_3, if_neg k3_4, if_neg k3_5, if_neg k3_6, if_pos k3_7]
                  exact ⟨by rw [hres], rfl, rfl⟩
                · skip
                  by_cases k3_8 : w = 8
                  · skip
                    refine lv_tableIn (off := 160) (tgt := 163) hx hb dX5_count_3 (by rw [k3_8]; decide) (by rw [k3_8]; decide) (by rw [k3_8]; rfl) (by decide) ?_
                    refine lv_iconst (v := 0) hx hb dX5_count_163 (by decide) ?_
                    refine lv_istore_n (lv' := [(3, .int 0), (2, .int 0), (0, .ref o), (1, .int w)]) hx hb dX5_count_164 rfl hl (by decide) rfl (fun ls hl => ?_)
                    have L165 : ∀ (fu165 : Nat) (n : Int32) (b : Int32), ((fd_ S 4).toInt - b.toInt < fu165) → (0 ≤ b.toInt) → (b.toInt ≤ (fd_ S 4).toInt) → (ff_cnt8 fu165 S n b = ff_c8 S) → ∀ ls : Array Slot, lv_has ls 4 [(3, .int b), (2, .int n), (0, .ref o), (1, .int w)] → W pQ lQ eQ (wm_rm 3) sQ mQ (Value.ref o :: [.int w]).toArray belowQ methQ cQ H locs 0 0 (MQ belowQ (wm_Q (fun vQ HQ => vQ = some (.int (ff_count S w)) ∧ mm_W G o S E HQ) (mm_F o)) (Value.ref o :: [.int w]).toArray sQ 0 0 (mm_F o)) (F0 mQ 165 ls []) := by
                      intro fu165
                      induction fu165 with
                      | zero =>
                        intro n b hm165 i0165 i1165 hgo165 ls hl
                        exact absurd hm165 (by omega)
                      | succ fu165 ih165 =>
                        intro n b hm165 i0165 i1165 hgo165 ls hl
                        refine lv_iload_n hx hb dX5_count_165 rfl (lv_at hl 0 rfl) ?_
                        refine lv_aload_n hx hb dX5_count_166 rfl (lv_at hl 2 rfl) ?_
                        refine mm_geti hx hb hts hown hK hW 4 rfl (by decide) q1689 dX5_count_167 ?_
                        refine lv_icmp_ge (tgt := 188) hx hb dX5_count_170 (by decide) (fun c170 => ?_) (fun c170 => ?_)
                        · have t170 : ((fd_ S 4)).toInt ≤ (b).toInt := ww_le c170
                          have hs : n = ff_c8 S := by simp only [ff_cnt8, if_pos c170] at hgo165; exact hgo165
                          refine lv_iload_n hx hb dX5_count_188 rfl (lv_at hl 1 rfl) ?_
                          refine mm_iret hx hb hr hlocks hW hS ?_ dX5_count_189
                          have hres : ff_count S w = n := by subst hs; simp only [ff_count, if_neg k3_0, if_neg k3_1, if_neg k3_2, if_neg k3_3, if_neg k3_4, if_neg k3_5, if_neg k3_6, if_neg k3_7, if_pos k3_8, if_pos c170]
                          exact ⟨by rw [hres], rfl, rfl⟩
                        · have t170 : (b).toInt < ((fd_ S 4)).toInt := ww_nle c170
                          refine lv_iload_n hx hb dX5_count_173 rfl (lv_at hl 1 rfl) ?_
                          refine lv_aload_n hx hb dX5_count_174 rfl (lv_at hl 2 rfl) ?_
                          refine mm_geta hx hb hts hown hK hW 10 rfl q1695 dX5_count_175 ?_
                          refine lv_iload_n hx hb dX5_count_178 rfl (lv_at hl 0 rfl) ?_
                          refine mm_iald hx hb hK hW 10 rfl (ww_in (by omega) (by omega)) dX5_count_179 ?_
                          refine nv_iadd hx hb dX5_count_180 (fun v180 e180 => ?_)
                          refine lv_istore_n (lv' := [(2, .int v180), (3, .int b), (0, .ref o), (1, .int w)]) hx hb dX5_count_181 rfl hl (by decide) rfl (fun ls hl => ?_)
                          obtain ⟨v182, e182⟩ : ∃ yQ : Int32, yQ = b + 1 := ⟨_, rfl⟩
                          refine lv_iinc (v := v182) (lv' := [(3, .int v182), (2, .int v180), (0, .ref o), (1, .int w)]) hx hb dX5_count_182 hl (k := 1) rfl (by rw [e182]; rfl) (by decide) rfl (fun ls hl => ?_)
                          refine lv_goto (tgt := 165) hx hb dX5_count_185 (by decide) ?_
                          have tb : v182.toInt = b.toInt + 1 := by rw [e182]; exact ww_inc t170
                          exact ih165 v180 v182 (by omega) (by omega) (by omega) (by subst e180 e182; simp only [ff_cnt8, if_neg c170] at hgo165; exact hgo165) ls (lv_sub hl [0, 1, 2, 3] rfl)
                    exact L165 121 0 0 (by have := hB.2; show _ - 0 < _; omega) (by decide) hB.1 (rfl) ls (lv_sub hl [0, 1, 2, 3] rfl)
                  · skip
                    by_cases k3_9 : w = 9
                    · skip
                      refine lv_tableIn (off := 187) (tgt := 190) hx hb dX5_count_3 (by rw [k3_9]; decide) (by rw [k3_9]; decide) (by rw [k3_9]; rfl) (by decide) ?_
                      refine lv_aload_n hx hb dX5_count_190 rfl (lv_at hl 1 rfl) ?_
                      refine mm_geti hx hb hts hown hK hW 55 rfl (by decide) q1740 dX5_count_191 ?_
                      refine mm_iret hx hb hr hlocks hW hS ?_ dX5_count_194
                      have hres : ff_count S w = (fd_ S 55) := by simp only [ff_count, if_neg k3_0, if_neg k3_1, if_neg k3_2, if_neg k3_3, if_neg k3_4, if_neg k3_5, if_neg k3_6, if_neg k3_7, if_neg k3_8, if_pos k3_9]
                      exact ⟨by rw [hres], rfl, rfl⟩
                    · skip
                      by_cases k3_10 : w = 10
                      · skip
                        refine lv_tableIn (off := 192) (tgt := 195) hx hb dX5_count_3 (by rw [k3_10]; decide) (by rw [k3_10]; decide) (by rw [k3_10]; rfl) (by decide) ?_
                        refine lv_aload_n hx hb dX5_count_195 rfl (lv_at hl 1 rfl) ?_
                        refine mm_geti hx hb hts hown hK hW 62 rfl (by decide) q1747 dX5_count_196 ?_
                        refine mm_iret hx hb hr hlocks hW hS ?_ dX5_count_199
                        have hres : ff_count S w = (fd_ S 62) := by simp only [ff_count, if_neg k3_0, if_neg k3_1, if_neg k3_2, if_neg k3_3, if_neg k3_4, if_neg k3_5, if_neg k3_6, if_neg k3_7, if_neg k3_8, if_neg k3_9, if_pos k3_10]
                        exact ⟨by rw [hres], rfl, rfl⟩
                      · skip
                        by_cases k3_11 : w = 11
                        · skip
                          refine lv_tableIn (off := 197) (tgt := 200) hx hb dX5_count_3 (by rw [k3_11]; decide) (by rw [k3_11]; decide) (by rw [k3_11]; rfl) (by decide) ?_
                          refine lv_aload_n hx hb dX5_count_200 rfl (lv_at hl 1 rfl) ?_
                          refine mm_geti hx hb hts hown hK hW 87 rfl (by decide) q1772 dX5_count_201 ?_
                          refine mm_iret hx hb hr hlocks hW hS ?_ dX5_count_204
                          have hres : ff_count S w = (fd_ S 87) := by simp only [ff_count, if_neg k3_0, if_neg k3_1, if_neg k3_2, if_neg k3_3, if_neg k3_4, if_neg k3_5, if_neg k3_6, if_neg k3_7, if_neg k3_8, if_neg k3_9, if_neg k3_10, if_pos k3_11]
                          exact ⟨by rw [hres], rfl, rfl⟩
                        · skip
                          refine lv_tableOut (tgt := 205) hx hb dX5_count_3 (by have hk3_0 : (w).toInt ≠ 0 := ww_ne k3_0; have hk3_1 : (w).toInt ≠ 1 := ww_ne k3_1; have hk3_2 : (w).toInt ≠ 2 := ww_ne k3_2; have hk3_3 : (w).toInt ≠ 3 := ww_ne k3_3; have hk3_4 : (w).toInt ≠ 4 := ww_ne k3_4; have hk3_5 : (w).toInt ≠ 5 := ww_ne k3_5; have hk3_6 : (w).toInt ≠ 6 := ww_ne k3_6; have hk3_7 : (w).toInt ≠ 7 := ww_ne k3_7; have hk3_8 : (w).toInt ≠ 8 := ww_ne k3_8; have hk3_9 : (w).toInt ≠ 9 := ww_ne k3_9; have hk3_10 : (w).toInt ≠ 10 := ww_ne k3_10; have hk3_11 : (w).toInt ≠ 11 := ww_ne k3_11; omega) (by decide) ?_
                          refine lv_iconst (v := (-1)) hx hb dX5_count_205 (by decide) ?_
                          refine mm_iret hx hb hr hlocks hW hS ?_ dX5_count_206
                          have hres : ff_count S w = (-1) := by simp only [ff_count, if_neg k3_0, if_neg k3_1, if_neg k3_2, if_neg k3_3, if_neg k3_4, if_neg k3_5, if_neg k3_6, if_neg k3_7, if_neg k3_8, if_neg k3_9, if_neg k3_10, if_neg k3_11]
                          exact ⟨by rw [hres], rfl, rfl⟩

set_option maxHeartbeats 4000000 in
theorem mc_keep (lQ : Launch) (G : wm_G) (o : Nat) (S : mm_S) (E : mm_E) (s : Int32) (b : Int32) : mm_Met lQ G o yX5_keep (ws_ yX5_keep cX5_keep 3 (some .int)) 2 S E [.int s, .int b] (some (.int (ff_keep S s b).1)) (ff_keep S s b).2 E := by
  refine mm_start (by decide +kernel) (Nat.le_of_ble_eq_true rfl) rfl (fun pQ eQ sQ mQ belowQ methQ cQ hx hb hml hr hlocks hts hown hK H hW hS ls hl => ?_)
  have hl : lv_has ls 3 [(0, .ref o), (1, .int s), (2, .int b)] := hl
  generalize hlc : ([] : List Loc) = locs at hS ⊢
  refine lv_iload_n hx hb dX5_keep_0 rfl (lv_at hl 1 rfl) ?_
  refine pp_calli (As := [.int s]) (rest := []) (n := 1) ⟨hx, hb, hml, hown, hts⟩ (mc_isShelf lQ s) (lw_S q2071 q2072 q92 q2073) (by decide +kernel) rfl ⟨Nat.le_of_ble_eq_true rfl, Nat.le_of_ble_eq_true rfl⟩ hl.1 rfl (Nat.le_of_ble_eq_true rfl) dX5_keep_1 ⟨Nat.le_of_ble_eq_true rfl, Nat.le_of_ble_eq_true rfl⟩ (fun v1 e1 => ?_)
  refine lv_if_eq (tgt := 20) hx hb dX5_keep_4 (by decide) (fun c4 => ?_) (fun c4 => ?_)
  · skip
    refine lv_iconst (v := (-1)) hx hb dX5_keep_20 (by decide) ?_
    refine mm_iret hx hb hr hlocks hW hS ?_ dX5_keep_21
    have hres : ff_keep S s b = ((-1), S) := by subst e1; simp only [ff_keep, if_pos c4]
    exact ⟨by rw [hres], by rw [hres], rfl⟩
  · skip
    obtain ⟨s0, s1⟩ := ff_isShelf_t (s := s) (by rw [← e1]; exact c4)
    refine lv_iload_n hx hb dX5_keep_7 rfl (lv_at hl 2 rfl) ?_
    refine lv_iconst (v := (-1)) hx hb dX5_keep_8 (by decide) ?_
    refine lv_icmp_eq (tgt := 22) hx hb dX5_keep_9 (by decide) (fun c9 => ?_) (fun c9 => ?_)
    · skip
      refine lv_aload_n hx hb dX5_keep_22 rfl (lv_at hl 0 rfl) ?_
      refine mm_geta hx hb hts hown hK hW 89 rfl q1774 dX5_keep_23 ?_
      refine lv_iload_n hx hb dX5_keep_26 rfl (lv_at hl 1 rfl) ?_
      refine lv_iload_n hx hb dX5_keep_27 rfl (lv_at hl 2 rfl) ?_
      refine mm_iast hx hb hK hW hS 89 rfl (ww_in (by omega) (by omega)) dX5_keep_28 (fun S28 H locs f28 hW hS => ?_)
      refine lv_iconst (v := 1) hx hb dX5_keep_29 (by decide) ?_
      refine mm_iret hx hb hr hlocks hW hS ?_ dX5_keep_30
      have hres : ff_keep S s b = (1, S28) := by subst e1 f28; simp only [ff_keep, if_neg c4, if_pos c9]
      exact ⟨by rw [hres], by rw [hres], rfl⟩
    · skip
      refine lv_aload_n hx hb dX5_keep_12 rfl (lv_at hl 0 rfl) ?_
      refine lv_iload_n hx hb dX5_keep_13 rfl (lv_at hl 2 rfl) ?_
      refine mm_callp (As := [.int b]) (rest := []) (n := 1) ⟨hx, hb, hml, hown, hts⟩ hK (mc_isBody lQ G o S E b) (lw_V q2020 q2022 qs38 q92 q2023) (by decide +kernel) rfl ⟨Nat.le_of_ble_eq_true rfl, Nat.le_of_ble_eq_true rfl⟩ hW hS hl.1 rfl (Nat.le_of_ble_eq_true rfl) dX5_keep_14 ⟨Nat.le_of_ble_eq_true rfl, Nat.le_of_ble_eq_true rfl⟩ (fun v14 H locs e14 hW hS => ?_)
      refine lv_if_ne (tgt := 22) hx hb dX5_keep_17 (by decide) (fun c17 => ?_) (fun c17 => ?_)
      · skip
        refine lv_aload_n hx hb dX5_keep_22 rfl (lv_at hl 0 rfl) ?_
        refine mm_geta hx hb hts hown hK hW 89 rfl q1774 dX5_keep_23 ?_
        refine lv_iload_n hx hb dX5_keep_26 rfl (lv_at hl 1 rfl) ?_
        refine lv_iload_n hx hb dX5_keep_27 rfl (lv_at hl 2 rfl) ?_
        refine mm_iast hx hb hK hW hS 89 rfl (ww_in (by omega) (by omega)) dX5_keep_28 (fun S28 H locs f28 hW hS => ?_)
        refine lv_iconst (v := 1) hx hb dX5_keep_29 (by decide) ?_
        refine mm_iret hx hb hr hlocks hW hS ?_ dX5_keep_30
        have hres : ff_keep S s b = (1, S28) := by subst e1 e14 f28; simp only [ff_keep, if_neg c4, if_neg c9, if_neg c17]
        exact ⟨by rw [hres], by rw [hres], rfl⟩
      · skip
        refine lv_iconst (v := (-1)) hx hb dX5_keep_20 (by decide) ?_
        refine mm_iret hx hb hr hlocks hW hS ?_ dX5_keep_21
        have hres : ff_keep S s b = ((-1), S) := by subst e1 e14; simp only [ff_keep, if_neg c4, if_neg c9, if_pos c17]
        exact ⟨by rw [hres], by rw [hres], rfl⟩

set_option maxHeartbeats 4000000 in
theorem mc_row (lQ : Launch) (G : wm_G) (o : Nat) (S : mm_S) (E : mm_E) (s : Int32) (t : Int32) (n : Int32) : mm_Met lQ G o yX5_row (ws_ yX5_row cX5_row 5 (some .int)) 2 S E [.int s, .int t, .int n] (some (.int (ff_row S E s t n).1)) (ff_row S E s t n).2.1 (ff_row S E s t n).2.2 := by
  refine mm_start (by decide +kernel) (Nat.le_of_ble_eq_true rfl) rfl (fun pQ eQ sQ mQ belowQ methQ cQ hx hb hml hr hlocks hts hown hK H hW hS ls hl => ?_)
  have hl : lv_has ls 5 [(0, .ref o), (1, .int s), (2, .int t), (3, .int n)] := hl
  generalize hlc : ([] : List Loc) = locs at hS ⊢
  refine lv_iload_n hx hb dX5_row_0 rfl (lv_at hl 1 rfl) ?_
  refine pp_calli (As := [.int s]) (rest := []) (n := 1) ⟨hx, hb, hml, hown, hts⟩ (mc_isShelf lQ s) (lw_S q2071 q2072 q92 q2073) (by decide +kernel) rfl ⟨Nat.le_of_ble_eq_true rfl, Nat.le_of_ble_eq_true rfl⟩ hl.1 rfl (Nat.le_of_ble_eq_true rfl) dX5_row_1 ⟨Nat.le_of_ble_eq_true rfl, Nat.le_of_ble_eq_true rfl⟩ (fun v1 e1 => ?_)
  refine lv_if_eq (tgt := 22) hx hb dX5_row_4 (by decide) (fun c4 => ?_) (fun c4 => ?_)
  · skip
    refine lv_iconst (v := (-1)) hx hb dX5_row_22 (by decide) ?_
    refine mm_iret hx hb hr hlocks hW hS ?_ dX5_row_23
    have hres : ff_row S E s t n = ((-1), S, E) := by subst e1; simp only [ff_row, rw_s, if_pos c4]
    exact ⟨by rw [hres], by rw [hres], by rw [hres]⟩
  · skip
    obtain ⟨s0, s1⟩ := ff_isShelf_t (s := s) (by rw [← e1]; exact c4)
    refine lv_iload_n hx hb dX5_row_7 rfl (lv_at hl 2 rfl) ?_
    refine lv_iconst (v := 0) hx hb dX5_row_8 (by decide) ?_
    refine lv_iconst (v := 4) hx hb dX5_row_9 (by decide) ?_
    refine pp_calli (As := [.int t, .int 0, .int 4]) (rest := []) (n := 3) ⟨hx, hb, hml, hown, hts⟩ (mc_in lQ t 0 4) (lw_S q1979 q1980 q92 q1981) (by decide +kernel) rfl ⟨Nat.le_of_ble_eq_true rfl, Nat.le_of_ble_eq_true rfl⟩ hl.1 rfl (Nat.le_of_ble_eq_true rfl) dX5_row_10 ⟨Nat.le_of_ble_eq_true rfl, Nat.le_of_ble_eq_true rfl⟩ (fun v10 e10 => ?_)
    refine lv_if_eq (tgt := 22) hx hb dX5_row_13 (by decide) (fun c13 => ?_) (fun c13 => ?_)
    · skip
      refine lv_iconst (v := (-1)) hx hb dX5_row_22 (by decide) ?_
      refine mm_iret hx hb hr hlocks hW hS ?_ dX5_row_23
      have hres : ff_row S E s t n = ((-1), S, E) := by subst e1 e10; simp only [ff_row, rw_s, if_neg c4, if_pos c13]
      exact ⟨by rw [hres], by rw [hres], by rw [hres]⟩
    · skip
      refine lv_iload_n hx hb dX5_row_16 rfl (lv_at hl 3 rfl) ?_
      refine lv_bipush (v := 60) hx hb dX5_row_17 (by decide) ?_
      refine lv_icmp_le (tgt := 24) hx hb dX5_row_19 (by decide) (fun c19 => ?_) (fun c19 => ?_)
      · have t19 : (n).toInt ≤ 60 := ww_le c19
        refine lv_iload_n hx hb dX5_row_24 rfl (lv_at hl 3 rfl) ?_
        refine lv_if_ge (tgt := 31) hx hb dX5_row_25 (by decide) (fun c25 => ?_) (fun c25 => ?_)
        · have t25 : 0 ≤ (n).toInt := ww_le c25
          refine lv_aload_n hx hb dX5_row_31 rfl (lv_at hl 0 rfl) ?_
          refine mm_geta hx hb hts hown hK hW 89 rfl q1774 dX5_row_32 ?_
          refine lv_iload_n hx hb dX5_row_35 rfl (lv_at hl 1 rfl) ?_
          refine lv_bipush (v := (-2)) hx hb dX5_row_36 (by decide) ?_
          refine lv_iload_n hx hb dX5_row_38 rfl (lv_at hl 2 rfl) ?_
          refine nv_isub hx hb dX5_row_39 (fun v39 e39 => ?_)
          refine mm_iast hx hb hK hW hS 89 rfl (ww_in (by omega) (by omega)) dX5_row_40 (fun S40 H locs f40 hW hS => ?_)
          refine lv_aload_n hx hb dX5_row_41 rfl (lv_at hl 0 rfl) ?_
          refine mm_geta hx hb hts hown hK hW 90 rfl q1775 dX5_row_42 ?_
          refine lv_iload_n hx hb dX5_row_45 rfl (lv_at hl 1 rfl) ?_
          refine lv_iload_n hx hb dX5_row_46 rfl (lv_at hl 3 rfl) ?_
          refine mm_iast hx hb hK hW hS 90 rfl (ww_in (by omega) (by omega)) dX5_row_47 (fun S47 H locs f47 hW hS => ?_)
          refine lv_bipush (v := 60) hx hb dX5_row_48 (by decide) ?_
          refine lv_iload_n hx hb dX5_row_50 rfl (lv_at hl 1 rfl) ?_
          refine nv_imul hx hb dX5_row_51 (fun v51 e51 => ?_)
          have t60 : (60 : Int32).toInt = 60 := by decide
          have t51 : v51.toInt = 60 * s.toInt := by rw [e51, ww_mul, t60] <;> rw [t60] <;> omega
          have hlim : (60 * s + 60).toInt = 60 * s.toInt + 60 := by rw [ww_add, t60, ← e51, t51] <;> rw [← e51, t51, t60] <;> omega
          refine lv_istore (lv' := [(4, .int v51), (0, .ref o), (1, .int s), (2, .int t), (3, .int n)]) hx hb dX5_row_52 hl (by decide) rfl (fun ls hl => ?_)
          have L54 : ∀ (fu54 : Nat) (k : Int32) (S0 : mm_S) (E0 : mm_E) (H : Heap) (locs : List Loc), (60 * s.toInt + 60 - k.toInt < fu54) → (60 * s.toInt ≤ k.toInt) → (k.toInt ≤ 60 * s.toInt + 60) → (rw_go fu54 S0 E0 s k = ff_row S E s t n) → mm_W G o S0 E0 H → va_S (mm_F o) sQ.heap H locs → ∀ ls : Array Slot, lv_has ls 5 [(4, .int k), (0, .ref o), (1, .int s), (2, .int t), (3, .int n)] → W pQ lQ eQ (wm_rm 2) sQ mQ (Value.ref o :: [.int s, .int t, .int n]).toArray belowQ methQ cQ H locs 0 0 (MQ belowQ (wm_Q (fun vQ HQ => vQ = some (.int (ff_row S E s t n).1) ∧ mm_W G o (ff_row S E s t n).2.1 (ff_row S E s t n).2.2 HQ) (mm_F o)) (Value.ref o :: [.int s, .int t, .int n]).toArray sQ 0 0 (mm_F o)) (F0 mQ 54 ls []) := by
            intro fu54
            induction fu54 with
            | zero =>
              intro k S0 E0 H locs hm54 k054 k154 hgo54 hW hS ls hl
              exact absurd hm54 (by omega)
            | succ fu54 ih54 =>
              intro k S0 E0 H locs hm54 k054 k154 hgo54 hW hS ls hl
              refine lv_iload hx hb dX5_row_54 (lv_at hl 0 rfl) ?_
              refine lv_bipush (v := 60) hx hb dX5_row_56 (by decide) ?_
              refine lv_iload_n hx hb dX5_row_58 rfl (lv_at hl 2 rfl) ?_
              refine nv_imul hx hb dX5_row_59 (fun v59 e59 => ?_)
              refine lv_bipush (v := 60) hx hb dX5_row_60 (by decide) ?_
              refine nv_iadd hx hb dX5_row_62 (fun v62 e62 => ?_)
              refine lv_icmp_ge (tgt := 88) hx hb dX5_row_63 (by decide) (fun c63 => ?_) (fun c63 => ?_)
              · have t63 : (v62).toInt ≤ (k).toInt := ww_le c63
                refine lv_iconst (v := 1) hx hb dX5_row_88 (by decide) ?_
                refine mm_iret hx hb hr hlocks hW hS ?_ dX5_row_89
                have hres : ff_row S E s t n = (1, S0, E0) := by rw [← hgo54]; subst e59 e62; simp only [rw_go, if_pos c63]
                exact ⟨by rw [hres], by rw [hres], by rw [hres]⟩
              · have t63 : (k).toInt < (v62).toInt := ww_nle c63
                refine lv_aload_n hx hb dX5_row_66 rfl (lv_at hl 1 rfl) ?_
                refine mm_geta hx hb hts hown hK hW 91 rfl q1776 dX5_row_67 ?_
                refine lv_iload hx hb dX5_row_70 (lv_at hl 0 rfl) ?_
                refine lv_lconst (v := 0) hx hb dX5_row_72 (by decide) ?_
                refine mm_last hx hb hK hW hS 91 rfl (ww_in (by omega) (by rw [e62, e59, hlim] at t63; omega)) dX5_row_73 (fun E73 H locs f73 hW hS => ?_)
                refine lv_aload_n hx hb dX5_row_74 rfl (lv_at hl 1 rfl) ?_
                refine mm_geta hx hb hts hown hK hW 92 rfl q1777 dX5_row_75 ?_
                refine lv_iload hx hb dX5_row_78 (lv_at hl 0 rfl) ?_
                refine lv_iconst (v := 0) hx hb dX5_row_80 (by decide) ?_
                refine mm_zast hx hb hK hW hS 92 rfl rfl (ww_in (by omega) (by rw [e62, e59, hlim] at t63; omega)) dX5_row_81 (fun S81 H locs f81 hW hS => ?_)
                obtain ⟨v82, e82⟩ : ∃ yQ : Int32, yQ = k + 1 := ⟨_, rfl⟩
                refine lv_iinc (v := v82) (lv' := [(4, .int v82), (0, .ref o), (1, .int s), (2, .int t), (3, .int n)]) hx hb dX5_row_82 hl (k := 0) rfl (by rw [e82]; rfl) (by decide) rfl (fun ls hl => ?_)
                refine lv_goto (tgt := 54) hx hb dX5_row_85 (by decide) ?_
                rw [e62, e59, hlim] at t63
                have tb : v82.toInt = k.toInt + 1 := by rw [e82]; exact ww_inc' (by omega)
                exact ih54 v82 S81 E73 H locs (by omega) (by omega) (by omega) (by subst e59 e62 f73 f81 e82; simp only [rw_go, if_neg c63] at hgo54; exact hgo54) hW hS ls (lv_sub hl [0, 1, 2, 3, 4] rfl)
          exact L54 61 v51 S47 E H locs (by show _ < (61 : Int); omega) (by omega) (by omega) (by subst e1 e10 e39 f40 f47 e51; simp only [ff_row, rw_s, if_neg c4, if_neg c13, if_pos c19, if_pos c25]) hW hS ls (lv_sub hl [0, 1, 2, 3, 4] rfl)
        · have t25 : (n).toInt < 0 := ww_nle c25
          refine lv_bipush (v := (-14)) hx hb dX5_row_28 (by decide) ?_
          refine mm_iret hx hb hr hlocks hW hS ?_ dX5_row_30
          have hres : ff_row S E s t n = ((-14), S, E) := by subst e1 e10; simp only [ff_row, rw_s, if_neg c4, if_neg c13, if_pos c19, if_neg c25]
          exact ⟨by rw [hres], by rw [hres], by rw [hres]⟩
      · have t19 : 60 < (n).toInt := ww_nle c19
        refine lv_iconst (v := (-1)) hx hb dX5_row_22 (by decide) ?_
        refine mm_iret hx hb hr hlocks hW hS ?_ dX5_row_23
        have hres : ff_row S E s t n = ((-1), S, E) := by subst e1 e10; simp only [ff_row, rw_s, if_neg c4, if_neg c13, if_neg c19]
        exact ⟨by rw [hres], by rw [hres], by rw [hres]⟩

set_option maxHeartbeats 4000000 in
theorem mc_whyNoPlace (lQ : Launch) (G : wm_G) (o : Nat) (S : mm_S) (E : mm_E) (s : Int32) (i : Int32) : mm_Met lQ G o yX5_whyNoPlace (ws_ yX5_whyNoPlace cX5_whyNoPlace 3 (some .int)) 2 S E [.int s, .int i] (some (.int (ff_whyNoPlace S s i))) S E := by
  refine mm_start (by decide +kernel) (Nat.le_of_ble_eq_true rfl) rfl (fun pQ eQ sQ mQ belowQ methQ cQ hx hb hml hr hlocks hts hown hK H hW hS ls hl => ?_)
  have hl : lv_has ls 3 [(0, .ref o), (1, .int s), (2, .int i)] := hl
  generalize hlc : ([] : List Loc) = locs at hS ⊢
  refine lv_iload_n hx hb dX5_whyNoPlace_0 rfl (lv_at hl 1 rfl) ?_
  refine pp_calli (As := [.int s]) (rest := []) (n := 1) ⟨hx, hb, hml, hown, hts⟩ (mc_isShelf lQ s) (lw_S q2071 q2072 q92 q2073) (by decide +kernel) rfl ⟨Nat.le_of_ble_eq_true rfl, Nat.le_of_ble_eq_true rfl⟩ hl.1 rfl (Nat.le_of_ble_eq_true rfl) dX5_whyNoPlace_1 ⟨Nat.le_of_ble_eq_true rfl, Nat.le_of_ble_eq_true rfl⟩ (fun v1 e1 => ?_)
  refine lv_if_ne (tgt := 9) hx hb dX5_whyNoPlace_4 (by decide) (fun c4 => ?_) (fun c4 => ?_)
  · skip
    obtain ⟨s0, s1⟩ := ff_isShelf_t (s := s) (by rw [← e1]; exact c4)
    refine lv_aload_n hx hb dX5_whyNoPlace_9 rfl (lv_at hl 0 rfl) ?_
    refine mm_geta hx hb hts hown hK hW 89 rfl q1774 dX5_whyNoPlace_10 ?_
    refine lv_iload_n hx hb dX5_whyNoPlace_13 rfl (lv_at hl 1 rfl) ?_
    refine mm_iald hx hb hK hW 89 rfl (ww_in (by omega) (by omega)) dX5_whyNoPlace_14 ?_
    refine lv_iconst (v := (-1)) hx hb dX5_whyNoPlace_15 (by decide) ?_
    refine lv_icmp_ne (tgt := 22) hx hb dX5_whyNoPlace_16 (by decide) (fun c16 => ?_) (fun c16 => ?_)
    · skip
      refine lv_aload_n hx hb dX5_whyNoPlace_22 rfl (lv_at hl 0 rfl) ?_
      refine mm_geta hx hb hts hown hK hW 89 rfl q1774 dX5_whyNoPlace_23 ?_
      refine lv_iload_n hx hb dX5_whyNoPlace_26 rfl (lv_at hl 1 rfl) ?_
      refine mm_iald hx hb hK hW 89 rfl (ww_in (by omega) (by omega)) dX5_whyNoPlace_27 ?_
      refine lv_if_lt (tgt := 34) hx hb dX5_whyNoPlace_28 (by decide) (fun c28 => ?_) (fun c28 => ?_)
      · have t28 : ((rd_ S 89 s)).toInt < 0 := ww_lt c28
        refine lv_iload_n hx hb dX5_whyNoPlace_34 rfl (lv_at hl 2 rfl) ?_
        refine lv_iconst (v := 0) hx hb dX5_whyNoPlace_35 (by decide) ?_
        refine lv_aload_n hx hb dX5_whyNoPlace_36 rfl (lv_at hl 0 rfl) ?_
        refine mm_geta hx hb hts hown hK hW 90 rfl q1775 dX5_whyNoPlace_37 ?_
        refine lv_iload_n hx hb dX5_whyNoPlace_40 rfl (lv_at hl 1 rfl) ?_
        refine mm_iald hx hb hK hW 90 rfl (ww_in (by omega) (by omega)) dX5_whyNoPlace_41 ?_
        refine lv_iconst (v := 1) hx hb dX5_whyNoPlace_42 (by decide) ?_
        refine nv_isub hx hb dX5_whyNoPlace_43 (fun v43 e43 => ?_)
        refine pp_calli (As := [.int i, .int 0, .int v43]) (rest := []) (n := 3) ⟨hx, hb, hml, hown, hts⟩ (mc_in lQ i 0 v43) (lw_S q1979 q1980 q92 q1981) (by decide +kernel) rfl ⟨Nat.le_of_ble_eq_true rfl, Nat.le_of_ble_eq_true rfl⟩ hl.1 rfl (Nat.le_of_ble_eq_true rfl) dX5_whyNoPlace_44 ⟨Nat.le_of_ble_eq_true rfl, Nat.le_of_ble_eq_true rfl⟩ (fun v44 e44 => ?_)
        refine lv_if_eq (tgt := 54) hx hb dX5_whyNoPlace_47 (by decide) (fun c47 => ?_) (fun c47 => ?_)
        · skip
          refine lv_bipush (v := (-13)) hx hb dX5_whyNoPlace_54 (by decide) ?_
          refine mm_iret hx hb hr hlocks hW hS ?_ dX5_whyNoPlace_56
          have hres : ff_whyNoPlace S s i = (-13) := by subst e1 e43 e44; simp only [ff_whyNoPlace, if_neg c4, if_neg c16, if_pos c28, if_pos c47]
          exact ⟨by rw [hres], rfl, rfl⟩
        · skip
          refine lv_iconst (v := 0) hx hb dX5_whyNoPlace_50 (by decide) ?_
          refine lv_goto (tgt := 56) hx hb dX5_whyNoPlace_51 (by decide) ?_
          refine mm_iret hx hb hr hlocks hW hS ?_ dX5_whyNoPlace_56
          have hres : ff_whyNoPlace S s i = 0 := by subst e1 e43 e44; simp only [ff_whyNoPlace, if_neg c4, if_neg c16, if_pos c28, if_neg c47]
          exact ⟨by rw [hres], rfl, rfl⟩
      · have t28 : 0 ≤ ((rd_ S 89 s)).toInt := ww_nlt c28
        refine lv_bipush (v := (-12)) hx hb dX5_whyNoPlace_31 (by decide) ?_
        refine mm_iret hx hb hr hlocks hW hS ?_ dX5_whyNoPlace_33
        have hres : ff_whyNoPlace S s i = (-12) := by subst e1; simp only [ff_whyNoPlace, if_neg c4, if_neg c16, if_neg c28]
        exact ⟨by rw [hres], rfl, rfl⟩
    · skip
      refine lv_bipush (v := (-11)) hx hb dX5_whyNoPlace_19 (by decide) ?_
      refine mm_iret hx hb hr hlocks hW hS ?_ dX5_whyNoPlace_21
      have hres : ff_whyNoPlace S s i = (-11) := by subst e1; simp only [ff_whyNoPlace, if_neg c4, if_pos c16]
      exact ⟨by rw [hres], rfl, rfl⟩
  · skip
    refine lv_iconst (v := (-1)) hx hb dX5_whyNoPlace_7 (by decide) ?_
    refine mm_iret hx hb hr hlocks hW hS ?_ dX5_whyNoPlace_8
    have hres : ff_whyNoPlace S s i = (-1) := by subst e1; simp only [ff_whyNoPlace, if_pos c4]
    exact ⟨by rw [hres], rfl, rfl⟩

set_option maxHeartbeats 4000000 in
theorem mc_put (lQ : Launch) (G : wm_G) (o : Nat) (S : mm_S) (E : mm_E) (s : Int32) (i : Int32) (v : Int64) (hZ : iv_Z S) : mm_Met lQ G o yX5_put (ws_ yX5_put cX5_put 7 (some .int)) 3 S E [.int s, .int i, .long v] (some (.int (ff_put S E s i v).1)) (ff_put S E s i v).2.1 (ff_put S E s i v).2.2 := by
  refine mm_start (by decide +kernel) (Nat.le_of_ble_eq_true rfl) rfl (fun pQ eQ sQ mQ belowQ methQ cQ hx hb hml hr hlocks hts hown hK H hW hS ls hl => ?_)
  have hl : lv_has ls 7 [(0, .ref o), (1, .int s), (2, .int i), (3, .long v)] := hl
  generalize hlc : ([] : List Loc) = locs at hS ⊢
  refine lv_iload_n hx hb dX5_put_0 rfl (lv_at hl 1 rfl) ?_
  refine pp_calli (As := [.int s]) (rest := []) (n := 1) ⟨hx, hb, hml, hown, hts⟩ (mc_isShelf lQ s) (lw_S q2071 q2072 q92 q2073) (by decide +kernel) rfl ⟨Nat.le_of_ble_eq_true rfl, Nat.le_of_ble_eq_true rfl⟩ hl.1 rfl (Nat.le_of_ble_eq_true rfl) dX5_put_1 ⟨Nat.le_of_ble_eq_true rfl, Nat.le_of_ble_eq_true rfl⟩ (fun v1 e1 => ?_)
  refine lv_if_eq (tgt := 31) hx hb dX5_put_4 (by decide) (fun c4 => ?_) (fun c4 => ?_)
  · skip
    refine lv_iconst (v := (-1)) hx hb dX5_put_31 (by decide) ?_
    refine mm_iret hx hb hr hlocks hW hS ?_ dX5_put_32
    have hres : ff_put S E s i v = ((-1), S, E) := by subst e1; simp only [ff_put, pt_fin, if_pos c4, pt_v]
    exact ⟨by rw [hres], by rw [hres], by rw [hres]⟩
  · skip
    obtain ⟨s0, s1⟩ := ff_isShelf_t (s := s) (by rw [← e1]; exact c4)
    refine lv_aload_n hx hb dX5_put_7 rfl (lv_at hl 0 rfl) ?_
    refine lv_iload_n hx hb dX5_put_8 rfl (lv_at hl 1 rfl) ?_
    refine mm_callp (As := [.int s]) (rest := []) (n := 1) ⟨hx, hb, hml, hown, hts⟩ hK (mc_isReals lQ G o S E s s0 s1) (lw_V q2074 q2076 qs41 q92 q2077) (by decide +kernel) rfl ⟨Nat.le_of_ble_eq_true rfl, Nat.le_of_ble_eq_true rfl⟩ hW hS hl.1 rfl (Nat.le_of_ble_eq_true rfl) dX5_put_9 ⟨Nat.le_of_ble_eq_true rfl, Nat.le_of_ble_eq_true rfl⟩ (fun v9 H locs e9 hW hS => ?_)
    refine lv_if_eq (tgt := 33) hx hb dX5_put_12 (by decide) (fun c12 => ?_) (fun c12 => ?_)
    · skip
      refine lv_aload_n hx hb dX5_put_33 rfl (lv_at hl 0 rfl) ?_
      refine lv_iload_n hx hb dX5_put_34 rfl (lv_at hl 1 rfl) ?_
      refine lv_iload_n hx hb dX5_put_35 rfl (lv_at hl 2 rfl) ?_
      refine mm_callp (As := [.int s, .int i]) (rest := []) (n := 2) ⟨hx, hb, hml, hown, hts⟩ hK (mc_whyNoPlace lQ G o S E s i) (lw_V q2399 q2401 qs82 q92 q2402) (by decide +kernel) rfl ⟨Nat.le_of_ble_eq_true rfl, Nat.le_of_ble_eq_true rfl⟩ hW hS hl.1 rfl (Nat.le_of_ble_eq_true rfl) dX5_put_36 ⟨Nat.le_of_ble_eq_true rfl, Nat.le_of_ble_eq_true rfl⟩ (fun v36 H locs e36 hW hS => ?_)
      refine lv_istore (lv' := [(5, .int v36), (0, .ref o), (1, .int s), (2, .int i), (3, .long v)]) hx hb dX5_put_39 hl (by decide) rfl (fun ls hl => ?_)
      refine lv_iload hx hb dX5_put_41 (lv_at hl 0 rfl) ?_
      refine lv_if_ge (tgt := 49) hx hb dX5_put_43 (by decide) (fun c43 => ?_) (fun c43 => ?_)
      · have t43 : 0 ≤ (v36).toInt := ww_le c43
        have hwy : 0 ≤ ff_whyNoPlace S s i := by rw [← e36]; exact c43
        obtain ⟨w0, w1, w2, w3, w4⟩ := ff_whyNo_t hZ hwy
        refine lv_bipush (v := (-2)) hx hb dX5_put_49 (by decide) ?_
        refine lv_aload_n hx hb dX5_put_51 rfl (lv_at hl 1 rfl) ?_
        refine mm_geta hx hb hts hown hK hW 89 rfl q1774 dX5_put_52 ?_
        refine lv_iload_n hx hb dX5_put_55 rfl (lv_at hl 2 rfl) ?_
        refine mm_iald hx hb hK hW 89 rfl (ww_in (by omega) (by omega)) dX5_put_56 ?_
        refine nv_isub hx hb dX5_put_57 (fun v57 e57 => ?_)
        refine lv_istore (lv' := [(6, .int v57), (5, .int v36), (0, .ref o), (1, .int s), (2, .int i), (3, .long v)]) hx hb dX5_put_58 hl (by decide) rfl (fun ls hl => ?_)
        refine lv_aload_n hx hb dX5_put_60 rfl (lv_at hl 2 rfl) ?_
        refine mm_geta hx hb hts hown hK hW 91 rfl q1776 dX5_put_61 ?_
        refine lv_bipush (v := 60) hx hb dX5_put_64 (by decide) ?_
        refine lv_iload_n hx hb dX5_put_66 rfl (lv_at hl 3 rfl) ?_
        refine nv_imul hx hb dX5_put_67 (fun v67 e67 => ?_)
        refine lv_iload_n hx hb dX5_put_68 rfl (lv_at hl 4 rfl) ?_
        refine nv_iadd hx hb dX5_put_69 (fun v69 e69 => ?_)
        refine lv_iload hx hb dX5_put_70 (lv_at hl 0 rfl) ?_
        refine lv_if_ne (tgt := 82) hx hb dX5_put_72 (by decide) (fun c72 => ?_) (fun c72 => ?_)
        · skip
          refine lv_iload hx hb dX5_put_82 (lv_at hl 0 rfl) ?_
          refine lv_iconst (v := 1) hx hb dX5_put_84 (by decide) ?_
          refine lv_icmp_ne (tgt := 96) hx hb dX5_put_85 (by decide) (fun c85 => ?_) (fun c85 => ?_)
          · skip
            refine lv_iload hx hb dX5_put_96 (lv_at hl 0 rfl) ?_
            refine lv_iconst (v := 2) hx hb dX5_put_98 (by decide) ?_
            refine lv_icmp_ne (tgt := 108) hx hb dX5_put_99 (by decide) (fun c99 => ?_) (fun c99 => ?_)
            · skip
              refine lv_lload_n hx hb dX5_put_108 rfl (lv_at hl 5 rfl) ?_
              refine mm_last hx hb hK hW hS 91 rfl (by rw [e69, e67]; exact ix_360 w0 w1 w2 w4) dX5_put_109 (fun E109 H locs f109 hW hS => ?_)
              have nv : pt_v v57 v = pt_v v57 v := rfl
              refine lv_aload_n hx hb dX5_put_110 rfl (lv_at hl 2 rfl) ?_
              refine mm_geta hx hb hts hown hK hW 92 rfl q1777 dX5_put_111 ?_
              refine lv_bipush (v := 60) hx hb dX5_put_114 (by decide) ?_
              refine lv_iload_n hx hb dX5_put_116 rfl (lv_at hl 3 rfl) ?_
              refine nv_imul hx hb dX5_put_117 (fun v117 e117 => ?_)
              refine lv_iload_n hx hb dX5_put_118 rfl (lv_at hl 4 rfl) ?_
              refine nv_iadd hx hb dX5_put_119 (fun v119 e119 => ?_)
              refine lv_iconst (v := 0) hx hb dX5_put_120 (by decide) ?_
              refine mm_zast hx hb hK hW hS 92 rfl rfl (by rw [e119, e117]; exact ix_360 w0 w1 w2 w4) dX5_put_121 (fun S121 H locs f121 hW hS => ?_)
              refine lv_iconst (v := 1) hx hb dX5_put_122 (by decide) ?_
              refine mm_iret hx hb hr hlocks hW hS ?_ dX5_put_123
              have hres : ff_put S E s i v = (1, S121, E109) := by subst e1 e9 e36 e57 e67 e69 f109 e117 e119 f121; simp only [ff_put, pt_fin, if_neg c4, if_pos c12, if_pos c43, if_neg c72, if_neg c85, if_neg c99, pt_v]
              exact ⟨by rw [hres], by rw [hres], by rw [hres]⟩
            · skip
              refine lv_lload_n hx hb dX5_put_102 rfl (lv_at hl 5 rfl) ?_
              refine nv_l2i hx hb dX5_put_103 (fun v103 e103 => ?_)
              refine nv_i2l hx hb dX5_put_104 (fun v104 e104 => ?_)
              refine lv_goto (tgt := 109) hx hb dX5_put_105 (by decide) ?_
              refine mm_last hx hb hK hW hS 91 rfl (by rw [e69, e67]; exact ix_360 w0 w1 w2 w4) dX5_put_109 (fun E109 H locs f109 hW hS => ?_)
              have nv : pt_v v57 v = pt_v v57 v := rfl
              refine lv_aload_n hx hb dX5_put_110 rfl (lv_at hl 2 rfl) ?_
              refine mm_geta hx hb hts hown hK hW 92 rfl q1777 dX5_put_111 ?_
              refine lv_bipush (v := 60) hx hb dX5_put_114 (by decide) ?_
              refine lv_iload_n hx hb dX5_put_116 rfl (lv_at hl 3 rfl) ?_
              refine nv_imul hx hb dX5_put_117 (fun v117 e117 => ?_)
              refine lv_iload_n hx hb dX5_put_118 rfl (lv_at hl 4 rfl) ?_
              refine nv_iadd hx hb dX5_put_119 (fun v119 e119 => ?_)
              refine lv_iconst (v := 0) hx hb dX5_put_120 (by decide) ?_
              refine mm_zast hx hb hK hW hS 92 rfl rfl (by rw [e119, e117]; exact ix_360 w0 w1 w2 w4) dX5_put_121 (fun S121 H locs f121 hW hS => ?_)
              refine lv_iconst (v := 1) hx hb dX5_put_122 (by decide) ?_
              refine mm_iret hx hb hr hlocks hW hS ?_ dX5_put_123
              have hres : ff_put S E s i v = (1, S121, E109) := by subst e1 e9 e36 e57 e67 e69 e103 e104 f109 e117 e119 f121; simp only [ff_put, pt_fin, if_neg c4, if_pos c12, if_pos c43, if_neg c72, if_neg c85, if_pos c99, pt_v]
              exact ⟨by rw [hres], by rw [hres], by rw [hres]⟩
          · skip
            refine lv_lload_n hx hb dX5_put_88 rfl (lv_at hl 5 rfl) ?_
            refine lv_ldc2 (v := 65535) hx hb hown (hts _ q2403) dX5_put_89 ?_
            refine nv_land hx hb dX5_put_92 (fun v92 e92 => ?_)
            refine lv_goto (tgt := 109) hx hb dX5_put_93 (by decide) ?_
            refine mm_last hx hb hK hW hS 91 rfl (by rw [e69, e67]; exact ix_360 w0 w1 w2 w4) dX5_put_109 (fun E109 H locs f109 hW hS => ?_)
            have nv : pt_v v57 v = pt_v v57 v := rfl
            refine lv_aload_n hx hb dX5_put_110 rfl (lv_at hl 2 rfl) ?_
            refine mm_geta hx hb hts hown hK hW 92 rfl q1777 dX5_put_111 ?_
            refine lv_bipush (v := 60) hx hb dX5_put_114 (by decide) ?_
            refine lv_iload_n hx hb dX5_put_116 rfl (lv_at hl 3 rfl) ?_
            refine nv_imul hx hb dX5_put_117 (fun v117 e117 => ?_)
            refine lv_iload_n hx hb dX5_put_118 rfl (lv_at hl 4 rfl) ?_
            refine nv_iadd hx hb dX5_put_119 (fun v119 e119 => ?_)
            refine lv_iconst (v := 0) hx hb dX5_put_120 (by decide) ?_
            refine mm_zast hx hb hK hW hS 92 rfl rfl (by rw [e119, e117]; exact ix_360 w0 w1 w2 w4) dX5_put_121 (fun S121 H locs f121 hW hS => ?_)
            refine lv_iconst (v := 1) hx hb dX5_put_122 (by decide) ?_
            refine mm_iret hx hb hr hlocks hW hS ?_ dX5_put_123
            have hres : ff_put S E s i v = (1, S121, E109) := by subst e1 e9 e36 e57 e67 e69 e92 f109 e117 e119 f121; simp only [ff_put, pt_fin, if_neg c4, if_pos c12, if_pos c43, if_neg c72, if_pos c85, pt_v]
            exact ⟨by rw [hres], by rw [hres], by rw [hres]⟩
        · skip
          refine lv_lload_n hx hb dX5_put_75 rfl (lv_at hl 5 rfl) ?_
          refine nv_l2i hx hb dX5_put_76 (fun v76 e76 => ?_)
          refine nv_i2b hx hb dX5_put_77 (fun v77 e77 => ?_)
          refine nv_i2l hx hb dX5_put_78 (fun v78 e78 => ?_)
          refine lv_goto (tgt := 109) hx hb dX5_put_79 (by decide) ?_
          refine mm_last hx hb hK hW hS 91 rfl (by rw [e69, e67]; exact ix_360 w0 w1 w2 w4) dX5_put_109 (fun E109 H locs f109 hW hS => ?_)
          have nv : pt_v v57 v = pt_v v57 v := rfl
          refine lv_aload_n hx hb dX5_put_110 rfl (lv_at hl 2 rfl) ?_
          refine mm_geta hx hb hts hown hK hW 92 rfl q1777 dX5_put_111 ?_
          refine lv_bipush (v := 60) hx hb dX5_put_114 (by decide) ?_
          refine lv_iload_n hx hb dX5_put_116 rfl (lv_at hl 3 rfl) ?_
          refine nv_imul hx hb dX5_put_117 (fun v117 e117 => ?_)
          refine lv_iload_n hx hb dX5_put_118 rfl (lv_at hl 4 rfl) ?_
          refine nv_iadd hx hb dX5_put_119 (fun v119 e119 => ?_)
          refine lv_iconst (v := 0) hx hb dX5_put_120 (by decide) ?_
          refine mm_zast hx hb hK hW hS 92 rfl rfl (by rw [e119, e117]; exact ix_360 w0 w1 w2 w4) dX5_put_121 (fun S121 H locs f121 hW hS => ?_)
          refine lv_iconst (v := 1) hx hb dX5_put_122 (by decide) ?_
          refine mm_iret hx hb hr hlocks hW hS ?_ dX5_put_123
          have hres : ff_put S E s i v = (1, S121, E109) := by subst e1 e9 e36 e57 e67 e69 e76 e77 e78 f109 e117 e119 f121; simp only [ff_put, pt_fin, if_neg c4, if_pos c12, if_pos c43, if_pos c72, pt_v]
          exact ⟨by rw [hres], by rw [hres], by rw [hres]⟩
      · have t43 : (v36).toInt < 0 := ww_nle c43
        refine lv_iload hx hb dX5_put_46 (lv_at hl 0 rfl) ?_
        refine mm_iret hx hb hr hlocks hW hS ?_ dX5_put_48
        have hres : ff_put S E s i v = (v36, S, E) := by subst e1 e9 e36; simp only [ff_put, pt_fin, if_neg c4, if_pos c12, if_neg c43, pt_v]
        exact ⟨by rw [hres], by rw [hres], by rw [hres]⟩
    · skip
      refine lv_lload_n hx hb dX5_put_15 rfl (lv_at hl 3 rfl) ?_
      refine lv_ldc2 (v := (-9999)) hx hb hown (hts _ q2397) dX5_put_16 ?_
      refine W.lcmp hx hb dX5_put_19 ?_
      refine lv_if_lt (tgt := 31) hx hb dX5_put_20 (by decide) (fun c20 => ?_) (fun c20 => ?_)
      · have t20 : ((lg_cmp v (-9999))).toInt < 0 := ww_lt c20
        refine lv_iconst (v := (-1)) hx hb dX5_put_31 (by decide) ?_
        refine mm_iret hx hb hr hlocks hW hS ?_ dX5_put_32
        have hres : ff_put S E s i v = ((-1), S, E) := by subst e1 e9; simp only [ff_put, pt_fin, if_neg c4, if_neg c12, if_pos c20, pt_v]
        exact ⟨by rw [hres], by rw [hres], by rw [hres]⟩
      · have t20 : 0 ≤ ((lg_cmp v (-9999))).toInt := ww_nlt c20
        refine lv_lload_n hx hb dX5_put_23 rfl (lv_at hl 3 rfl) ?_
        refine lv_ldc2 (v := 9999) hx hb hown (hts _ q2398) dX5_put_24 ?_
        refine W.lcmp hx hb dX5_put_27 ?_
        refine lv_if_le (tgt := 33) hx hb dX5_put_28 (by decide) (fun c28 => ?_) (fun c28 => ?_)
        · have t28 : ((lg_cmp v 9999)).toInt ≤ 0 := ww_le c28
          refine lv_aload_n hx hb dX5_put_33 rfl (lv_at hl 0 rfl) ?_
          refine lv_iload_n hx hb dX5_put_34 rfl (lv_at hl 1 rfl) ?_
          refine lv_iload_n hx hb dX5_put_35 rfl (lv_at hl 2 rfl) ?_
          refine mm_callp (As := [.int s, .int i]) (rest := []) (n := 2) ⟨hx, hb, hml, hown, hts⟩ hK (mc_whyNoPlace lQ G o S E s i) (lw_V q2399 q2401 qs82 q92 q2402) (by decide +kernel) rfl ⟨Nat.le_of_ble_eq_true rfl, Nat.le_of_ble_eq_true rfl⟩ hW hS hl.1 rfl (Nat.le_of_ble_eq_true rfl) dX5_put_36 ⟨Nat.le_of_ble_eq_true rfl, Nat.le_of_ble_eq_true rfl⟩ (fun v36 H locs e36 hW hS => ?_)
          refine lv_istore (lv' := [(5, .int v36), (0, .ref o), (1, .int s), (2, .int i), (3, .long v)]) hx hb dX5_put_39 hl (by decide) rfl (fun ls hl => ?_)
          refine lv_iload hx hb dX5_put_41 (lv_at hl 0 rfl) ?_
          refine lv_if_ge (tgt := 49) hx hb dX5_put_43 (by decide) (fun c43 => ?_) (fun c43 => ?_)
          · have t43 : 0 ≤ (v36).toInt := ww_le c43
            have hwy : 0 ≤ ff_whyNoPlace S s i := by rw [← e36]; exact c43
            obtain ⟨w0, w1, w2, w3, w4⟩ := ff_whyNo_t hZ hwy
            refine lv_bipush (v := (-2)) hx hb dX5_put_49 (by decide) ?_
            refine lv_aload_n hx hb dX5_put_51 rfl (lv_at hl 1 rfl) ?_
            refine mm_geta hx hb hts hown hK hW 89 rfl q1774 dX5_put_52 ?_
            refine lv_iload_n hx hb dX5_put_55 rfl (lv_at hl 2 rfl) ?_
            refine mm_iald hx hb hK hW 89 rfl (ww_in (by omega) (by omega)) dX5_put_56 ?_
            refine nv_isub hx hb dX5_put_57 (fun v57 e57 => ?_)
            refine lv_istore (lv' := [(6, .int v57), (5, .int v36), (0, .ref o), (1, .int s), (2, .int i), (3, .long v)]) hx hb dX5_put_58 hl (by decide) rfl (fun ls hl => ?_)
            refine lv_aload_n hx hb dX5_put_60 rfl (lv_at hl 2 rfl) ?_
            refine mm_geta hx hb hts hown hK hW 91 rfl q1776 dX5_put_61 ?_
            refine lv_bipush (v := 60) hx hb dX5_put_64 (by decide) ?_
            refine lv_iload_n hx hb dX5_put_66 rfl (lv_at hl 3 rfl) ?_
            refine nv_imul hx hb dX5_put_67 (fun v67 e67 => ?_)
            refine lv_iload_n hx hb dX5_put_68 rfl (lv_at hl 4 rfl) ?_
            refine nv_iadd hx hb dX5_put_69 (fun v69 e69 => ?_)
            refine lv_iload hx hb dX5_put_70 (lv_at hl 0 rfl) ?_
            refine lv_if_ne (tgt := 82) hx hb dX5_put_72 (by decide) (fun c72 => ?_) (fun c72 => ?_)
            · skip
              refine lv_iload hx hb dX5_put_82 (lv_at hl 0 rfl) ?_
              refine lv_iconst (v := 1) hx hb dX5_put_84 (by decide) ?_
              refine lv_icmp_ne (tgt := 96) hx hb dX5_put_85 (by decide) (fun c85 => ?_) (fun c85 => ?_)
              · skip
                refine lv_iload hx hb dX5_put_96 (lv_at hl 0 rfl) ?_
                refine lv_iconst (v := 2) hx hb dX5_put_98 (by decide) ?_
                refine lv_icmp_ne (tgt := 108) hx hb dX5_put_99 (by decide) (fun c99 => ?_) (fun c99 => ?_)
                · skip
                  refine lv_lload_n hx hb dX5_put_108 rfl (lv_at hl 5 rfl) ?_
                  refine mm_last hx hb hK hW hS 91 rfl (by rw [e69, e67]; exact ix_360 w0 w1 w2 w4) dX5_put_109 (fun E109 H locs f109 hW hS => ?_)
                  have nv : pt_v v57 v = pt_v v57 v := rfl
                  refine lv_aload_n hx hb dX5_put_110 rfl (lv_at hl 2 rfl) ?_
                  refine mm_geta hx hb hts hown hK hW 92 rfl q1777 dX5_put_111 ?_
                  refine lv_bipush (v := 60) hx hb dX5_put_114 (by decide) ?_
                  refine lv_iload_n hx hb dX5_put_116 rfl (lv_at hl 3 rfl) ?_
                  refine nv_imul hx hb dX5_put_117 (fun v117 e117 => ?_)
                  refine lv_iload_n hx hb dX5_put_118 rfl (lv_at hl 4 rfl) ?_
                  refine nv_iadd hx hb dX5_put_119 (fun v119 e119 => ?_)
                  refine lv_iconst (v := 0) hx hb dX5_put_120 (by decide) ?_
                  refine mm_zast hx hb hK hW hS 92 rfl rfl (by rw [e119, e117]; exact ix_360 w0 w1 w2 w4) dX5_put_121 (fun S121 H locs f121 hW hS => ?_)
                  refine lv_iconst (v := 1) hx hb dX5_put_122 (by decide) ?_
                  refine mm_iret hx hb hr hlocks hW hS ?_ dX5_put_123
                  have hres : ff_put S E s i v = (1, S121, E109) := by subst e1 e9 e36 e57 e67 e69 f109 e117 e119 f121; simp only [ff_put, pt_fin, if_neg c4, if_neg c12, if_neg c20, if_pos c28, if_pos c43, if_neg c72, if_neg c85, if_neg c99, pt_v]
                  exact ⟨by rw [hres], by rw [hres], by rw [hres]⟩
                · skip
                  refine lv_lload_n hx hb dX5_put_102 rfl (lv_at hl 5 rfl) ?_
                  refine nv_l2i hx hb dX5_put_103 (fun v103 e103 => ?_)
                  refine nv_i2l hx hb dX5_put_104 (fun v104 e104 => ?_)
                  refine lv_goto (tgt := 109) hx hb dX5_put_105 (by decide) ?_
                  refine mm_last hx hb hK hW hS 91 rfl (by rw [e69, e67]; exact ix_360 w0 w1 w2 w4) dX5_put_109 (fun E109 H locs f109 hW hS => ?_)
                  have nv : pt_v v57 v = pt_v v57 v := rfl
                  refine lv_aload_n hx hb dX5_put_110 rfl (lv_at hl 2 rfl) ?_
                  refine mm_geta hx hb hts hown hK hW 92 rfl q1777 dX5_put_111 ?_
                  refine lv_bipush (v := 60) hx hb dX5_put_114 (by decide) ?_
                  refine lv_iload_n hx hb dX5_put_116 rfl (lv_at hl 3 rfl) ?_
                  refine nv_imul hx hb dX5_put_117 (fun v117 e117 => ?_)
                  refine lv_iload_n hx hb dX5_put_118 rfl (lv_at hl 4 rfl) ?_
                  refine nv_iadd hx hb dX5_put_119 (fun v119 e119 => ?_)
                  refine lv_iconst (v := 0) hx hb dX5_put_120 (by decide) ?_
                  refine mm_zast hx hb hK hW hS 92 rfl rfl (by rw [e119, e117]; exact ix_360 w0 w1 w2 w4) dX5_put_121 (fun S121 H locs f121 hW hS => ?_)
                  refine lv_iconst (v := 1) hx hb dX5_put_122 (by decide) ?_
                  refine mm_iret hx hb hr hlocks hW hS ?_ dX5_put_123
                  have hres : ff_put S E s i v = (1, S121, E109) := by subst e1 e9 e36 e57 e67 e69 e103 e104 f109 e117 e119 f121; simp only [ff_put, pt_fin, if_neg c4, if_neg c12, if_neg c20, if_pos c28, if_pos c43, if_neg c72, if_neg c85, if_pos c99, pt_v]
                  exact ⟨by rw [hres], by rw [hres], by rw [hres]⟩
              · skip
                refine lv_lload_n hx hb dX5_put_88 rfl (lv_at hl 5 rfl) ?_
                refine lv_ldc2 (v := 65535) hx hb hown (hts _ q2403) dX5_put_89 ?_
                refine nv_land hx hb dX5_put_92 (fun v92 e92 => ?_)
                refine lv_goto (tgt := 109) hx hb dX5_put_93 (by decide) ?_
                refine mm_last hx hb hK hW hS 91 rfl (by rw [e69, e67]; exact ix_360 w0 w1 w2 w4) dX5_put_109 (fun E109 H locs f109 hW hS => ?_)
                have nv : pt_v v57 v = pt_v v57 v := rfl
                refine lv_aload_n hx hb dX5_put_110 rfl (lv_at hl 2 rfl) ?_
                refine mm_geta hx hb hts hown hK hW 92 rfl q1777 dX5_put_111 ?_
                refine lv_bipush (v := 60) hx hb dX5_put_114 (by decide) ?_
                refine lv_iload_n hx hb dX5_put_116 rfl (lv_at hl 3 rfl) ?_
                refine nv_imul hx hb dX5_put_117 (fun v117 e117 => ?_)
                refine lv_iload_n hx hb dX5_put_118 rfl (lv_at hl 4 rfl) ?_
                refine nv_iadd hx hb dX5_put_119 (fun v119 e119 => ?_)
                refine lv_iconst (v := 0) hx hb dX5_put_120 (by decide) ?_
                refine mm_zast hx hb hK hW hS 92 rfl rfl (by rw [e119, e117]; exact ix_360 w0 w1 w2 w4) dX5_put_121 (fun S121 H locs f121 hW hS => ?_)
                refine lv_iconst (v := 1) hx hb dX5_put_122 (by decide) ?_
                refine mm_iret hx hb hr hlocks hW hS ?_ dX5_put_123
                have hres : ff_put S E s i v = (1, S121, E109) := by subst e1 e9 e36 e57 e67 e69 e92 f109 e117 e119 f121; simp only [ff_put, pt_fin, if_neg c4, if_neg c12, if_neg c20, if_pos c28, if_pos c43, if_neg c72, if_pos c85, pt_v]
                exact ⟨by rw [hres], by rw [hres], by rw [hres]⟩
            · skip
              refine lv_lload_n hx hb dX5_put_75 rfl (lv_at hl 5 rfl) ?_
              refine nv_l2i hx hb dX5_put_76 (fun v76 e76 => ?_)
              refine nv_i2b hx hb dX5_put_77 (fun v77 e77 => ?_)
              refine nv_i2l hx hb dX5_put_78 (fun v78 e78 => ?_)
              refine lv_goto (tgt := 109) hx hb dX5_put_79 (by decide) ?_
              refine mm_last hx hb hK hW hS 91 rfl (by rw [e69, e67]; exact ix_360 w0 w1 w2 w4) dX5_put_109 (fun E109 H locs f109 hW hS => ?_)
              have nv : pt_v v57 v = pt_v v57 v := rfl
              refine lv_aload_n hx hb dX5_put_110 rfl (lv_at hl 2 rfl) ?_
              refine mm_geta hx hb hts hown hK hW 92 rfl q1777 dX5_put_111 ?_
              refine lv_bipush (v := 60) hx hb dX5_put_114 (by decide) ?_
              refine lv_iload_n hx hb dX5_put_116 rfl (lv_at hl 3 rfl) ?_
              refine nv_imul hx hb dX5_put_117 (fun v117 e117 => ?_)
              refine lv_iload_n hx hb dX5_put_118 rfl (lv_at hl 4 rfl) ?_
              refine nv_iadd hx hb dX5_put_119 (fun v119 e119 => ?_)
              refine lv_iconst (v := 0) hx hb dX5_put_120 (by decide) ?_
              refine mm_zast hx hb hK hW hS 92 rfl rfl (by rw [e119, e117]; exact ix_360 w0 w1 w2 w4) dX5_put_121 (fun S121 H locs f121 hW hS => ?_)
              refine lv_iconst (v := 1) hx hb dX5_put_122 (by decide) ?_
              refine mm_iret hx hb hr hlocks hW hS ?_ dX5_put_123
              have hres : ff_put S E s i v = (1, S121, E109) := by subst e1 e9 e36 e57 e67 e69 e76 e77 e78 f109 e117 e119 f121; simp only [ff_put, pt_fin, if_neg c4, if_neg c12, if_neg c20, if_pos c28, if_pos c43, if_pos c72, pt_v]
              exact ⟨by rw [hres], by rw [hres], by rw [hres]⟩
          · have t43 : (v36).toInt < 0 := ww_nle c43
            refine lv_iload hx hb dX5_put_46 (lv_at hl 0 rfl) ?_
            refine mm_iret hx hb hr hlocks hW hS ?_ dX5_put_48
            have hres : ff_put S E s i v = (v36, S, E) := by subst e1 e9 e36; simp only [ff_put, pt_fin, if_neg c4, if_neg c12, if_neg c20, if_pos c28, if_neg c43, pt_v]
            exact ⟨by rw [hres], by rw [hres], by rw [hres]⟩
        · have t28 : 0 < ((lg_cmp v 9999)).toInt := ww_nle c28
          refine lv_iconst (v := (-1)) hx hb dX5_put_31 (by decide) ?_
          refine mm_iret hx hb hr hlocks hW hS ?_ dX5_put_32
          have hres : ff_put S E s i v = ((-1), S, E) := by subst e1 e9; simp only [ff_put, pt_fin, if_neg c4, if_neg c12, if_neg c20, if_neg c28, pt_v]
          exact ⟨by rw [hres], by rw [hres], by rw [hres]⟩

set_option maxHeartbeats 4000000 in
theorem mc_blank (lQ : Launch) (G : wm_G) (o : Nat) (S : mm_S) (E : mm_E) (s : Int32) (i : Int32) (hZ : iv_Z S) : mm_Met lQ G o yX5_blank (ws_ yX5_blank cX5_blank 3 (some .int)) 2 S E [.int s, .int i] (some (.int (ff_blank S s i).1)) (ff_blank S s i).2 E := by
  refine mm_start (by decide +kernel) (Nat.le_of_ble_eq_true rfl) rfl (fun pQ eQ sQ mQ belowQ methQ cQ hx hb hml hr hlocks hts hown hK H hW hS ls hl => ?_)
  have hl : lv_has ls 3 [(0, .ref o), (1, .int s), (2, .int i)] := hl
  generalize hlc : ([] : List Loc) = locs at hS ⊢
  refine lv_iload_n hx hb dX5_blank_0 rfl (lv_at hl 1 rfl) ?_
  refine pp_calli (As := [.int s]) (rest := []) (n := 1) ⟨hx, hb, hml, hown, hts⟩ (mc_isShelf lQ s) (lw_S q2071 q2072 q92 q2073) (by decide +kernel) rfl ⟨Nat.le_of_ble_eq_true rfl, Nat.le_of_ble_eq_true rfl⟩ hl.1 rfl (Nat.le_of_ble_eq_true rfl) dX5_blank_1 ⟨Nat.le_of_ble_eq_true rfl, Nat.le_of_ble_eq_true rfl⟩ (fun v1 e1 => ?_)
  refine lv_if_ne (tgt := 9) hx hb dX5_blank_4 (by decide) (fun c4 => ?_) (fun c4 => ?_)
  · skip
    obtain ⟨s0, s1⟩ := ff_isShelf_t (s := s) (by rw [← e1]; exact c4)
    refine lv_aload_n hx hb dX5_blank_9 rfl (lv_at hl 0 rfl) ?_
    refine mm_geta hx hb hts hown hK hW 89 rfl q1774 dX5_blank_10 ?_
    refine lv_iload_n hx hb dX5_blank_13 rfl (lv_at hl 1 rfl) ?_
    refine mm_iald hx hb hK hW 89 rfl (ww_in (by omega) (by omega)) dX5_blank_14 ?_
    refine lv_iconst (v := (-1)) hx hb dX5_blank_15 (by decide) ?_
    refine lv_icmp_ne (tgt := 22) hx hb dX5_blank_16 (by decide) (fun c16 => ?_) (fun c16 => ?_)
    · skip
      refine lv_aload_n hx hb dX5_blank_22 rfl (lv_at hl 0 rfl) ?_
      refine lv_iload_n hx hb dX5_blank_23 rfl (lv_at hl 1 rfl) ?_
      refine mm_callp (As := [.int s]) (rest := []) (n := 1) ⟨hx, hb, hml, hown, hts⟩ hK (mc_isReals lQ G o S E s s0 s1) (lw_V q2074 q2076 qs41 q92 q2077) (by decide +kernel) rfl ⟨Nat.le_of_ble_eq_true rfl, Nat.le_of_ble_eq_true rfl⟩ hW hS hl.1 rfl (Nat.le_of_ble_eq_true rfl) dX5_blank_24 ⟨Nat.le_of_ble_eq_true rfl, Nat.le_of_ble_eq_true rfl⟩ (fun v24 H locs e24 hW hS => ?_)
      refine lv_if_ne (tgt := 33) hx hb dX5_blank_27 (by decide) (fun c27 => ?_) (fun c27 => ?_)
      · skip
        refine lv_iload_n hx hb dX5_blank_33 rfl (lv_at hl 2 rfl) ?_
        refine lv_iconst (v := 0) hx hb dX5_blank_34 (by decide) ?_
        refine lv_aload_n hx hb dX5_blank_35 rfl (lv_at hl 0 rfl) ?_
        refine mm_geta hx hb hts hown hK hW 90 rfl q1775 dX5_blank_36 ?_
        refine lv_iload_n hx hb dX5_blank_39 rfl (lv_at hl 1 rfl) ?_
        refine mm_iald hx hb hK hW 90 rfl (ww_in (by omega) (by omega)) dX5_blank_40 ?_
        refine lv_iconst (v := 1) hx hb dX5_blank_41 (by decide) ?_
        refine nv_isub hx hb dX5_blank_42 (fun v42 e42 => ?_)
        refine pp_calli (As := [.int i, .int 0, .int v42]) (rest := []) (n := 3) ⟨hx, hb, hml, hown, hts⟩ (mc_in lQ i 0 v42) (lw_S q1979 q1980 q92 q1981) (by decide +kernel) rfl ⟨Nat.le_of_ble_eq_true rfl, Nat.le_of_ble_eq_true rfl⟩ hl.1 rfl (Nat.le_of_ble_eq_true rfl) dX5_blank_43 ⟨Nat.le_of_ble_eq_true rfl, Nat.le_of_ble_eq_true rfl⟩ (fun v43 e43 => ?_)
        refine lv_if_ne (tgt := 52) hx hb dX5_blank_46 (by decide) (fun c46 => ?_) (fun c46 => ?_)
        · skip
          obtain ⟨z0, z1⟩ := hZ s s0 s1
          obtain ⟨i0, i1⟩ := ff_in_t (v := i) (a := 0) (b := rd_ S 90 s - 1) (by rw [← e42, ← e43]; exact c46)
          have i0 : 0 ≤ i.toInt := i0
          rw [ww_sub1 (by omega)] at i1
          refine lv_aload_n hx hb dX5_blank_52 rfl (lv_at hl 0 rfl) ?_
          refine mm_geta hx hb hts hown hK hW 92 rfl q1777 dX5_blank_53 ?_
          refine lv_bipush (v := 60) hx hb dX5_blank_56 (by decide) ?_
          refine lv_iload_n hx hb dX5_blank_58 rfl (lv_at hl 1 rfl) ?_
          refine nv_imul hx hb dX5_blank_59 (fun v59 e59 => ?_)
          refine lv_iload_n hx hb dX5_blank_60 rfl (lv_at hl 2 rfl) ?_
          refine nv_iadd hx hb dX5_blank_61 (fun v61 e61 => ?_)
          refine lv_iconst (v := 1) hx hb dX5_blank_62 (by decide) ?_
          refine mm_zast hx hb hK hW hS 92 rfl rfl (by rw [e61, e59]; exact ix_360 s0 (by omega) i0 (by omega)) dX5_blank_63 (fun S63 H locs f63 hW hS => ?_)
          refine lv_iconst (v := 1) hx hb dX5_blank_64 (by decide) ?_
          refine mm_iret hx hb hr hlocks hW hS ?_ dX5_blank_65
          have hres : ff_blank S s i = (1, S63) := by subst e1 e24 e42 e43 e59 e61 f63; simp only [ff_blank, if_neg c4, if_neg c16, if_neg c27, if_neg c46]
          exact ⟨by rw [hres], by rw [hres], rfl⟩
        · skip
          refine lv_bipush (v := (-13)) hx hb dX5_blank_49 (by decide) ?_
          refine mm_iret hx hb hr hlocks hW hS ?_ dX5_blank_51
          have hres : ff_blank S s i = ((-13), S) := by subst e1 e24 e42 e43; simp only [ff_blank, if_neg c4, if_neg c16, if_neg c27, if_pos c46]
          exact ⟨by rw [hres], by rw [hres], rfl⟩
      · skip
        refine lv_bipush (v := (-12)) hx hb dX5_blank_30 (by decide) ?_
        refine mm_iret hx hb hr hlocks hW hS ?_ dX5_blank_32
        have hres : ff_blank S s i = ((-12), S) := by subst e1 e24; simp only [ff_blank, if_neg c4, if_neg c16, if_pos c27]
        exact ⟨by rw [hres], by rw [hres], rfl⟩
    · skip
      refine lv_bipush (v := (-11)) hx hb dX5_blank_19 (by decide) ?_
      refine mm_iret hx hb hr hlocks hW hS ?_ dX5_blank_21
      have hres : ff_blank S s i = ((-11), S) := by subst e1; simp only [ff_blank, if_neg c4, if_pos c16]
      exact ⟨by rw [hres], by rw [hres], rfl⟩
  · skip
    refine lv_iconst (v := (-1)) hx hb dX5_blank_7 (by decide) ?_
    refine mm_iret hx hb hr hlocks hW hS ?_ dX5_blank_8
    have hres : ff_blank S s i = ((-1), S) := by subst e1; simp only [ff_blank, if_pos c4]
    exact ⟨by rw [hres], by rw [hres], rfl⟩

set_option maxHeartbeats 4000000 in
theorem mc_element (lQ : Launch) (G : wm_G) (o : Nat) (S : mm_S) (E : mm_E) (s : Int32) (i : Int32) (hZ : iv_Z S) : mm_Met lQ G o yX5_element (ws_ yX5_element cX5_element 3 (some .long)) 3 S E [.int s, .int i] (some (.long (ff_element S E s i))) S E := by
  refine mm_start (by decide +kernel) (Nat.le_of_ble_eq_true rfl) rfl (fun pQ eQ sQ mQ belowQ methQ cQ hx hb hml hr hlocks hts hown hK H hW hS ls hl => ?_)
  have hl : lv_has ls 3 [(0, .ref o), (1, .int s), (2, .int i)] := hl
  generalize hlc : ([] : List Loc) = locs at hS ⊢
  refine lv_aload_n hx hb dX5_element_0 rfl (lv_at hl 0 rfl) ?_
  refine lv_iload_n hx hb dX5_element_1 rfl (lv_at hl 1 rfl) ?_
  refine lv_iload_n hx hb dX5_element_2 rfl (lv_at hl 2 rfl) ?_
  refine mm_callp (As := [.int s, .int i]) (rest := []) (n := 2) ⟨hx, hb, hml, hown, hts⟩ hK (mc_whyNoPlace lQ G o S E s i) (lw_V q2399 q2401 qs82 q92 q2402) (by decide +kernel) rfl ⟨Nat.le_of_ble_eq_true rfl, Nat.le_of_ble_eq_true rfl⟩ hW hS hl.1 rfl (Nat.le_of_ble_eq_true rfl) dX5_element_3 ⟨Nat.le_of_ble_eq_true rfl, Nat.le_of_ble_eq_true rfl⟩ (fun v3 H locs e3 hW hS => ?_)
  refine lv_if_ge (tgt := 13) hx hb dX5_element_6 (by decide) (fun c6 => ?_) (fun c6 => ?_)
  · have t6 : 0 ≤ (v3).toInt := ww_le c6
    have hwy : 0 ≤ ff_whyNoPlace S s i := by rw [← e3]; exact c6
    obtain ⟨w0, w1, w2, w3, w4⟩ := ff_whyNo_t hZ hwy
    refine lv_aload_n hx hb dX5_element_13 rfl (lv_at hl 0 rfl) ?_
    refine mm_geta hx hb hts hown hK hW 92 rfl q1777 dX5_element_14 ?_
    refine lv_bipush (v := 60) hx hb dX5_element_17 (by decide) ?_
    refine lv_iload_n hx hb dX5_element_19 rfl (lv_at hl 1 rfl) ?_
    refine nv_imul hx hb dX5_element_20 (fun v20 e20 => ?_)
    refine lv_iload_n hx hb dX5_element_21 rfl (lv_at hl 2 rfl) ?_
    refine nv_iadd hx hb dX5_element_22 (fun v22 e22 => ?_)
    refine mm_zald hx hb hK hW 92 rfl (by rw [e22, e20]; exact ix_360 w0 w1 w2 w4) dX5_element_23 ?_
    refine lv_if_eq (tgt := 33) hx hb dX5_element_24 (by decide) (fun c24 => ?_) (fun c24 => ?_)
    · skip
      refine lv_aload_n hx hb dX5_element_33 rfl (lv_at hl 0 rfl) ?_
      refine mm_geta hx hb hts hown hK hW 91 rfl q1776 dX5_element_34 ?_
      refine lv_bipush (v := 60) hx hb dX5_element_37 (by decide) ?_
      refine lv_iload_n hx hb dX5_element_39 rfl (lv_at hl 1 rfl) ?_
      refine nv_imul hx hb dX5_element_40 (fun v40 e40 => ?_)
      refine lv_iload_n hx hb dX5_element_41 rfl (lv_at hl 2 rfl) ?_
      refine nv_iadd hx hb dX5_element_42 (fun v42 e42 => ?_)
      refine mm_lald hx hb hK hW 91 rfl (by rw [e42, e40]; exact ix_360 w0 w1 w2 w4) dX5_element_43 ?_
      refine mm_lret hx hb hr hlocks hW hS ?_ dX5_element_44
      have hres : ff_element S E s i = (re_ E 91 v42) := by subst e3 e20 e22 e40 e42; simp only [ff_element, if_pos c6, if_pos c24]
      exact ⟨by rw [hres], rfl, rfl⟩
    · skip
      refine lv_ldc2 (v := 9223372036854775807) hx hb hown (hts _ q2413) dX5_element_27 ?_
      refine lv_goto (tgt := 44) hx hb dX5_element_30 (by decide) ?_
      refine mm_lret hx hb hr hlocks hW hS ?_ dX5_element_44
      have hres : ff_element S E s i = 9223372036854775807 := by subst e3 e20 e22; simp only [ff_element, if_pos c6, if_neg c24]
      exact ⟨by rw [hres], rfl, rfl⟩
  · have t6 : (v3).toInt < 0 := ww_nle c6
    refine lv_ldc2 (v := (-9223372036854775808)) hx hb hown (hts _ q2412) dX5_element_9 ?_
    refine mm_lret hx hb hr hlocks hW hS ?_ dX5_element_12
    have hres : ff_element S E s i = (-9223372036854775808) := by subst e3; simp only [ff_element, if_neg c6]
    exact ⟨by rw [hres], rfl, rfl⟩

set_option maxHeartbeats 4000000 in
theorem mc_taken (lQ : Launch) (G : wm_G) (o : Nat) (S : mm_S) (E : mm_E) (s : Int32) (k : Int32) (hB : iv_B S) (hS2 : iv_S S) : mm_Met lQ G o yX5_taken (ws_ yX5_taken cX5_taken 3 (some .int)) 2 S E [.int s, .int k] (some (.int (ff_taken S s k))) S E := by
  refine mm_start (by decide +kernel) (Nat.le_of_ble_eq_true rfl) rfl (fun pQ eQ sQ mQ belowQ methQ cQ hx hb hml hr hlocks hts hown hK H hW hS ls hl => ?_)
  have hl : lv_has ls 3 [(0, .ref o), (1, .int s), (2, .int k)] := hl
  generalize hlc : ([] : List Loc) = locs at hS ⊢
  refine lv_iload_n hx hb dX5_taken_0 rfl (lv_at hl 1 rfl) ?_
  refine pp_calli (As := [.int s]) (rest := []) (n := 1) ⟨hx, hb, hml, hown, hts⟩ (mc_isShelf lQ s) (lw_S q2071 q2072 q92 q2073) (by decide +kernel) rfl ⟨Nat.le_of_ble_eq_true rfl, Nat.le_of_ble_eq_true rfl⟩ hl.1 rfl (Nat.le_of_ble_eq_true rfl) dX5_taken_1 ⟨Nat.le_of_ble_eq_true rfl, Nat.le_of_ble_eq_true rfl⟩ (fun v1 e1 => ?_)
  refine lv_if_eq (tgt := 17) hx hb dX5_taken_4 (by decide) (fun c4 => ?_) (fun c4 => ?_)
  · skip
    refine lv_iconst (v := (-1)) hx hb dX5_taken_17 (by decide) ?_
    refine mm_iret hx hb hr hlocks hW hS ?_ dX5_taken_18
    have hres : ff_taken S s k = (-1) := by subst e1; simp only [ff_taken, if_pos c4]
    exact ⟨by rw [hres], rfl, rfl⟩
  · skip
    obtain ⟨s0, s1⟩ := ff_isShelf_t (s := s) (by rw [← e1]; exact c4)
    refine lv_iload_n hx hb dX5_taken_7 rfl (lv_at hl 2 rfl) ?_
    refine lv_iconst (v := 0) hx hb dX5_taken_8 (by decide) ?_
    refine lv_bipush (v := 7) hx hb dX5_taken_9 (by decide) ?_
    refine pp_calli (As := [.int k, .int 0, .int 7]) (rest := []) (n := 3) ⟨hx, hb, hml, hown, hts⟩ (mc_in lQ k 0 7) (lw_S q1979 q1980 q92 q1981) (by decide +kernel) rfl ⟨Nat.le_of_ble_eq_true rfl, Nat.le_of_ble_eq_true rfl⟩ hl.1 rfl (Nat.le_of_ble_eq_true rfl) dX5_taken_11 ⟨Nat.le_of_ble_eq_true rfl, Nat.le_of_ble_eq_true rfl⟩ (fun v11 e11 => ?_)
    refine lv_if_ne (tgt := 19) hx hb dX5_taken_14 (by decide) (fun c14 => ?_) (fun c14 => ?_)
    · skip
      refine lv_aload_n hx hb dX5_taken_19 rfl (lv_at hl 0 rfl) ?_
      refine mm_geta hx hb hts hown hK hW 89 rfl q1774 dX5_taken_20 ?_
      refine lv_iload_n hx hb dX5_taken_23 rfl (lv_at hl 1 rfl) ?_
      refine mm_iald hx hb hK hW 89 rfl (ww_in (by omega) (by omega)) dX5_taken_24 ?_
      refine lv_iconst (v := (-1)) hx hb dX5_taken_25 (by decide) ?_
      refine lv_icmp_ne (tgt := 32) hx hb dX5_taken_26 (by decide) (fun c26 => ?_) (fun c26 => ?_)
      · skip
        refine lv_aload_n hx hb dX5_taken_32 rfl (lv_at hl 0 rfl) ?_
        refine mm_geta hx hb hts hown hK hW 89 rfl q1774 dX5_taken_33 ?_
        refine lv_iload_n hx hb dX5_taken_36 rfl (lv_at hl 1 rfl) ?_
        refine mm_iald hx hb hK hW 89 rfl (ww_in (by omega) (by omega)) dX5_taken_37 ?_
        refine lv_if_lt (tgt := 73) hx hb dX5_taken_38 (by decide) (fun c38 => ?_) (fun c38 => ?_)
        · have t38 : ((rd_ S 89 s)).toInt < 0 := ww_lt c38
          refine lv_bipush (v := (-12)) hx hb dX5_taken_73 (by decide) ?_
          refine mm_iret hx hb hr hlocks hW hS ?_ dX5_taken_75
          have hres : ff_taken S s k = (-12) := by subst e1 e11; simp only [ff_taken, if_neg c4, if_neg c14, if_neg c26, if_pos c38]
          exact ⟨by rw [hres], rfl, rfl⟩
        · have t38 : 0 ≤ ((rd_ S 89 s)).toInt := ww_nlt c38
          have hq := (hS2 s s0 s1).2
          have hb2 := hB.2
          have h0 : 0 ≤ (rd_ S 89 s).toInt := t38
          refine lv_aload_n hx hb dX5_taken_41 rfl (lv_at hl 0 rfl) ?_
          refine mm_geta hx hb hts hown hK hW 5 rfl q1690 dX5_taken_42 ?_
          refine lv_aload_n hx hb dX5_taken_45 rfl (lv_at hl 0 rfl) ?_
          refine mm_geta hx hb hts hown hK hW 89 rfl q1774 dX5_taken_46 ?_
          refine lv_iload_n hx hb dX5_taken_49 rfl (lv_at hl 1 rfl) ?_
          refine mm_iald hx hb hK hW 89 rfl (ww_in (by omega) (by omega)) dX5_taken_50 ?_
          refine mm_iald hx hb hK hW 5 rfl (ww_in (by omega) (by omega)) dX5_taken_51 ?_
          refine lv_iload_n hx hb dX5_taken_52 rfl (lv_at hl 2 rfl) ?_
          refine pp_calli (As := [.int (rd_ S 5 (rd_ S 89 s)), .int k]) (rest := []) (n := 2) ⟨hx, hb, hml, hown, hts⟩ (mc_isUnder lQ (rd_ S 5 (rd_ S 89 s)) k) (lw_S q2029 q2030 q92 q2031) (by decide +kernel) rfl ⟨Nat.le_of_ble_eq_true rfl, Nat.le_of_ble_eq_true rfl⟩ hl.1 rfl (Nat.le_of_ble_eq_true rfl) dX5_taken_53 ⟨Nat.le_of_ble_eq_true rfl, Nat.le_of_ble_eq_true rfl⟩ (fun v53 e53 => ?_)
          refine lv_if_eq (tgt := 73) hx hb dX5_taken_56 (by decide) (fun c56 => ?_) (fun c56 => ?_)
          · skip
            refine lv_bipush (v := (-12)) hx hb dX5_taken_73 (by decide) ?_
            refine mm_iret hx hb hr hlocks hW hS ?_ dX5_taken_75
            have hres : ff_taken S s k = (-12) := by subst e1 e11 e53; simp only [ff_taken, if_neg c4, if_neg c14, if_neg c26, if_neg c38, if_pos c56]
            exact ⟨by rw [hres], rfl, rfl⟩
          · skip
            refine lv_aload_n hx hb dX5_taken_59 rfl (lv_at hl 0 rfl) ?_
            refine mm_geta hx hb hts hown hK hW 5 rfl q1690 dX5_taken_60 ?_
            refine lv_aload_n hx hb dX5_taken_63 rfl (lv_at hl 0 rfl) ?_
            refine mm_geta hx hb hts hown hK hW 89 rfl q1774 dX5_taken_64 ?_
            refine lv_iload_n hx hb dX5_taken_67 rfl (lv_at hl 1 rfl) ?_
            refine mm_iald hx hb hK hW 89 rfl (ww_in (by omega) (by omega)) dX5_taken_68 ?_
            refine mm_iald hx hb hK hW 5 rfl (ww_in (by omega) (by omega)) dX5_taken_69 ?_
            refine lv_goto (tgt := 75) hx hb dX5_taken_70 (by decide) ?_
            refine mm_iret hx hb hr hlocks hW hS ?_ dX5_taken_75
            have hres : ff_taken S s k = (rd_ S 5 (rd_ S 89 s)) := by subst e1 e11 e53; simp only [ff_taken, if_neg c4, if_neg c14, if_neg c26, if_neg c38, if_neg c56]
            exact ⟨by rw [hres], rfl, rfl⟩
      · skip
        refine lv_bipush (v := (-11)) hx hb dX5_taken_29 (by decide) ?_
        refine mm_iret hx hb hr hlocks hW hS ?_ dX5_taken_31
        have hres : ff_taken S s k = (-11) := by subst e1 e11; simp only [ff_taken, if_neg c4, if_neg c14, if_pos c26]
        exact ⟨by rw [hres], rfl, rfl⟩
    · skip
      refine lv_iconst (v := (-1)) hx hb dX5_taken_17 (by decide) ?_
      refine mm_iret hx hb hr hlocks hW hS ?_ dX5_taken_18
      have hres : ff_taken S s k = (-1) := by subst e1 e11; simp only [ff_taken, if_neg c4, if_pos c14]
      exact ⟨by rw [hres], rfl, rfl⟩

set_option maxHeartbeats 4000000 in
theorem mc_shift (lQ : Launch) (G : wm_G) (o : Nat) (S : mm_S) (E : mm_E) (s : Int32) (i : Int32) (u : Int32) (j : Int32) (n : Int32) (hZ : iv_Z S) (hKb : iv_K S) : mm_Met lQ G o yX5_shift (ws_ yX5_shift cX5_shift 7 (some .int)) 2 S E [.int s, .int i, .int u, .int j, .int n] (some (.int (ff_shift S E s i u j n).1)) (ff_shift S E s i u j n).2.1 (ff_shift S E s i u j n).2.2 := by
  refine mm_start (by decide +kernel) (Nat.le_of_ble_eq_true rfl) rfl (fun pQ eQ sQ mQ belowQ methQ cQ hx hb hml hr hlocks hts hown hK H hW hS ls hl => ?_)
  have hl : lv_has ls 7 [(0, .ref o), (1, .int s), (2, .int i), (3, .int u), (4, .int j), (5, .int n)] := hl
  generalize hlc : ([] : List Loc) = locs at hS ⊢
  refine lv_iload_n hx hb dX5_shift_0 rfl (lv_at hl 1 rfl) ?_
  refine pp_calli (As := [.int s]) (rest := []) (n := 1) ⟨hx, hb, hml, hown, hts⟩ (mc_isShelf lQ s) (lw_S q2071 q2072 q92 q2073) (by decide +kernel) rfl ⟨Nat.le_of_ble_eq_true rfl, Nat.le_of_ble_eq_true rfl⟩ hl.1 rfl (Nat.le_of_ble_eq_true rfl) dX5_shift_1 ⟨Nat.le_of_ble_eq_true rfl, Nat.le_of_ble_eq_true rfl⟩ (fun v1 e1 => ?_)
  refine lv_if_eq (tgt := 14) hx hb dX5_shift_4 (by decide) (fun c4 => ?_) (fun c4 => ?_)
  · skip
    refine lv_iconst (v := (-1)) hx hb dX5_shift_14 (by decide) ?_
    refine mm_iret hx hb hr hlocks hW hS ?_ dX5_shift_15
    have hres : ff_shift S E s i u j n = ((-1), S, E) := by subst e1; simp only [ff_shift, if_pos c4]
    exact ⟨by rw [hres], by rw [hres], by rw [hres]⟩
  · skip
    obtain ⟨s0, s1⟩ := ff_isShelf_t (s := s) (by rw [← e1]; exact c4)
    refine lv_iload_n hx hb dX5_shift_7 rfl (lv_at hl 3 rfl) ?_
    refine pp_calli (As := [.int u]) (rest := []) (n := 1) ⟨hx, hb, hml, hown, hts⟩ (mc_isShelf lQ u) (lw_S q2071 q2072 q92 q2073) (by decide +kernel) rfl ⟨Nat.le_of_ble_eq_true rfl, Nat.le_of_ble_eq_true rfl⟩ hl.1 rfl (Nat.le_of_ble_eq_true rfl) dX5_shift_8 ⟨Nat.le_of_ble_eq_true rfl, Nat.le_of_ble_eq_true rfl⟩ (fun v8 e8 => ?_)
    refine lv_if_ne (tgt := 16) hx hb dX5_shift_11 (by decide) (fun c11 => ?_) (fun c11 => ?_)
    · skip
      obtain ⟨u0, u1⟩ := ff_isShelf_t (s := u) (by rw [← e8]; exact c11)
      obtain ⟨z0, z1⟩ := hZ s s0 s1
      obtain ⟨y0, y1⟩ := hZ u u0 u1
      refine lv_aload_n hx hb dX5_shift_16 rfl (lv_at hl 0 rfl) ?_
      refine mm_geta hx hb hts hown hK hW 89 rfl q1774 dX5_shift_17 ?_
      refine lv_iload_n hx hb dX5_shift_20 rfl (lv_at hl 1 rfl) ?_
      refine mm_iald hx hb hK hW 89 rfl (ww_in (by omega) (by omega)) dX5_shift_21 ?_
      refine lv_iconst (v := (-1)) hx hb dX5_shift_22 (by decide) ?_
      refine lv_icmp_eq (tgt := 36) hx hb dX5_shift_23 (by decide) (fun c23 => ?_) (fun c23 => ?_)
      · skip
        refine lv_bipush (v := (-11)) hx hb dX5_shift_36 (by decide) ?_
        refine mm_iret hx hb hr hlocks hW hS ?_ dX5_shift_38
        have hres : ff_shift S E s i u j n = ((-11), S, E) := by subst e1 e8; simp only [ff_shift, if_neg c4, if_neg c11, if_pos c23]
        exact ⟨by rw [hres], by rw [hres], by rw [hres]⟩
      · skip
        refine lv_aload_n hx hb dX5_shift_26 rfl (lv_at hl 0 rfl) ?_
        refine mm_geta hx hb hts hown hK hW 89 rfl q1774 dX5_shift_27 ?_
        refine lv_iload_n hx hb dX5_shift_30 rfl (lv_at hl 3 rfl) ?_
        refine mm_iald hx hb hK hW 89 rfl (ww_in (by omega) (by omega)) dX5_shift_31 ?_
        refine lv_iconst (v := (-1)) hx hb dX5_shift_32 (by decide) ?_
        refine lv_icmp_ne (tgt := 39) hx hb dX5_shift_33 (by decide) (fun c33 => ?_) (fun c33 => ?_)
        · skip
          refine lv_aload_n hx hb dX5_shift_39 rfl (lv_at hl 0 rfl) ?_
          refine mm_geta hx hb hts hown hK hW 89 rfl q1774 dX5_shift_40 ?_
          refine lv_iload_n hx hb dX5_shift_43 rfl (lv_at hl 1 rfl) ?_
          refine mm_iald hx hb hK hW 89 rfl (ww_in (by omega) (by omega)) dX5_shift_44 ?_
          refine lv_if_ge (tgt := 63) hx hb dX5_shift_45 (by decide) (fun c45 => ?_) (fun c45 => ?_)
          · have t45 : 0 ≤ ((rd_ S 89 s)).toInt := ww_le c45
            refine lv_bipush (v := (-12)) hx hb dX5_shift_63 (by decide) ?_
            refine mm_iret hx hb hr hlocks hW hS ?_ dX5_shift_65
            have hres : ff_shift S E s i u j n = ((-12), S, E) := by subst e1 e8; simp only [ff_shift, if_neg c4, if_neg c11, if_neg c23, if_neg c33, if_pos c45]
            exact ⟨by rw [hres], by rw [hres], by rw [hres]⟩
          · have t45 : ((rd_ S 89 s)).toInt < 0 := ww_nle c45
            refine lv_aload_n hx hb dX5_shift_48 rfl (lv_at hl 0 rfl) ?_
            refine mm_geta hx hb hts hown hK hW 89 rfl q1774 dX5_shift_49 ?_
            refine lv_iload_n hx hb dX5_shift_52 rfl (lv_at hl 1 rfl) ?_
            refine mm_iald hx hb hK hW 89 rfl (ww_in (by omega) (by omega)) dX5_shift_53 ?_
            refine lv_aload_n hx hb dX5_shift_54 rfl (lv_at hl 0 rfl) ?_
            refine mm_geta hx hb hts hown hK hW 89 rfl q1774 dX5_shift_55 ?_
            refine lv_iload_n hx hb dX5_shift_58 rfl (lv_at hl 3 rfl) ?_
            refine mm_iald hx hb hK hW 89 rfl (ww_in (by omega) (by omega)) dX5_shift_59 ?_
            refine lv_icmp_eq (tgt := 66) hx hb dX5_shift_60 (by decide) (fun c60 => ?_) (fun c60 => ?_)
            · skip
              refine lv_iload hx hb dX5_shift_66 (lv_at hl 5 rfl) ?_
              refine lv_if_lt (tgt := 107) hx hb dX5_shift_68 (by decide) (fun c68 => ?_) (fun c68 => ?_)
              · have t68 : (n).toInt < 0 := ww_lt c68
                refine lv_bipush (v := (-13)) hx hb dX5_shift_107 (by decide) ?_
                refine mm_iret hx hb hr hlocks hW hS ?_ dX5_shift_109
                have hres : ff_shift S E s i u j n = ((-13), S, E) := by subst e1 e8; simp only [ff_shift, if_neg c4, if_neg c11, if_neg c23, if_neg c33, if_neg c45, if_pos c60, if_pos c68]
                exact ⟨by rw [hres], by rw [hres], by rw [hres]⟩
              · have t68 : 0 ≤ (n).toInt := ww_nlt c68
                refine lv_iload_n hx hb dX5_shift_71 rfl (lv_at hl 2 rfl) ?_
                refine lv_if_lt (tgt := 107) hx hb dX5_shift_72 (by decide) (fun c72 => ?_) (fun c72 => ?_)
                · have t72 : (i).toInt < 0 := ww_lt c72
                  refine lv_bipush (v := (-13)) hx hb dX5_shift_107 (by decide) ?_
                  refine mm_iret hx hb hr hlocks hW hS ?_ dX5_shift_109
                  have hres : ff_shift S E s i u j n = ((-13), S, E) := by subst e1 e8; simp only [ff_shift, if_neg c4, if_neg c11, if_neg c23, if_neg c33, if_neg c45, if_pos c60, if_neg c68, if_pos c72]
                  exact ⟨by rw [hres], by rw [hres], by rw [hres]⟩
                · have t72 : 0 ≤ (i).toInt := ww_nlt c72
                  refine lv_iload hx hb dX5_shift_75 (lv_at hl 4 rfl) ?_
                  refine lv_if_lt (tgt := 107) hx hb dX5_shift_77 (by decide) (fun c77 => ?_) (fun c77 => ?_)
                  · have t77 : (j).toInt < 0 := ww_lt c77
                    refine lv_bipush (v := (-13)) hx hb dX5_shift_107 (by decide) ?_
                    refine mm_iret hx hb hr hlocks hW hS ?_ dX5_shift_109
                    have hres : ff_shift S E s i u j n = ((-13), S, E) := by subst e1 e8; simp only [ff_shift, if_neg c4, if_neg c11, if_neg c23, if_neg c33, if_neg c45, if_pos c60, if_neg c68, if_neg c72, if_pos c77]
                    exact ⟨by rw [hres], by rw [hres], by rw [hres]⟩
                  · have t77 : 0 ≤ (j).toInt := ww_nlt c77
                    refine lv_iload_n hx hb dX5_shift_80 rfl (lv_at hl 2 rfl) ?_
                    refine lv_aload_n hx hb dX5_shift_81 rfl (lv_at hl 0 rfl) ?_
                    refine mm_geta hx hb hts hown hK hW 90 rfl q1775 dX5_shift_82 ?_
                    refine lv_iload_n hx hb dX5_shift_85 rfl (lv_at hl 1 rfl) ?_
                    refine mm_iald hx hb hK hW 90 rfl (ww_in (by omega) (by omega)) dX5_shift_86 ?_
                    refine lv_iload hx hb dX5_shift_87 (lv_at hl 5 rfl) ?_
                    refine nv_isub hx hb dX5_shift_89 (fun v89 e89 => ?_)
                    refine lv_icmp_gt (tgt := 107) hx hb dX5_shift_90 (by decide) (fun c90 => ?_) (fun c90 => ?_)
                    · have t90 : (v89).toInt < (i).toInt := ww_lt c90
                      refine lv_bipush (v := (-13)) hx hb dX5_shift_107 (by decide) ?_
                      refine mm_iret hx hb hr hlocks hW hS ?_ dX5_shift_109
                      have hres : ff_shift S E s i u j n = ((-13), S, E) := by subst e1 e8 e89; simp only [ff_shift, if_neg c4, if_neg c11, if_neg c23, if_neg c33, if_neg c45, if_pos c60, if_neg c68, if_neg c72, if_neg c77, if_pos c90]
                      exact ⟨by rw [hres], by rw [hres], by rw [hres]⟩
                    · have t90 : (i).toInt ≤ (v89).toInt := ww_nlt c90
                      refine lv_iload hx hb dX5_shift_93 (lv_at hl 4 rfl) ?_
                      refine lv_aload_n hx hb dX5_shift_95 rfl (lv_at hl 0 rfl) ?_
                      refine mm_geta hx hb hts hown hK hW 90 rfl q1775 dX5_shift_96 ?_
                      refine lv_iload_n hx hb dX5_shift_99 rfl (lv_at hl 3 rfl) ?_
                      refine mm_iald hx hb hK hW 90 rfl (ww_in (by omega) (by omega)) dX5_shift_100 ?_
                      refine lv_iload hx hb dX5_shift_101 (lv_at hl 5 rfl) ?_
                      refine nv_isub hx hb dX5_shift_103 (fun v103 e103 => ?_)
                      refine lv_icmp_le (tgt := 110) hx hb dX5_shift_104 (by decide) (fun c104 => ?_) (fun c104 => ?_)
                      · have t104 : (j).toInt ≤ (v103).toInt := ww_le c104
                        have x89 : v89.toInt = (rd_ S 90 s).toInt - n.toInt := by rw [e89]; exact ww_sub _ _ (by have := ww_hi n; omega) (by omega)
                        have x103 : v103.toInt = (rd_ S 90 u).toInt - n.toInt := by rw [e103]; exact ww_sub _ _ (by have := ww_hi n; omega) (by omega)
                        refine lv_iconst (v := 0) hx hb dX5_shift_110 (by decide) ?_
                        refine lv_istore (lv' := [(6, .int 0), (0, .ref o), (1, .int s), (2, .int i), (3, .int u), (4, .int j), (5, .int n)]) hx hb dX5_shift_111 hl (by decide) rfl (fun ls hl => ?_)
                        have L113 : ∀ (fu113 : Nat) (k : Int32) (S0 : mm_S) (E0 : mm_E) (H : Heap) (locs : List Loc), (n.toInt - k.toInt < fu113) → (0 ≤ k.toInt) → (k.toInt ≤ n.toInt) → (iv_K S0) → (sa_go fu113 S0 E0 s i n k = sa_s S E s i n) → mm_W G o S0 E0 H → va_S (mm_F o) sQ.heap H locs → ∀ ls : Array Slot, lv_has ls 7 [(6, .int k), (0, .ref o), (1, .int s), (2, .int i), (3, .int u), (4, .int j), (5, .int n)] → W pQ lQ eQ (wm_rm 2) sQ mQ (Value.ref o :: [.int s, .int i, .int u, .int j, .int n]).toArray belowQ methQ cQ H locs 0 0 (MQ belowQ (wm_Q (fun vQ HQ => vQ = some (.int (ff_shift S E s i u j n).1) ∧ mm_W G o (ff_shift S E s i u j n).2.1 (ff_shift S E s i u j n).2.2 HQ) (mm_F o)) (Value.ref o :: [.int s, .int i, .int u, .int j, .int n]).toArray sQ 0 0 (mm_F o)) (F0 mQ 113 ls []) := by
                          intro fu113
                          induction fu113 with
                          | zero =>
                            intro k S0 E0 H locs hm113 k0113 k1113 kQ113 hgo113 hW hS ls hl
                            exact absurd hm113 (by omega)
                          | succ fu113 ih113 =>
                            intro k S0 E0 H locs hm113 k0113 k1113 kQ113 hgo113 hW hS ls hl
                            refine lv_iload hx hb dX5_shift_113 (lv_at hl 0 rfl) ?_
                            refine lv_iload hx hb dX5_shift_115 (lv_at hl 6 rfl) ?_
                            refine lv_icmp_ge (tgt := 168) hx hb dX5_shift_117 (by decide) (fun c117 => ?_) (fun c117 => ?_)
                            · have t117 : (n).toInt ≤ (k).toInt := ww_le c117
                              have g : (S0, E0) = sa_s S E s i n := by simp only [sa_go, if_pos c117] at hgo113; exact hgo113
                              have g1 : S0 = (sa_s S E s i n).1 := congrArg (fun zQ => zQ.1) g
                              have g2 : E0 = (sa_s S E s i n).2 := congrArg (fun zQ => zQ.2) g
                              clear g hgo113
                              refine lv_iconst (v := 0) hx hb dX5_shift_168 (by decide) ?_
                              refine lv_istore (lv' := [(6, .int 0), (0, .ref o), (1, .int s), (2, .int i), (3, .int u), (4, .int j), (5, .int n)]) hx hb dX5_shift_169 hl (by decide) rfl (fun ls hl => ?_)
                              have L171 : ∀ (fu171 : Nat) (k : Int32) (S1 : mm_S) (E1 : mm_E) (H : Heap) (locs : List Loc), (n.toInt - k.toInt < fu171) → (0 ≤ k.toInt) → (k.toInt ≤ n.toInt) → (iv_K S1) → (sb_go fu171 S1 E1 u j n k = ff_shift S E s i u j n) → mm_W G o S1 E1 H → va_S (mm_F o) sQ.heap H locs → ∀ ls : Array Slot, lv_has ls 7 [(6, .int k), (0, .ref o), (1, .int s), (2, .int i), (3, .int u), (4, .int j), (5, .int n)] → W pQ lQ eQ (wm_rm 2) sQ mQ (Value.ref o :: [.int s, .int i, .int u, .int j, .int n]).toArray belowQ methQ cQ H locs 0 0 (MQ belowQ (wm_Q (fun vQ HQ => vQ = some (.int (ff_shift S E s i u j n).1) ∧ mm_W G o (ff_shift S E s i u j n).2.1 (ff_shift S E s i u j n).2.2 HQ) (mm_F o)) (Value.ref o :: [.int s, .int i, .int u, .int j, .int n]).toArray sQ 0 0 (mm_F o)) (F0 mQ 171 ls []) := by
                                intro fu171
                                induction fu171 with
                                | zero =>
                                  intro k S1 E1 H locs hm171 k0171 k1171 kQ171 hgo171 hW hS ls hl
                                  exact absurd hm171 (by omega)
                                | succ fu171 ih171 =>
                                  intro k S1 E1 H locs hm171 k0171 k1171 kQ171 hgo171 hW hS ls hl
                                  refine lv_iload hx hb dX5_shift_171 (lv_at hl 0 rfl) ?_
                                  refine lv_iload hx hb dX5_shift_173 (lv_at hl 6 rfl) ?_
                                  refine lv_icmp_ge (tgt := 228) hx hb dX5_shift_175 (by decide) (fun c175 => ?_) (fun c175 => ?_)
                                  · have t175 : (n).toInt ≤ (k).toInt := ww_le c175
                                    refine lv_iload hx hb dX5_shift_228 (lv_at hl 6 rfl) ?_
                                    refine mm_iret hx hb hr hlocks hW hS ?_ dX5_shift_230
                                    have hres : ff_shift S E s i u j n = (n, S1, E1) := by rw [← hgo171]; simp only [sb_go, if_pos c175]
                                    exact ⟨by rw [hres], by rw [hres], by rw [hres]⟩
                                  · have t175 : (k).toInt < (n).toInt := ww_nle c175
                                    refine lv_aload_n hx hb dX5_shift_178 rfl (lv_at hl 1 rfl) ?_
                                    refine mm_geta hx hb hts hown hK hW 91 rfl q1776 dX5_shift_179 ?_
                                    refine lv_bipush (v := 60) hx hb dX5_shift_182 (by decide) ?_
                                    refine lv_iload_n hx hb dX5_shift_184 rfl (lv_at hl 4 rfl) ?_
                                    refine nv_imul hx hb dX5_shift_185 (fun v185 e185 => ?_)
                                    refine lv_iload hx hb dX5_shift_186 (lv_at hl 5 rfl) ?_
                                    refine nv_iadd hx hb dX5_shift_188 (fun v188 e188 => ?_)
                                    refine lv_iload hx hb dX5_shift_189 (lv_at hl 0 rfl) ?_
                                    refine nv_iadd hx hb dX5_shift_191 (fun v191 e191 => ?_)
                                    refine lv_aload_n hx hb dX5_shift_192 rfl (lv_at hl 1 rfl) ?_
                                    refine mm_geta hx hb hts hown hK hW 93 rfl q1778 dX5_shift_193 ?_
                                    refine lv_iload hx hb dX5_shift_196 (lv_at hl 0 rfl) ?_
                                    refine mm_lald hx hb hK hW 93 rfl (ww_in (by omega) (by omega)) dX5_shift_198 ?_
                                    refine mm_last hx hb hK hW hS 91 rfl (by rw [e191, e188, e185]; exact ix_360k u0 (by omega) t77 (by omega) (by omega)) dX5_shift_199 (fun E199 H locs f199 hW hS => ?_)
                                    refine lv_aload_n hx hb dX5_shift_200 rfl (lv_at hl 1 rfl) ?_
                                    refine mm_geta hx hb hts hown hK hW 92 rfl q1777 dX5_shift_201 ?_
                                    refine lv_bipush (v := 60) hx hb dX5_shift_204 (by decide) ?_
                                    refine lv_iload_n hx hb dX5_shift_206 rfl (lv_at hl 4 rfl) ?_
                                    refine nv_imul hx hb dX5_shift_207 (fun v207 e207 => ?_)
                                    refine lv_iload hx hb dX5_shift_208 (lv_at hl 5 rfl) ?_
                                    refine nv_iadd hx hb dX5_shift_210 (fun v210 e210 => ?_)
                                    refine lv_iload hx hb dX5_shift_211 (lv_at hl 0 rfl) ?_
                                    refine nv_iadd hx hb dX5_shift_213 (fun v213 e213 => ?_)
                                    refine lv_aload_n hx hb dX5_shift_214 rfl (lv_at hl 1 rfl) ?_
                                    refine mm_geta hx hb hts hown hK hW 94 rfl q1779 dX5_shift_215 ?_
                                    refine lv_iload hx hb dX5_shift_218 (lv_at hl 0 rfl) ?_
                                    refine mm_zald hx hb hK hW 94 rfl (ww_in (by omega) (by omega)) dX5_shift_220 ?_
                                    refine mm_zast hx hb hK hW hS 92 rfl (nz_ (kQ171 _).2) (by rw [e213, e210, e207]; exact ix_360k u0 (by omega) t77 (by omega) (by omega)) dX5_shift_221 (fun S221 H locs f221 hW hS => ?_)
                                    obtain ⟨v222, e222⟩ : ∃ yQ : Int32, yQ = k + 1 := ⟨_, rfl⟩
                                    refine lv_iinc (v := v222) (lv' := [(6, .int v222), (0, .ref o), (1, .int s), (2, .int i), (3, .int u), (4, .int j), (5, .int n)]) hx hb dX5_shift_222 hl (k := 0) rfl (by rw [e222]; rfl) (by decide) rfl (fun ls hl => ?_)
                                    refine lv_goto (tgt := 171) hx hb dX5_shift_225 (by decide) ?_
                                    have tb : v222.toInt = k.toInt + 1 := by rw [e222]; exact ww_inc t175
                                    exact ih171 v222 S221 E199 H locs (by omega) (by omega) (by omega) (by rw [f221]; exact iv_K_w kQ171 (kQ171 _).2) (by rw [e222]; have z1 : S221 = sf_2 S1 u j k := (by rw [f221, e213, e210, e207]; rfl); have z2 : E199 = sf_2e E1 u j k := (by rw [f199, e191, e188, e185]; rfl); rw [z1, z2]; rw [sb_go, if_neg c175] at hgo171; exact hgo171) hW hS ls (lv_sub hl [0, 1, 2, 3, 4, 5, 6] rfl)
                              exact L171 61 0 S0 E0 H locs (by show _ - 0 < (61 : Int); omega) (by decide) (by show 0 ≤ _; omega) kQ113 (by rw [g1, g2]; subst e1 e8 e89 e103; simp only [ff_shift, if_neg c4, if_neg c11, if_neg c23, if_neg c33, if_neg c45, if_pos c60, if_neg c68, if_neg c72, if_neg c77, if_neg c90, if_pos c104, if_pos c117]; rfl) hW hS ls (lv_sub hl [0, 1, 2, 3, 4, 5, 6] rfl)
                            · have t117 : (k).toInt < (n).toInt := ww_nle c117
                              refine lv_aload_n hx hb dX5_shift_120 rfl (lv_at hl 1 rfl) ?_
                              refine mm_geta hx hb hts hown hK hW 93 rfl q1778 dX5_shift_121 ?_
                              refine lv_iload hx hb dX5_shift_124 (lv_at hl 0 rfl) ?_
                              refine lv_aload_n hx hb dX5_shift_126 rfl (lv_at hl 1 rfl) ?_
                              refine mm_geta hx hb hts hown hK hW 91 rfl q1776 dX5_shift_127 ?_
                              refine lv_bipush (v := 60) hx hb dX5_shift_130 (by decide) ?_
                              refine lv_iload_n hx hb dX5_shift_132 rfl (lv_at hl 2 rfl) ?_
                              refine nv_imul hx hb dX5_shift_133 (fun v133 e133 => ?_)
                              refine lv_iload_n hx hb dX5_shift_134 rfl (lv_at hl 3 rfl) ?_
                              refine nv_iadd hx hb dX5_shift_135 (fun v135 e135 => ?_)
                              refine lv_iload hx hb dX5_shift_136 (lv_at hl 0 rfl) ?_
                              refine nv_iadd hx hb dX5_shift_138 (fun v138 e138 => ?_)
                              refine mm_lald hx hb hK hW 91 rfl (by rw [e138, e135, e133]; exact ix_360k s0 (by omega) t72 (by omega) (by omega)) dX5_shift_139 ?_
                              refine mm_last hx hb hK hW hS 93 rfl (ww_in (by omega) (by omega)) dX5_shift_140 (fun E140 H locs f140 hW hS => ?_)
                              refine lv_aload_n hx hb dX5_shift_141 rfl (lv_at hl 1 rfl) ?_
                              refine mm_geta hx hb hts hown hK hW 94 rfl q1779 dX5_shift_142 ?_
                              refine lv_iload hx hb dX5_shift_145 (lv_at hl 0 rfl) ?_
                              refine lv_aload_n hx hb dX5_shift_147 rfl (lv_at hl 1 rfl) ?_
                              refine mm_geta hx hb hts hown hK hW 92 rfl q1777 dX5_shift_148 ?_
                              refine lv_bipush (v := 60) hx hb dX5_shift_151 (by decide) ?_
                              refine lv_iload_n hx hb dX5_shift_153 rfl (lv_at hl 2 rfl) ?_
                              refine nv_imul hx hb dX5_shift_154 (fun v154 e154 => ?_)
                              refine lv_iload_n hx hb dX5_shift_155 rfl (lv_at hl 3 rfl) ?_
                              refine nv_iadd hx hb dX5_shift_156 (fun v156 e156 => ?_)
                              refine lv_iload hx hb dX5_shift_157 (lv_at hl 0 rfl) ?_
                              refine nv_iadd hx hb dX5_shift_159 (fun v159 e159 => ?_)
                              refine mm_zald hx hb hK hW 92 rfl (by rw [e159, e156, e154]; exact ix_360k s0 (by omega) t72 (by omega) (by omega)) dX5_shift_160 ?_
                              refine mm_zast hx hb hK hW hS 94 rfl (nz_ (kQ113 _).1) (ww_in (by omega) (by omega)) dX5_shift_161 (fun S161 H locs f161 hW hS => ?_)
                              obtain ⟨v162, e162⟩ : ∃ yQ : Int32, yQ = k + 1 := ⟨_, rfl⟩
                              refine lv_iinc (v := v162) (lv' := [(6, .int v162), (0, .ref o), (1, .int s), (2, .int i), (3, .int u), (4, .int j), (5, .int n)]) hx hb dX5_shift_162 hl (k := 0) rfl (by rw [e162]; rfl) (by decide) rfl (fun ls hl => ?_)
                              refine lv_goto (tgt := 113) hx hb dX5_shift_165 (by decide) ?_
                              have tb : v162.toInt = k.toInt + 1 := by rw [e162]; exact ww_inc t117
                              exact ih113 v162 S161 E140 H locs (by omega) (by omega) (by omega) (by rw [f161]; exact iv_K_w kQ113 (kQ113 _).1) (by rw [e162]; have z1 : S161 = sf_1 S0 s i k := (by rw [f161, e159, e156, e154]; rfl); have z2 : E140 = sf_1e E0 s i k := (by rw [f140, e138, e135, e133]; rfl); rw [z1, z2]; rw [sa_go, if_neg c117] at hgo113; exact hgo113) hW hS ls (lv_sub hl [0, 1, 2, 3, 4, 5, 6] rfl)
                        exact L113 61 0 S E H locs (by show _ - 0 < (61 : Int); omega) (by decide) (by show 0 ≤ _; omega) hKb (rfl) hW hS ls (lv_sub hl [0, 1, 2, 3, 4, 5, 6] rfl)
                      · have t104 : (v103).toInt < (j).toInt := ww_nle c104
                        refine lv_bipush (v := (-13)) hx hb dX5_shift_107 (by decide) ?_
                        refine mm_iret hx hb hr hlocks hW hS ?_ dX5_shift_109
                        have hres : ff_shift S E s i u j n = ((-13), S, E) := by subst e1 e8 e89 e103; simp only [ff_shift, if_neg c4, if_neg c11, if_neg c23, if_neg c33, if_neg c45, if_pos c60, if_neg c68, if_neg c72, if_neg c77, if_neg c90, if_neg c104]
                        exact ⟨by rw [hres], by rw [hres], by rw [hres]⟩
            · skip
              refine lv_bipush (v := (-12)) hx hb dX5_shift_63 (by decide) ?_
              refine mm_iret hx hb hr hlocks hW hS ?_ dX5_shift_65
              have hres : ff_shift S E s i u j n = ((-12), S, E) := by subst e1 e8; simp only [ff_shift, if_neg c4, if_neg c11, if_neg c23, if_neg c33, if_neg c45, if_neg c60]
              exact ⟨by rw [hres], by rw [hres], by rw [hres]⟩
        · skip
          refine lv_bipush (v := (-11)) hx hb dX5_shift_36 (by decide) ?_
          refine mm_iret hx hb hr hlocks hW hS ?_ dX5_shift_38
          have hres : ff_shift S E s i u j n = ((-11), S, E) := by subst e1 e8; simp only [ff_shift, if_neg c4, if_neg c11, if_neg c23, if_pos c33]
          exact ⟨by rw [hres], by rw [hres], by rw [hres]⟩
    · skip
      refine lv_iconst (v := (-1)) hx hb dX5_shift_14 (by decide) ?_
      refine mm_iret hx hb hr hlocks hW hS ?_ dX5_shift_15
      have hres : ff_shift S E s i u j n = ((-1), S, E) := by subst e1 e8; simp only [ff_shift, if_neg c4, if_pos c11]
      exact ⟨by rw [hres], by rw [hres], by rw [hres]⟩
