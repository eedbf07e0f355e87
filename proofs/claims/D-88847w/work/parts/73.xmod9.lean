set_option maxHeartbeats 4000000 in
theorem xc_tv (lQ : Launch) (G : wm_G) (o d0 : Nat) (X : mm_S) (E : mm_E) (D : xg) (i : Int32) (hi : vp_in i 16) : xw_Met lQ G o d0 yX4_value (ws_ yX4_value cX4_value 2 (some .int)) 171 X E D [Value.ref (xt_ o i)] (some (.int (xf_tv (xg_l D) X i).1)) (xf_tv (xg_l D) X i).2 E := by
  refine xw_start (own := RX4) (by decide +kernel) (Nat.le_of_ble_eq_true rfl) rfl (fun pQ eQ sQ mQ belowQ methQ cQ hx hb hml hr hlocks hts hown hK hN H hW hS ls hl => ?_)
  have hl : lv_has ls 2 [(0, .ref (xt_ o i))] := hl
  generalize hlc : ([] : List Loc) = locs at hS ⊢
  refine lv_iconst (v := 0) hx hb dX4_value_0 (by decide) ?_
  refine lv_istore_n (lv' := [(1, .int 0), (0, .ref (xt_ o i))]) hx hb dX4_value_1 rfl hl (by decide) rfl (fun ls hl => ?_)
  have L2 : ∀ (fu2 : Nat) (k : Int32), ((rd_ X 90 i).toInt - k.toInt < fu2) → (0 ≤ k.toInt) → (k.toInt ≤ (rd_ X 90 i).toInt) → (xf_tv_go fu2 (xg_l D) X i k = xf_tv (xg_l D) X i) → ∀ ls : Array Slot, lv_has ls 2 [(1, .int k), (0, .ref (xt_ o i))] → W pQ lQ eQ (wm_rm 171) sQ mQ ([Value.ref (xt_ o i)] : List Value).toArray belowQ methQ cQ H locs 0 0 (MQ belowQ (wm_Q (fun vQ HQ => vQ = some (.int (xf_tv (xg_l D) X i).1) ∧ xx_W G o d0 (xf_tv (xg_l D) X i).2 E D HQ) (xx_F o d0)) ([Value.ref (xt_ o i)] : List Value).toArray sQ 0 0 (xx_F o d0)) (F0 mQ 2 ls []) := by
    intro fu2
    induction fu2 with
    | zero =>
      intro k hm2 i02 i12 hgo2 ls hl
      exact absurd hm2 (by omega)
    | succ fu2 ih2 =>
      intro k hm2 i02 i12 hgo2 ls hl
      refine lv_iload_n hx hb dX4_value_2 rfl (lv_at hl 0 rfl) ?_
      refine lv_aload_n hx hb dX4_value_3 rfl (lv_at hl 1 rfl) ?_
      refine xt_getV hx hb hts hown hK hW hi 2 (by decide) rfl q243 (v := .int (rd_ X 90 i)) rfl dX4_value_4 ?_
      refine lv_icmp_ge (tgt := 58) hx hb dX4_value_7 (by decide) (fun c7 => ?_) (fun c7 => ?_)
      · have t7 : ((rd_ X 90 i)).toInt ≤ (k).toInt := ww_le c7
        refine lv_aload_n hx hb dX4_value_58 rfl (lv_at hl 1 rfl) ?_
        refine xt_getV hx hb hts hown hK hW hi 6 (by decide) rfl q248 (v := .ref o) rfl dX4_value_59 ?_
        refine lv_iconst (v := (-1)) hx hb dX4_value_62 (by decide) ?_
        refine xx_putiN hx hb hts hown hK hW hS 20 rfl rfl (by decide) (by decide) (by decide) rfl rfl rfl (hN.nf q291) dX4_value_63 (fun X63 H locs f63 hW hS => ?_)
        refine lv_iconst (v := 0) hx hb dX4_value_66 (by decide) ?_
        refine xw_iret hx hb hr hlocks hW hS ?_ dX4_value_67
        have hres : xf_tv (xg_l D) X i = (0, X63) := by rw [← hgo2, xf_tv_go, if_pos c7, f63]
        exact ⟨by rw [hres], by rw [hres], rfl⟩
      · have t7 : (k).toInt < ((rd_ X 90 i)).toInt := ww_nle c7
        refine lv_aload_n hx hb dX4_value_10 rfl (lv_at hl 1 rfl) ?_
        refine xt_getV hx hb hts hown hK hW hi 0 (by decide) rfl q239 (v := .ref (xt_ta o i)) rfl dX4_value_11 ?_
        refine lv_iload_n hx hb dX4_value_14 rfl (lv_at hl 0 rfl) ?_
        refine xt_tald hx hb hK hW hi i02 t7 dX4_value_15 (fun a15 q15 => ?_)
        cases hl1 : (xg_l D i.toNatClampNeg k.toNatClampNeg).1 with
        | none =>
          rw [hl1] at q15
          have e15 : a15 = .null := q15
          subst e15
          refine lv_ifnullN (tgt := 34) hx hb dX4_value_16 (by decide) ?_
          have hz : ¬ xf_tz (xg_l D) X i k = 0 := by unfold xf_tz; rw [hl1]; exact (show ¬ (1 : Int32) = 0 by decide)
          refine lv_aload_n hx hb dX4_value_34 rfl (lv_at hl 1 rfl) ?_
          refine xt_getV hx hb hts hown hK hW hi 6 (by decide) rfl q248 (v := .ref o) rfl dX4_value_35 ?_
          refine lv_iload_n hx hb dX4_value_38 rfl (lv_at hl 0 rfl) ?_
          refine xx_putiN hx hb hts hown hK hW hS 20 rfl rfl (by decide) (by decide) (by decide) rfl rfl rfl (hN.nf q291) dX4_value_39 (fun X39 H locs f39 hW hS => ?_)
          refine lv_aload_n hx hb dX4_value_42 rfl (lv_at hl 1 rfl) ?_
          refine xt_getV hx hb hts hown hK hW hi 1 (by decide) rfl q241 (v := .ref (xt_ga o i)) rfl dX4_value_43 ?_
          refine lv_iload_n hx hb dX4_value_46 rfl (lv_at hl 0 rfl) ?_
          refine xt_gald hx hb hK hW hi i02 (by rw [f39, rd_fn (by decide)]; exact t7) dX4_value_47 (fun a47 q47 => ?_)
          obtain ⟨a3, e47, q47⟩ := q47
          subst e47
          refine xt_calls lQ 170 (rest := []) ⟨hx, hb, hml, hown, hts⟩ hK hN hW q47 q1157 ⟨by show _ ≤ 171; omega, by show _ ≤ 60 * 171; omega⟩ hl.1 (Nat.le_of_ble_eq_true rfl) dX4_value_48 ⟨Nat.le_of_ble_eq_true rfl, Nat.le_of_ble_eq_true rfl⟩ (fun v48 e48 => ?_)
          refine xw_iret hx hb hr hlocks hW hS ?_ dX4_value_51
          have hres : xf_tv (xg_l D) X i = (v48, X39) := by rw [← hgo2, xf_tv_go, if_neg c7, if_neg hz, e48, f39]; rfl
          exact ⟨by rw [hres], by rw [hres], rfl⟩
        | some t =>
          rw [hl1] at q15
          obtain ⟨a1, e15, q15⟩ := q15
          subst e15
          refine lv_ifnull hx hb dX4_value_16 ?_
          have tz : xf_tz (xg_l D) X i k = xt_val X t := by unfold xf_tz; rw [hl1]
          refine lv_aload_n hx hb dX4_value_19 rfl (lv_at hl 1 rfl) ?_
          refine xt_getV hx hb hts hown hK hW hi 0 (by decide) rfl q239 (v := .ref (xt_ta o i)) rfl dX4_value_20 ?_
          refine lv_iload_n hx hb dX4_value_23 rfl (lv_at hl 0 rfl) ?_
          refine xt_tald hx hb hK hW hi i02 t7 dX4_value_24 (fun a24 q24 => ?_)
          rw [hl1] at q24
          obtain ⟨a2, e24, q24⟩ := q24
          subst e24
          refine xt_calls lQ 170 (rest := []) ⟨hx, hb, hml, hown, hts⟩ hK hN hW q24 q1157 ⟨by show _ ≤ 171; omega, by show _ ≤ 60 * 171; omega⟩ hl.1 (Nat.le_of_ble_eq_true rfl) dX4_value_25 ⟨Nat.le_of_ble_eq_true rfl, Nat.le_of_ble_eq_true rfl⟩ (fun v25 e25 => ?_)
          refine lv_if_ne (tgt := 34) hx hb dX4_value_28 (by decide) (fun c28 => ?_) (fun c28 => ?_)
          · skip
            have hz : ¬ xf_tz (xg_l D) X i k = 0 := by rw [tz, ← e25]; exact c28
            refine lv_aload_n hx hb dX4_value_34 rfl (lv_at hl 1 rfl) ?_
            refine xt_getV hx hb hts hown hK hW hi 6 (by decide) rfl q248 (v := .ref o) rfl dX4_value_35 ?_
            refine lv_iload_n hx hb dX4_value_38 rfl (lv_at hl 0 rfl) ?_
            refine xx_putiN hx hb hts hown hK hW hS 20 rfl rfl (by decide) (by decide) (by decide) rfl rfl rfl (hN.nf q291) dX4_value_39 (fun X39 H locs f39 hW hS => ?_)
            refine lv_aload_n hx hb dX4_value_42 rfl (lv_at hl 1 rfl) ?_
            refine xt_getV hx hb hts hown hK hW hi 1 (by decide) rfl q241 (v := .ref (xt_ga o i)) rfl dX4_value_43 ?_
            refine lv_iload_n hx hb dX4_value_46 rfl (lv_at hl 0 rfl) ?_
            refine xt_gald hx hb hK hW hi i02 (by rw [f39, rd_fn (by decide)]; exact t7) dX4_value_47 (fun a47 q47 => ?_)
            obtain ⟨a3, e47, q47⟩ := q47
            subst e47
            refine xt_calls lQ 170 (rest := []) ⟨hx, hb, hml, hown, hts⟩ hK hN hW q47 q1157 ⟨by show _ ≤ 171; omega, by show _ ≤ 60 * 171; omega⟩ hl.1 (Nat.le_of_ble_eq_true rfl) dX4_value_48 ⟨Nat.le_of_ble_eq_true rfl, Nat.le_of_ble_eq_true rfl⟩ (fun v48 e48 => ?_)
            refine xw_iret hx hb hr hlocks hW hS ?_ dX4_value_51
            have hres : xf_tv (xg_l D) X i = (v48, X39) := by rw [← hgo2, xf_tv_go, if_neg c7, if_neg hz, e48, f39]; rfl
            exact ⟨by rw [hres], by rw [hres], rfl⟩
          · skip
            have hz : xf_tz (xg_l D) X i k = 0 := by rw [tz, ← e25]; exact c28
            refine lv_goto (tgt := 52) hx hb dX4_value_31 (by decide) ?_
            obtain ⟨v52, e52⟩ : ∃ yQ : Int32, yQ = k + 1 := ⟨_, rfl⟩
            refine lv_iinc (v := v52) (lv' := [(1, .int v52), (0, .ref (xt_ o i))]) hx hb dX4_value_52 hl (k := 0) rfl (by rw [e52]; rfl) (by decide) rfl (fun ls hl => ?_)
            refine lv_goto (tgt := 2) hx hb dX4_value_55 (by decide) ?_
            have tb : v52.toInt = k.toInt + 1 := by rw [e52]; exact ww_inc t7
            exact ih2 v52 (by omega) (by omega) (by omega) (by rw [e52]; rw [xf_tv_go, if_neg c7, if_pos hz] at hgo2; exact hgo2) ls (lv_sub hl [0, 1] rfl)
  exact L2 161 0 (by have h16 : i.toNatClampNeg < 16 := Nat.not_le.mp (fun q => hi (Or.inr q)); have := hW.cap.2.2 _ h16; have e : rd_ X 90 i = X 90 i.toNatClampNeg := rfl; rw [e]; show _ - 0 < (161 : Int); omega) (by decide) (by have h16 : i.toNatClampNeg < 16 := Nat.not_le.mp (fun q => hi (Or.inr q)); have := hW.cap.2.2 _ h16; have e : rd_ X 90 i = X 90 i.toNatClampNeg := rfl; rw [e]; show (0 : Int) ≤ _; omega) (rfl) ls (lv_sub hl [0, 1] rfl)

set_option maxHeartbeats 4000000 in
theorem xc_gives (lQ : Launch) (G : wm_G) (o d0 : Nat) (X : mm_S) (E : mm_E) (D : xg) (w : Int32) (mn : Int32) (z : Int32) (hX : xv_X X) (hmn : xm_or X mn) : xw_Met lQ G o d0 yX0_gives (ws_ yX0_gives cX0_gives 5 (some .int)) 172 X E D [Value.ref o, .int w, va_rf (xx_o D mn), .int z] (some (.int (xf_gives (xg_l D) X w mn z).1)) (xf_gives (xg_l D) X w mn z).2 E := by
  refine xw_start (own := RX0) (by decide +kernel) (by simp [lg_sl, va_rf_c, vc_i, vc_r, vc_l]) rfl (fun pQ eQ sQ mQ belowQ methQ cQ hx hb hml hr hlocks hts hown hK hN H hW hS ls hl => ?_)
  have hl : lv_has ls 5 [(0, .ref o), (1, .int w), (2, va_rf (xx_o D mn)), (3, .int z)] := by simpa [lv_args, va_rf_c, vc_i, vc_r, vc_l] using hl
  generalize hlc : ([] : List Loc) = locs at hS ⊢
  refine lv_aload_n hx hb dX0_gives_0 rfl (lv_at hl 0 rfl) ?_
  refine lv_iload_n hx hb dX0_gives_1 rfl (lv_at hl 1 rfl) ?_
  refine lv_aload_n hx hb dX0_gives_2 rfl (lv_at hl 0 rfl) ?_
  refine xx_geti hx hb hts hown hK hW 0 rfl rfl (by decide) (by decide) q265 dX0_gives_3 ?_
  refine lv_aload_n hx hb dX0_gives_6 rfl (lv_at hl 0 rfl) ?_
  refine xx_geti hx hb hts hown hK hW 0 rfl rfl (by decide) (by decide) q265 dX0_gives_7 ?_
  refine xw_p (xw_rV (As := [.int w, .int (fd_ X 0), .int (fd_ X 0)]) (rest := []) (n := 3) ⟨hx, hb, hml, hown, hts⟩ hK hN hW (xc_force lQ G o d0 X E D w (fd_ X 0) (fd_ X 0) hX) (lw_V q1125 q1127 qs20 q84 q1128) (xr_main hK hW) (by decide +kernel) rfl ⟨Nat.le_of_ble_eq_true rfl, Nat.le_of_ble_eq_true rfl⟩ hl.1 rfl (Nat.le_of_ble_eq_true rfl) dX0_gives_10 ⟨Nat.le_of_ble_eq_true rfl, Nat.le_of_ble_eq_true rfl⟩) hS (fun v10 H locs e10 hW hS => ?_)
  refine lv_istore (lv' := [(4, .int v10), (0, .ref o), (1, .int w), (2, va_rf (xx_o D mn)), (3, .int z)]) hx hb dX0_gives_13 hl (by decide) rfl (fun ls hl => ?_)
  refine lv_iload hx hb dX0_gives_15 (lv_at hl 0 rfl) ?_
  refine lv_iconst (v := (-1)) hx hb dX0_gives_17 (by decide) ?_
  refine lv_icmp_ne (tgt := 23) hx hb dX0_gives_18 (by decide) (fun c18 => ?_) (fun c18 => ?_)
  · skip
    by_cases cm : mn < 0
    · skip
      refine lv_aload_n hx hb dX0_gives_23 rfl (lv_at hl 1 rfl) ?_
      refine xx_geta hx hb hts hown hK hW 19 rfl q290 dX0_gives_24 ?_
      refine lv_iconst (v := 0) hx hb dX0_gives_27 (by decide) ?_
      refine lv_aload_n hx hb dX0_gives_28 rfl (lv_at hl 1 rfl) ?_
      refine xx_geti hx hb hts hown hK hW 0 rfl rfl (by decide) (by decide) q265 dX0_gives_29 ?_
      refine xx_iast hx hb hK hW hS 19 rfl (ww_in (by decide) (by decide)) dX0_gives_32 (fun X32 H locs f32 hW hS => ?_)
      refine lv_aload_n hx hb dX0_gives_33 rfl (lv_at hl 1 rfl) ?_
      refine xx_geta hx hb hts hown hK hW 19 rfl q290 dX0_gives_34 ?_
      refine lv_iconst (v := 1) hx hb dX0_gives_37 (by decide) ?_
      refine lv_aload_n hx hb dX0_gives_38 rfl (lv_at hl 1 rfl) ?_
      refine xx_geti hx hb hts hown hK hW 0 rfl rfl (by decide) (by decide) q265 dX0_gives_39 ?_
      refine lv_bipush (v := 24) hx hb dX0_gives_42 (by decide) ?_
      refine nv_idiv hx hb dX0_gives_44 (by decide) (fun v44 e44 => ?_)
      refine xx_iast hx hb hK hW hS 19 rfl (ww_in (by decide) (by decide)) dX0_gives_45 (fun X45 H locs f45 hW hS => ?_)
      refine lv_aload_n hx hb dX0_gives_46 rfl (lv_at hl 1 rfl) ?_
      refine xx_geta hx hb hts hown hK hW 19 rfl q290 dX0_gives_47 ?_
      refine lv_iconst (v := 2) hx hb dX0_gives_50 (by decide) ?_
      refine xl_aload_n hx hb dX0_gives_51 rfl (lv_at hl 3 rfl) ?_
      refine xl_ifnonnull (tgt := 59) hx hb dX0_gives_52 (by decide) (fun c52 => ?_) (fun c52 => ?_)
      · have t52 : 0 ≤ (mn).toInt := ww_nl0 c52
        exact absurd cm c52
      · have t52 : (mn).toInt < 0 := ww_l0 c52
        refine lv_iconst (v := 0) hx hb dX0_gives_55 (by decide) ?_
        refine lv_goto (tgt := 63) hx hb dX0_gives_56 (by decide) ?_
        refine xx_iast hx hb hK hW hS 19 rfl (ww_in (by decide) (by decide)) dX0_gives_63 (fun X63 H locs f63 hW hS => ?_)
        refine lv_aload_n hx hb dX0_gives_64 rfl (lv_at hl 1 rfl) ?_
        refine xx_geta hx hb hts hown hK hW 19 rfl q290 dX0_gives_65 ?_
        refine lv_iconst (v := 3) hx hb dX0_gives_68 (by decide) ?_
        refine xl_aload_n hx hb dX0_gives_69 rfl (lv_at hl 3 rfl) ?_
        refine xl_ifnonnull (tgt := 77) hx hb dX0_gives_70 (by decide) (fun c70 => ?_) (fun c70 => ?_)
        · have t70 : 0 ≤ (mn).toInt := ww_nl0 c70
          exact absurd cm c70
        · have t70 : (mn).toInt < 0 := ww_l0 c70
          refine lv_iconst (v := 0) hx hb dX0_gives_73 (by decide) ?_
          refine lv_goto (tgt := 81) hx hb dX0_gives_74 (by decide) ?_
          refine xx_iast hx hb hK hW hS 19 rfl (ww_in (by decide) (by decide)) dX0_gives_81 (fun X81 H locs f81 hW hS => ?_)
          refine lv_aload_n hx hb dX0_gives_82 rfl (lv_at hl 1 rfl) ?_
          refine xx_geta hx hb hts hown hK hW 19 rfl q290 dX0_gives_83 ?_
          refine lv_iconst (v := 4) hx hb dX0_gives_86 (by decide) ?_
          refine xl_aload_n hx hb dX0_gives_87 rfl (lv_at hl 3 rfl) ?_
          refine xl_ifnonnull (tgt := 95) hx hb dX0_gives_88 (by decide) (fun c88 => ?_) (fun c88 => ?_)
          · have t88 : 0 ≤ (mn).toInt := ww_nl0 c88
            exact absurd cm c88
          · have t88 : (mn).toInt < 0 := ww_l0 c88
            refine lv_iconst (v := 0) hx hb dX0_gives_91 (by decide) ?_
            refine lv_goto (tgt := 99) hx hb dX0_gives_92 (by decide) ?_
            refine xx_iast hx hb hK hW hS 19 rfl (ww_in (by decide) (by decide)) dX0_gives_99 (fun X99 H locs f99 hW hS => ?_)
            refine lv_aload_n hx hb dX0_gives_100 rfl (lv_at hl 1 rfl) ?_
            refine xx_geta hx hb hts hown hK hW 19 rfl q290 dX0_gives_101 ?_
            refine lv_iconst (v := 5) hx hb dX0_gives_104 (by decide) ?_
            refine lv_aload_n hx hb dX0_gives_105 rfl (lv_at hl 1 rfl) ?_
            refine xw_p (xw_rV (As := []) (rest := [.int 5, .ref (o + 14)]) (n := 0) ⟨hx, hb, hml, hown, hts⟩ hK hN hW (xc_belowMany lQ G o d0 X99 E D) (lw_V q1141 q1143 qs23 q84 q1144) (xr_main hK hW) (by decide +kernel) rfl ⟨Nat.le_of_ble_eq_true rfl, Nat.le_of_ble_eq_true rfl⟩ hl.1 rfl (Nat.le_of_ble_eq_true rfl) dX0_gives_106 ⟨Nat.le_of_ble_eq_true rfl, Nat.le_of_ble_eq_true rfl⟩) hS (fun v106 H locs e106 hW hS => ?_)
            refine xx_iast hx hb hK hW hS 19 rfl (ww_in (by decide) (by decide)) dX0_gives_109 (fun X109 H locs f109 hW hS => ?_)
            refine lv_aload_n hx hb dX0_gives_110 rfl (lv_at hl 1 rfl) ?_
            refine xx_geta hx hb hts hown hK hW 19 rfl q290 dX0_gives_111 ?_
            refine lv_bipush (v := 6) hx hb dX0_gives_114 (by decide) ?_
            refine lv_aload_n hx hb dX0_gives_116 rfl (lv_at hl 1 rfl) ?_
            refine xx_geti hx hb hts hown hK hW 26 rfl rfl (by decide) (by decide) q299 dX0_gives_117 ?_
            refine xx_iast hx hb hK hW hS 19 rfl (ww_in (by decide) (by decide)) dX0_gives_120 (fun X120 H locs f120 hW hS => ?_)
            refine lv_aload_n hx hb dX0_gives_121 rfl (lv_at hl 1 rfl) ?_
            refine xx_geta hx hb hts hown hK hW 19 rfl q290 dX0_gives_122 ?_
            refine lv_bipush (v := 7) hx hb dX0_gives_125 (by decide) ?_
            refine lv_aload_n hx hb dX0_gives_127 rfl (lv_at hl 1 rfl) ?_
            refine xw_p (xw_rV (As := []) (rest := [.int 7, .ref (o + 14)]) (n := 0) ⟨hx, hb, hml, hown, hts⟩ hK hN hW (xc_throughMany lQ G o d0 X120 E D) (lw_V q1149 q1151 qs25 q84 q1152) (xr_main hK hW) (by decide +kernel) rfl ⟨Nat.le_of_ble_eq_true rfl, Nat.le_of_ble_eq_true rfl⟩ hl.1 rfl (Nat.le_of_ble_eq_true rfl) dX0_gives_128 ⟨Nat.le_of_ble_eq_true rfl, Nat.le_of_ble_eq_true rfl⟩) hS (fun v128 H locs e128 hW hS => ?_)
            refine xx_iast hx hb hK hW hS 19 rfl (ww_in (by decide) (by decide)) dX0_gives_131 (fun X131 H locs f131 hW hS => ?_)
            have n131 : X131 = xf_sn X mn := by
              rw [f131, e128, f120, f109, e106, f99, f81, f63, f45, e44, f32]
              unfold xf_sn xf_sn8 xf_sn7 xf_sn6 xf_sn5 xf_sn4 xf_sn3 xf_sn2 xf_sn1 xf_mf
              first | simp only [if_pos cm] | simp only [if_neg cm]
            refine lv_aload_n hx hb dX0_gives_132 rfl (lv_at hl 1 rfl) ?_
            refine xx_getr hx hb hts hown hK hW 24 rfl rfl (by decide) (by decide) q297 dX0_gives_133 ?_
            refine lv_iload hx hb dX0_gives_136 (lv_at hl 0 rfl) ?_
            refine xx_tald hx hb hK hW (by rw [e10]; exact xf_force_in hX (by rw [← e10]; exact c18)) dX0_gives_138 ?_
            refine xw_i (xw_rV (As := []) (rest := []) (n := 0) ⟨hx, hb, hml, hown, hts⟩ hK hN hW (xc_tv lQ G o d0 X131 E D v10 (by rw [e10]; exact xf_force_in hX (by rw [← e10]; exact c18))) (lw_V q1153 q1154 q1155 q91 q1156) (xr_txt hK hW (by rw [e10]; exact xf_force_in hX (by rw [← e10]; exact c18))) (by decide +kernel) rfl ⟨Nat.le_of_ble_eq_true rfl, Nat.le_of_ble_eq_true rfl⟩ hl.1 rfl (Nat.le_of_ble_eq_true rfl) dX0_gives_139 ⟨Nat.le_of_ble_eq_true rfl, Nat.le_of_ble_eq_true rfl⟩) hS (fun v139 X139 H locs e139 f139 hW hS => ?_)
            refine xw_iret hx hb hr hlocks hW hS ?_ dX0_gives_142
            have hres : xf_gives (xg_l D) X w mn z = (v139, X139) := by
              unfold xf_gives
              rw [← e10, if_neg c18, ← n131]
              exact Prod.ext e139.symm f139.symm
            exact ⟨by rw [hres], by rw [hres], rfl⟩
    · skip
      have hmm := hmn cm
      refine lv_aload_n hx hb dX0_gives_23 rfl (lv_at hl 1 rfl) ?_
      refine xx_geta hx hb hts hown hK hW 19 rfl q290 dX0_gives_24 ?_
      refine lv_iconst (v := 0) hx hb dX0_gives_27 (by decide) ?_
      refine lv_aload_n hx hb dX0_gives_28 rfl (lv_at hl 1 rfl) ?_
      refine xx_geti hx hb hts hown hK hW 0 rfl rfl (by decide) (by decide) q265 dX0_gives_29 ?_
      refine xx_iast hx hb hK hW hS 19 rfl (ww_in (by decide) (by decide)) dX0_gives_32 (fun X32 H locs f32 hW hS => ?_)
      have hmm : xm_in X32 mn := by rw [f32]; exact xm_wr hmm (by decide) (by decide)
      refine lv_aload_n hx hb dX0_gives_33 rfl (lv_at hl 1 rfl) ?_
      refine xx_geta hx hb hts hown hK hW 19 rfl q290 dX0_gives_34 ?_
      refine lv_iconst (v := 1) hx hb dX0_gives_37 (by decide) ?_
      refine lv_aload_n hx hb dX0_gives_38 rfl (lv_at hl 1 rfl) ?_
      refine xx_geti hx hb hts hown hK hW 0 rfl rfl (by decide) (by decide) q265 dX0_gives_39 ?_
      refine lv_bipush (v := 24) hx hb dX0_gives_42 (by decide) ?_
      refine nv_idiv hx hb dX0_gives_44 (by decide) (fun v44 e44 => ?_)
      refine xx_iast hx hb hK hW hS 19 rfl (ww_in (by decide) (by decide)) dX0_gives_45 (fun X45 H locs f45 hW hS => ?_)
      have hmm : xm_in X45 mn := by rw [f45]; exact xm_wr hmm (by decide) (by decide)
      refine lv_aload_n hx hb dX0_gives_46 rfl (lv_at hl 1 rfl) ?_
      refine xx_geta hx hb hts hown hK hW 19 rfl q290 dX0_gives_47 ?_
      refine lv_iconst (v := 2) hx hb dX0_gives_50 (by decide) ?_
      refine xl_aload_n hx hb dX0_gives_51 rfl (lv_at hl 3 rfl) ?_
      refine xl_ifnonnull (tgt := 59) hx hb dX0_gives_52 (by decide) (fun c52 => ?_) (fun c52 => ?_)
      · have t52 : 0 ≤ (mn).toInt := ww_nl0 c52
        refine xl_aload_n hx hb dX0_gives_59 rfl (lv_at hl 3 rfl) ?_
        refine xl_top hmm.1.1 ?_
        refine xb_getN hx hb hts hown hK hW hmm.1 (k := 2) (xf_man hmm.2 (k := 2) (by decide)) (hN.nf q699) rfl (xb_vi (f := 77) (xf_man hmm.2 (k := 2) (by decide)) (by decide)) dX0_gives_60 ?_
        refine xx_iast hx hb hK hW hS 19 rfl (ww_in (by decide) (by decide)) dX0_gives_63 (fun X63 H locs f63 hW hS => ?_)
        have hmm : xm_in X63 mn := by rw [f63]; exact xm_wr hmm (by decide) (by decide)
        refine lv_aload_n hx hb dX0_gives_64 rfl (lv_at hl 1 rfl) ?_
        refine xx_geta hx hb hts hown hK hW 19 rfl q290 dX0_gives_65 ?_
        refine lv_iconst (v := 3) hx hb dX0_gives_68 (by decide) ?_
        refine xl_aload_n hx hb dX0_gives_69 rfl (lv_at hl 3 rfl) ?_
        refine xl_ifnonnull (tgt := 77) hx hb dX0_gives_70 (by decide) (fun c70 => ?_) (fun c70 => ?_)
        · have t70 : 0 ≤ (mn).toInt := ww_nl0 c70
          refine xl_aload_n hx hb dX0_gives_77 rfl (lv_at hl 3 rfl) ?_
          refine xl_top hmm.1.1 ?_
          refine xb_getN hx hb hts hown hK hW hmm.1 (k := 3) (xf_man hmm.2 (k := 3) (by decide)) (hN.nf q701) rfl (xb_vi (f := 78) (xf_man hmm.2 (k := 3) (by decide)) (by decide)) dX0_gives_78 ?_
          refine xx_iast hx hb hK hW hS 19 rfl (ww_in (by decide) (by decide)) dX0_gives_81 (fun X81 H locs f81 hW hS => ?_)
          have hmm : xm_in X81 mn := by rw [f81]; exact xm_wr hmm (by decide) (by decide)
          refine lv_aload_n hx hb dX0_gives_82 rfl (lv_at hl 1 rfl) ?_
          refine xx_geta hx hb hts hown hK hW 19 rfl q290 dX0_gives_83 ?_
          refine lv_iconst (v := 4) hx hb dX0_gives_86 (by decide) ?_
          refine xl_aload_n hx hb dX0_gives_87 rfl (lv_at hl 3 rfl) ?_
          refine xl_ifnonnull (tgt := 95) hx hb dX0_gives_88 (by decide) (fun c88 => ?_) (fun c88 => ?_)
          · have t88 : 0 ≤ (mn).toInt := ww_nl0 c88
            refine xl_aload_n hx hb dX0_gives_95 rfl (lv_at hl 3 rfl) ?_
            refine xl_top hmm.1.1 ?_
            refine xb_getN hx hb hts hown hK hW hmm.1 (k := 4) (xf_man hmm.2 (k := 4) (by decide)) (hN.nf q703) rfl (xb_vi (f := 79) (xf_man hmm.2 (k := 4) (by decide)) (by decide)) dX0_gives_96 ?_
            refine xx_iast hx hb hK hW hS 19 rfl (ww_in (by decide) (by decide)) dX0_gives_99 (fun X99 H locs f99 hW hS => ?_)
            have hmm : xm_in X99 mn := by rw [f99]; exact xm_wr hmm (by decide) (by decide)
            refine lv_aload_n hx hb dX0_gives_100 rfl (lv_at hl 1 rfl) ?_
            refine xx_geta hx hb hts hown hK hW 19 rfl q290 dX0_gives_101 ?_
            refine lv_iconst (v := 5) hx hb dX0_gives_104 (by decide) ?_
            refine lv_aload_n hx hb dX0_gives_105 rfl (lv_at hl 1 rfl) ?_
            refine xw_p (xw_rV (As := []) (rest := [.int 5, .ref (o + 14)]) (n := 0) ⟨hx, hb, hml, hown, hts⟩ hK hN hW (xc_belowMany lQ G o d0 X99 E D) (lw_V q1141 q1143 qs23 q84 q1144) (xr_main hK hW) (by decide +kernel) rfl ⟨Nat.le_of_ble_eq_true rfl, Nat.le_of_ble_eq_true rfl⟩ hl.1 rfl (Nat.le_of_ble_eq_true rfl) dX0_gives_106 ⟨Nat.le_of_ble_eq_true rfl, Nat.le_of_ble_eq_true rfl⟩) hS (fun v106 H locs e106 hW hS => ?_)
            refine xx_iast hx hb hK hW hS 19 rfl (ww_in (by decide) (by decide)) dX0_gives_109 (fun X109 H locs f109 hW hS => ?_)
            have hmm : xm_in X109 mn := by rw [f109]; exact xm_wr hmm (by decide) (by decide)
            refine lv_aload_n hx hb dX0_gives_110 rfl (lv_at hl 1 rfl) ?_
            refine xx_geta hx hb hts hown hK hW 19 rfl q290 dX0_gives_111 ?_
            refine lv_bipush (v := 6) hx hb dX0_gives_114 (by decide) ?_
            refine lv_aload_n hx hb dX0_gives_116 rfl (lv_at hl 1 rfl) ?_
            refine xx_geti hx hb hts hown hK hW 26 rfl rfl (by decide) (by decide) q299 dX0_gives_117 ?_
            refine xx_iast hx hb hK hW hS 19 rfl (ww_in (by decide) (by decide)) dX0_gives_120 (fun X120 H locs f120 hW hS => ?_)
            have hmm : xm_in X120 mn := by rw [f120]; exact xm_wr hmm (by decide) (by decide)
            refine lv_aload_n hx hb dX0_gives_121 rfl (lv_at hl 1 rfl) ?_
            refine xx_geta hx hb hts hown hK hW 19 rfl q290 dX0_gives_122 ?_
            refine lv_bipush (v := 7) hx hb dX0_gives_125 (by decide) ?_
            refine lv_aload_n hx hb dX0_gives_127 rfl (lv_at hl 1 rfl) ?_
            refine xw_p (xw_rV (As := []) (rest := [.int 7, .ref (o + 14)]) (n := 0) ⟨hx, hb, hml, hown, hts⟩ hK hN hW (xc_throughMany lQ G o d0 X120 E D) (lw_V q1149 q1151 qs25 q84 q1152) (xr_main hK hW) (by decide +kernel) rfl ⟨Nat.le_of_ble_eq_true rfl, Nat.le_of_ble_eq_true rfl⟩ hl.1 rfl (Nat.le_of_ble_eq_true rfl) dX0_gives_128 ⟨Nat.le_of_ble_eq_true rfl, Nat.le_of_ble_eq_true rfl⟩) hS (fun v128 H locs e128 hW hS => ?_)
            refine xx_iast hx hb hK hW hS 19 rfl (ww_in (by decide) (by decide)) dX0_gives_131 (fun X131 H locs f131 hW hS => ?_)
            have hmm : xm_in X131 mn := by rw [f131]; exact xm_wr hmm (by decide) (by decide)
            have n131 : X131 = xf_sn X mn := by
              rw [f131, e128, f120, f109, e106, f99, f81, f63, f45, e44, f32]
              unfold xf_sn xf_sn8 xf_sn7 xf_sn6 xf_sn5 xf_sn4 xf_sn3 xf_sn2 xf_sn1 xf_mf
              first | simp only [if_pos cm] | simp only [if_neg cm]
            refine lv_aload_n hx hb dX0_gives_132 rfl (lv_at hl 1 rfl) ?_
            refine xx_getr hx hb hts hown hK hW 24 rfl rfl (by decide) (by decide) q297 dX0_gives_133 ?_
            refine lv_iload hx hb dX0_gives_136 (lv_at hl 0 rfl) ?_
            refine xx_tald hx hb hK hW (by rw [e10]; exact xf_force_in hX (by rw [← e10]; exact c18)) dX0_gives_138 ?_
            refine xw_i (xw_rV (As := []) (rest := []) (n := 0) ⟨hx, hb, hml, hown, hts⟩ hK hN hW (xc_tv lQ G o d0 X131 E D v10 (by rw [e10]; exact xf_force_in hX (by rw [← e10]; exact c18))) (lw_V q1153 q1154 q1155 q91 q1156) (xr_txt hK hW (by rw [e10]; exact xf_force_in hX (by rw [← e10]; exact c18))) (by decide +kernel) rfl ⟨Nat.le_of_ble_eq_true rfl, Nat.le_of_ble_eq_true rfl⟩ hl.1 rfl (Nat.le_of_ble_eq_true rfl) dX0_gives_139 ⟨Nat.le_of_ble_eq_true rfl, Nat.le_of_ble_eq_true rfl⟩) hS (fun v139 X139 H locs e139 f139 hW hS => ?_)
            refine xw_iret hx hb hr hlocks hW hS ?_ dX0_gives_142
            have hres : xf_gives (xg_l D) X w mn z = (v139, X139) := by
              unfold xf_gives
              rw [← e10, if_neg c18, ← n131]
              exact Prod.ext e139.symm f139.symm
            exact ⟨by rw [hres], by rw [hres], rfl⟩
          · have t88 : (mn).toInt < 0 := ww_l0 c88
            exact absurd c88 cm
        · have t70 : (mn).toInt < 0 := ww_l0 c70
          exact absurd c70 cm
      · have t52 : (mn).toInt < 0 := ww_l0 c52
        exact absurd c52 cm
  · skip
    refine lv_iload_n hx hb dX0_gives_21 rfl (lv_at hl 4 rfl) ?_
    refine xw_iret hx hb hr hlocks hW hS ?_ dX0_gives_22
    have hres : xf_gives (xg_l D) X w mn z = (z, X) := by subst e10; simp only [xf_gives, if_pos c18]
    exact ⟨by rw [hres], by rw [hres], rfl⟩

set_option maxHeartbeats 4000000 in
theorem xc_says (lQ : Launch) (G : wm_G) (o d0 : Nat) (X : mm_S) (E : mm_E) (D : xg) (w : Int32) (b : Int32) (hX : xv_X X) : xw_Met lQ G o d0 yX0_says (ws_ yX0_says cX0_says 4 (some .int)) 173 X E D [Value.ref o, .int w, .int b] (some (.int (xf_says (xg_l D) X w b).1)) (xf_says (xg_l D) X w b).2 E := by
  refine xw_start (own := RX0) (by decide +kernel) (Nat.le_of_ble_eq_true rfl) rfl (fun pQ eQ sQ mQ belowQ methQ cQ hx hb hml hr hlocks hts hown hK hN H hW hS ls hl => ?_)
  have hl : lv_has ls 4 [(0, .ref o), (1, .int w), (2, .int b)] := hl
  generalize hlc : ([] : List Loc) = locs at hS ⊢
  refine lv_aload_n hx hb dX0_says_0 rfl (lv_at hl 0 rfl) ?_
  refine lv_iload_n hx hb dX0_says_1 rfl (lv_at hl 2 rfl) ?_
  refine xw_b (xw_rV (As := [.int b]) (rest := []) (n := 1) ⟨hx, hb, hml, hown, hts⟩ hK hN hW (xc_manOf lQ G o d0 X E D b) (lw_V q772 q774 qs4 q84 q775) (xr_main hK hW) (by decide +kernel) rfl ⟨Nat.le_of_ble_eq_true rfl, Nat.le_of_ble_eq_true rfl⟩ hl.1 rfl (Nat.le_of_ble_eq_true rfl) dX0_says_2 ⟨Nat.le_of_ble_eq_true rfl, Nat.le_of_ble_eq_true rfl⟩) hS (fun v2 H locs e2 hW hS => ?_)
  refine xl_astore_n (lv' := [(3, va_rf (xx_o D v2)), (0, .ref o), (1, .int w), (2, .int b)]) hx hb dX0_says_5 rfl hl (by decide) rfl (fun ls hl => ?_)
  refine lv_iload_n hx hb dX0_says_6 rfl (lv_at hl 2 rfl) ?_
  refine pp_calli (As := [.int w]) (rest := []) (n := 1) ⟨hx, hb, hml, hown, hts⟩ (xc_isWhat lQ w) (lw_S q917 q918 q84 q919) (by decide +kernel) rfl ⟨Nat.le_of_ble_eq_true rfl, Nat.le_of_ble_eq_true rfl⟩ hl.1 rfl (Nat.le_of_ble_eq_true rfl) dX0_says_7 ⟨Nat.le_of_ble_eq_true rfl, Nat.le_of_ble_eq_true rfl⟩ (fun v7 e7 => ?_)
  refine lv_if_eq (tgt := 33) hx hb dX0_says_10 (by decide) (fun c10 => ?_) (fun c10 => ?_)
  · skip
    refine lv_ldcw (v := (-2000000000)) hx hb hown (hts _ q727) dX0_says_33 ?_
    refine xw_iret hx hb hr hlocks hW hS ?_ dX0_says_36
    have hres : xf_says (xg_l D) X w b = ((-2000000000), X) := by subst e2 e7; simp only [xf_says, if_pos c10]
    exact ⟨by rw [hres], by rw [hres], rfl⟩
  · skip
    refine lv_iload_n hx hb dX0_says_13 rfl (lv_at hl 2 rfl) ?_
    refine lv_bipush (v := 10) hx hb dX0_says_14 (by decide) ?_
    refine nv_irem hx hb dX0_says_16 (by decide) (fun v16 e16 => ?_)
    refine lv_iconst (v := 2) hx hb dX0_says_17 (by decide) ?_
    refine lv_icmp_ne (tgt := 29) hx hb dX0_says_18 (by decide) (fun c18 => ?_) (fun c18 => ?_)
    · skip
      refine xl_aload_n hx hb dX0_says_29 rfl (lv_at hl 0 rfl) ?_
      refine xl_ifnonnull (tgt := 37) hx hb dX0_says_30 (by decide) (fun c30 => ?_) (fun c30 => ?_)
      · have t30 : 0 ≤ (v2).toInt := ww_nl0 c30
        have hi30 : xm_in X (xf_manOf X b) := xf_manOf_q (xv_W hW) (by rw [← e2]; exact c30)
        refine lv_aload_n hx hb dX0_says_37 rfl (lv_at hl 1 rfl) ?_
        refine lv_iload_n hx hb dX0_says_38 rfl (lv_at hl 2 rfl) ?_
        refine lv_iload_n hx hb dX0_says_39 rfl (lv_at hl 2 rfl) ?_
        refine lv_bipush (v := 10) hx hb dX0_says_40 (by decide) ?_
        refine nv_irem hx hb dX0_says_42 (by decide) (fun v42 e42 => ?_)
        refine lv_iconst (v := 2) hx hb dX0_says_43 (by decide) ?_
        refine lv_icmp_ne (tgt := 51) hx hb dX0_says_44 (by decide) (fun c44 => ?_) (fun c44 => ?_)
        · skip
          refine xl_aload_n hx hb dX0_says_51 rfl (lv_at hl 0 rfl) ?_
          refine wm_join (P := fun w64 : Int32 => w64 = (if jr_ w 10 = 0 then 1 else 0)) (j := 64) (rest := [va_rf (xx_o D v2), .int w, .ref o]) (ls := ls) (fun w64 ew64 => ?_) (fun J64 => ?_)
          · skip
            refine xw_i (xw_rV (As := [.int w, va_rf (xx_o D v2), .int w64]) (rest := []) (n := 3) ⟨hx, hb, hml, hown, hts⟩ hK hN hW (xc_gives lQ G o d0 X E D w v2 w64 hX (fun _ => by rw [e2]; exact hi30)) (lw_V q1137 q1139 qs22 q84 q1140) (xr_main hK hW) (by decide +kernel) rfl ⟨Nat.le_of_ble_eq_true rfl, Nat.le_of_ble_eq_true rfl⟩ hl.1 rfl (Nat.le_of_ble_eq_true rfl) dX0_says_64 ⟨Nat.le_of_ble_eq_true rfl, Nat.le_of_ble_eq_true rfl⟩) hS (fun v64 X64 H locs e64 f64 hW hS => ?_)
            have hi30 : xm_in X64 (xf_manOf X b) := by rw [f64]; exact xm_eq (xf_gives_e _ _ _ _ _) hi30
            refine xw_iret hx hb hr hlocks hW hS ?_ dX0_says_67
            have hres : xf_says (xg_l D) X w b = (v64, X64) := by unfold xf_says; rw [if_neg (by rw [← e7]; exact c10)]; rw [if_neg (by rw [← e16]; exact c18), if_neg (by rw [← e2]; exact c30), ← ew64, ← e2]; exact Prod.ext e64.symm f64.symm
            exact ⟨by rw [hres], by rw [hres], rfl⟩
          refine lv_iload_n hx hb dX0_says_52 rfl (lv_at hl 2 rfl) ?_
          refine lv_bipush (v := 10) hx hb dX0_says_53 (by decide) ?_
          refine nv_irem hx hb dX0_says_55 (by decide) (fun v55 e55 => ?_)
          refine lv_if_ne (tgt := 63) hx hb dX0_says_56 (by decide) (fun c56 => ?_) (fun c56 => ?_)
          · skip
            refine lv_iconst (v := 0) hx hb dX0_says_63 (by decide) ?_
            exact J64 _ (by subst e2 e7 e16 e42 e55; simp only [if_neg c10, if_neg c18, if_neg c30, if_neg c44, if_neg c56])
          · skip
            refine lv_iconst (v := 1) hx hb dX0_says_59 (by decide) ?_
            refine lv_goto (tgt := 64) hx hb dX0_says_60 (by decide) ?_
            exact J64 _ (by subst e2 e7 e16 e42 e55; simp only [if_neg c10, if_neg c18, if_neg c30, if_neg c44, if_pos c56])
        · skip
          exact absurd (by rw [e16, ← e42]; exact c44) c18
      · have t30 : (v2).toInt < 0 := ww_l0 c30
        refine lv_ldcw (v := (-2000000000)) hx hb hown (hts _ q727) dX0_says_33 ?_
        refine xw_iret hx hb hr hlocks hW hS ?_ dX0_says_36
        have hres : xf_says (xg_l D) X w b = ((-2000000000), X) := by subst e2 e7 e16; simp only [xf_says, if_neg c10, if_neg c18, if_pos c30]
        exact ⟨by rw [hres], by rw [hres], rfl⟩
    · skip
      refine lv_iload_n hx hb dX0_says_21 rfl (lv_at hl 3 rfl) ?_
      refine lv_iconst (v := (-1)) hx hb dX0_says_22 (by decide) ?_
      refine lv_icmp_eq (tgt := 37) hx hb dX0_says_23 (by decide) (fun c23 => ?_) (fun c23 => ?_)
      · skip
        refine lv_aload_n hx hb dX0_says_37 rfl (lv_at hl 1 rfl) ?_
        refine lv_iload_n hx hb dX0_says_38 rfl (lv_at hl 2 rfl) ?_
        refine lv_iload_n hx hb dX0_says_39 rfl (lv_at hl 2 rfl) ?_
        refine lv_bipush (v := 10) hx hb dX0_says_40 (by decide) ?_
        refine nv_irem hx hb dX0_says_42 (by decide) (fun v42 e42 => ?_)
        refine lv_iconst (v := 2) hx hb dX0_says_43 (by decide) ?_
        refine lv_icmp_ne (tgt := 51) hx hb dX0_says_44 (by decide) (fun c44 => ?_) (fun c44 => ?_)
        · skip
          exact absurd (by rw [e42, ← e16]; exact c18) c44
        · skip
          refine xl_null (D := D) hx hb dX0_says_47 ?_
          refine lv_goto (tgt := 52) hx hb dX0_says_48 (by decide) ?_
          refine wm_join (P := fun w64 : Int32 => w64 = (if jr_ w 10 = 0 then 1 else 0)) (j := 64) (rest := [va_rf (xx_o D (-1)), .int w, .ref o]) (ls := ls) (fun w64 ew64 => ?_) (fun J64 => ?_)
          · skip
            refine xw_i (xw_rV (As := [.int w, va_rf (xx_o D (-1)), .int w64]) (rest := []) (n := 3) ⟨hx, hb, hml, hown, hts⟩ hK hN hW (xc_gives lQ G o d0 X E D w (-1) w64 hX (fun h => absurd (by decide) h)) (lw_V q1137 q1139 qs22 q84 q1140) (xr_main hK hW) (by decide +kernel) rfl ⟨Nat.le_of_ble_eq_true rfl, Nat.le_of_ble_eq_true rfl⟩ hl.1 rfl (Nat.le_of_ble_eq_true rfl) dX0_says_64 ⟨Nat.le_of_ble_eq_true rfl, Nat.le_of_ble_eq_true rfl⟩) hS (fun v64 X64 H locs e64 f64 hW hS => ?_)
            refine xw_iret hx hb hr hlocks hW hS ?_ dX0_says_67
            have hres : xf_says (xg_l D) X w b = (v64, X64) := by unfold xf_says; rw [if_neg (by rw [← e7]; exact c10)]; rw [if_pos (by rw [← e16]; exact c18), if_pos c23, ← ew64]; exact Prod.ext e64.symm f64.symm
            exact ⟨by rw [hres], by rw [hres], rfl⟩
          refine lv_iload_n hx hb dX0_says_52 rfl (lv_at hl 2 rfl) ?_
          refine lv_bipush (v := 10) hx hb dX0_says_53 (by decide) ?_
          refine nv_irem hx hb dX0_says_55 (by decide) (fun v55 e55 => ?_)
          refine lv_if_ne (tgt := 63) hx hb dX0_says_56 (by decide) (fun c56 => ?_) (fun c56 => ?_)
          · skip
            refine lv_iconst (v := 0) hx hb dX0_says_63 (by decide) ?_
            exact J64 _ (by subst e2 e7 e16 e42 e55; simp only [if_neg c10, if_pos c18, if_pos c23, if_pos c44, if_neg c56])
          · skip
            refine lv_iconst (v := 1) hx hb dX0_says_59 (by decide) ?_
            refine lv_goto (tgt := 64) hx hb dX0_says_60 (by decide) ?_
            exact J64 _ (by subst e2 e7 e16 e42 e55; simp only [if_neg c10, if_pos c18, if_pos c23, if_pos c44, if_pos c56])
      · skip
        refine lv_goto (tgt := 33) hx hb dX0_says_26 (by decide) ?_
        refine lv_ldcw (v := (-2000000000)) hx hb hown (hts _ q727) dX0_says_33 ?_
        refine xw_iret hx hb hr hlocks hW hS ?_ dX0_says_36
        have hres : xf_says (xg_l D) X w b = ((-2000000000), X) := by subst e2 e7 e16; simp only [xf_says, if_neg c10, if_pos c18, if_neg c23]
        exact ⟨by rw [hres], by rw [hres], rfl⟩

section XD9
variable {p : Program} {l : Launch} {e : Env} {R : Room} {s : State} {m : MethodId} {args : Array Value} {below : List Frame} {meth : Method} {c : Code} {H : Heap} {locs : List Loc} {cells slots : Nat} {Q : State → Prop}
variable {cc : ByteArray} {pc : Nat} {ls : Array Slot} {rest st0 : List Value} {G : wm_G} {o d0 : Nat} {H0 : Heap} {X : mm_S} {E : mm_E} {D : xg} {nL : Nat}
set_option maxHeartbeats 4000000 in
theorem xd_bore_X0 (l : Launch) (F : CallFix p m c cc nL s args lw_all RX0) (hK : wm_K G s) (hN : xn_T s) (hW : xx_W G o d0 X E D H) {b : Int32} (hi : xh_in X b) (sp : Int32) (hT : xv_T X) (hJ : xj_s X) (hR : 3 ≤ R.frames ∧ 145 ≤ R.locals) (hsz : ls.size = nL) (hst : st0 = ([.int sp] : List Value).reverse ++ .ref (xb_ D b) :: rest) (hrest : (rest.map fun v => v.category).sum ≤ 8) (hd : decode cc pc = .ok (.invokevirtual 468, 3)) (hroom : cells ≤ R.cells ∧ slots ≤ R.slots) : xw_Run p l e R s m args below meth c H locs cells slots (F0 m pc ls st0) rest G o d0 D (none) (xf_bore 62 X b sp) E := by
  have hlt := xq_lt hW hi.1
  have h2 := hi.2
  have hqs : xq X b = 2 ∨ xq X b = 3 ∨ xq X b = 4 ∨ xq X b = 5 := by omega
  rcases hqs with hq | hq | hq | hq
  · have hk : rd_ X 60 b = 2 := xb_k hW hi.1 hq
    exact xw_rU (C := RX8) (owner := RX8) (x := yX8_bore) (n := 1) F hK hN hW (xc_bore l G o d0 X E D b ⟨hi.1, by omega⟩ sp hT hJ) (lw_app (List.forall_mem_cons.mpr ⟨q1183, List.forall_mem_cons.mpr ⟨q1186, List.forall_mem_cons.mpr ⟨q1185, List.forall_mem_cons.mpr ⟨q1184, List.forall_mem_cons.mpr ⟨q95, fun _ h => absurd h List.not_mem_nil⟩⟩⟩⟩⟩) (lw_meth q1190)) rfl (xr_body hK hW hi.1 hq) (by decide +kernel) rfl ⟨Nat.le_trans (by decide) hR.1, Nat.le_trans (by decide) hR.2⟩ hsz hst hrest hd hroom
  · have hk : rd_ X 60 b = 3 := xb_k hW hi.1 hq
    exact xw_rU (C := RX9) (owner := RX8) (x := yX8_bore) (n := 1) F hK hN hW (xc_bore l G o d0 X E D b ⟨hi.1, by omega⟩ sp hT hJ) (lw_app (List.forall_mem_cons.mpr ⟨q1183, List.forall_mem_cons.mpr ⟨q1186, List.forall_mem_cons.mpr ⟨q1189, List.forall_mem_cons.mpr ⟨q1184, List.forall_mem_cons.mpr ⟨q95, fun _ h => absurd h List.not_mem_nil⟩⟩⟩⟩⟩) (lw_meth q1190)) rfl (xr_body hK hW hi.1 hq) (by decide +kernel) rfl ⟨Nat.le_trans (by decide) hR.1, Nat.le_trans (by decide) hR.2⟩ hsz hst hrest hd hroom
  · have hk : rd_ X 60 b = 4 := xb_k hW hi.1 hq
    exact xw_rU (C := RX10) (owner := RX8) (x := yX8_bore) (n := 1) F hK hN hW (xc_bore l G o d0 X E D b ⟨hi.1, by omega⟩ sp hT hJ) (lw_app (List.forall_mem_cons.mpr ⟨q1183, List.forall_mem_cons.mpr ⟨q1186, List.forall_mem_cons.mpr ⟨q1188, List.forall_mem_cons.mpr ⟨q1184, List.forall_mem_cons.mpr ⟨q95, fun _ h => absurd h List.not_mem_nil⟩⟩⟩⟩⟩) (lw_meth q1190)) rfl (xr_body hK hW hi.1 hq) (by decide +kernel) rfl ⟨Nat.le_trans (by decide) hR.1, Nat.le_trans (by decide) hR.2⟩ hsz hst hrest hd hroom
  · have hk : rd_ X 60 b = 5 := xb_k hW hi.1 hq
    exact xw_rU (C := RX11) (owner := RX8) (x := yX8_bore) (n := 1) F hK hN hW (xc_bore l G o d0 X E D b ⟨hi.1, by omega⟩ sp hT hJ) (lw_app (List.forall_mem_cons.mpr ⟨q1183, List.forall_mem_cons.mpr ⟨q1186, List.forall_mem_cons.mpr ⟨q1187, List.forall_mem_cons.mpr ⟨q1184, List.forall_mem_cons.mpr ⟨q95, fun _ h => absurd h List.not_mem_nil⟩⟩⟩⟩⟩) (lw_meth q1190)) rfl (xr_body hK hW hi.1 hq) (by decide +kernel) rfl ⟨Nat.le_trans (by decide) hR.1, Nat.le_trans (by decide) hR.2⟩ hsz hst hrest hd hroom

end XD9
set_option maxHeartbeats 4000000 in
theorem xc_drill (lQ : Launch) (G : wm_G) (o d0 : Nat) (X : mm_S) (E : mm_E) (D : xg) (hT : xv_T X) (hX : xv_X X) (hJw : xj_w X) (hJ : xj_s X) : xw_Met lQ G o d0 yX0_drill (ws_ yX0_drill cX0_drill 3 none) 173 X E D [Value.ref o] (none) (xf_drill (xg_l D) X) E := by
  refine xw_start (own := RX0) (by decide +kernel) (Nat.le_of_ble_eq_true rfl) rfl (fun pQ eQ sQ mQ belowQ methQ cQ hx hb hml hr hlocks hts hown hK hN H hW hS ls hl => ?_)
  have hl : lv_has ls 3 [(0, .ref o)] := hl
  generalize hlc : ([] : List Loc) = locs at hS ⊢
  refine lv_aload_n hx hb dX0_drill_0 rfl (lv_at hl 0 rfl) ?_
  refine lv_iconst (v := 2) hx hb dX0_drill_1 (by decide) ?_
  refine xl_null (D := D) hx hb dX0_drill_2 ?_
  refine lv_iconst (v := 0) hx hb dX0_drill_3 (by decide) ?_
  refine xw_i (xw_rV (As := [.int 2, va_rf (xx_o D (-1)), .int 0]) (rest := []) (n := 3) ⟨hx, hb, hml, hown, hts⟩ hK hN hW (xc_gives lQ G o d0 X E D 2 (-1) 0 hX (fun h => absurd (by decide) h)) (lw_V q1137 q1139 qs22 q84 q1140) (xr_main hK hW) (by decide +kernel) rfl ⟨Nat.le_of_ble_eq_true rfl, Nat.le_of_ble_eq_true rfl⟩ hl.1 rfl (Nat.le_of_ble_eq_true rfl) dX0_drill_4 ⟨Nat.le_of_ble_eq_true rfl, Nat.le_of_ble_eq_true rfl⟩) hS (fun v4 X4 H locs e4 f4 hW hS => ?_)
  have g4 : fr_ [19, 20, 31, 65, 66, 67, 68, 69] X X4 := by rw [f4]; exact (xf_gives_fr _ _ _ _ _).le' (by decide)
  refine lv_if_eq (tgt := 11) hx hb dX0_drill_7 (by decide) (fun c7 => ?_) (fun c7 => ?_)
  · skip
    refine lv_iconst (v := 0) hx hb dX0_drill_11 (by decide) ?_
    refine lv_istore_n (lv' := [(1, .int 0), (0, .ref o)]) hx hb dX0_drill_12 rfl hl (by decide) rfl (fun ls hl => ?_)
    have L13 : ∀ (fu13 : Nat) (m : Int32) (Y0 : mm_S) (H : Heap) (locs : List Loc), (3 - m.toInt < fu13) → (0 ≤ m.toInt) → (m.toInt ≤ 3) → (fr_ [19, 20, 31, 65, 66, 67, 68, 69] X Y0) → (xv_T Y0) → (xf_dr_m fu13 Y0 m = xf_dr_ms X4) → xx_W G o d0 Y0 E D H → va_S (xx_F o d0) sQ.heap H locs → ∀ ls : Array Slot, lv_has ls 3 [(1, .int m), (0, .ref o)] → W pQ lQ eQ (wm_rm 173) sQ mQ ([Value.ref o] : List Value).toArray belowQ methQ cQ H locs 0 0 (MQ belowQ (wm_Q (fun vQ HQ => vQ = none ∧ xx_W G o d0 (xf_drill (xg_l D) X) E D HQ) (xx_F o d0)) ([Value.ref o] : List Value).toArray sQ 0 0 (xx_F o d0)) (F0 mQ 13 ls []) := by
      intro fu13
      induction fu13 with
      | zero =>
        intro m Y0 H locs hm13 i013 i113 iF13 iT13 hgo13 hW hS ls hl
        exact absurd hm13 (by omega)
      | succ fu13 ih13 =>
        intro m Y0 H locs hm13 i013 i113 iF13 iT13 hgo13 hW hS ls hl
        refine lv_iload_n hx hb dX0_drill_13 rfl (lv_at hl 0 rfl) ?_
        refine lv_iconst (v := 3) hx hb dX0_drill_14 (by decide) ?_
        refine lv_icmp_ge (tgt := 82) hx hb dX0_drill_15 (by decide) (fun c15 => ?_) (fun c15 => ?_)
        · have t15 : 3 ≤ (m).toInt := ww_le c15
          have hs : Y0 = xf_dr_ms X4 := by rw [xf_dr_m, if_pos c15] at hgo13; exact hgo13
          clear hgo13
          refine lv_iconst (v := 0) hx hb dX0_drill_82 (by decide) ?_
          refine lv_istore_n (lv' := [(1, .int 0), (0, .ref o)]) hx hb dX0_drill_83 rfl hl (by decide) rfl (fun ls hl => ?_)
          have L84 : ∀ (fu84 : Nat) (k : Int32) (Y1 : mm_S) (H : Heap) (locs : List Loc), ((fd_ X 4).toInt - k.toInt < fu84) → (0 ≤ k.toInt) → (k.toInt ≤ (fd_ X 4).toInt) → (fr_ [19, 20, 31, 65, 66, 67, 68, 69] X Y1) → (xv_T Y1) → (xf_dr_b fu84 Y1 k = xf_drill (xg_l D) X) → xx_W G o d0 Y1 E D H → va_S (xx_F o d0) sQ.heap H locs → ∀ ls : Array Slot, lv_has ls 3 [(1, .int k), (0, .ref o)] → W pQ lQ eQ (wm_rm 173) sQ mQ ([Value.ref o] : List Value).toArray belowQ methQ cQ H locs 0 0 (MQ belowQ (wm_Q (fun vQ HQ => vQ = none ∧ xx_W G o d0 (xf_drill (xg_l D) X) E D HQ) (xx_F o d0)) ([Value.ref o] : List Value).toArray sQ 0 0 (xx_F o d0)) (F0 mQ 84 ls []) := by
            intro fu84
            induction fu84 with
            | zero =>
              intro k Y1 H locs hm84 i084 i184 iF84 iT84 hgo84 hW hS ls hl
              exact absurd hm84 (by omega)
            | succ fu84 ih84 =>
              intro k Y1 H locs hm84 i084 i184 iF84 iT84 hgo84 hW hS ls hl
              have x4 : (fd_ Y1 4).toInt = (fd_ X 4).toInt := by rw [fd_of (iF84 4 (by decide))]
              refine lv_iload_n hx hb dX0_drill_84 rfl (lv_at hl 0 rfl) ?_
              refine lv_aload_n hx hb dX0_drill_85 rfl (lv_at hl 1 rfl) ?_
              refine xx_geti hx hb hts hown hK hW 4 rfl rfl (by decide) (by decide) q271 dX0_drill_86 ?_
              refine lv_icmp_ge (tgt := 150) hx hb dX0_drill_89 (by decide) (fun c89 => ?_) (fun c89 => ?_)
              · have t89 : ((fd_ Y1 4)).toInt ≤ (k).toInt := ww_le c89
                refine xw_vret hx hb hr hlocks hW hS ?_ dX0_drill_150
                have hres : xf_drill (xg_l D) X = Y1 := by rw [← hgo84, xf_dr_b, if_pos c89]
                exact ⟨hres.symm, rfl⟩
              · have t89 : (k).toInt < ((fd_ Y1 4)).toInt := ww_nle c89
                refine lv_iconst (v := 0) hx hb dX0_drill_92 (by decide) ?_
                refine lv_istore_n (lv' := [(2, .int 0), (1, .int k), (0, .ref o)]) hx hb dX0_drill_93 rfl hl (by decide) rfl (fun ls hl => ?_)
                have L94 : ∀ (fu94 : Nat) (m : Int32) (Y2 : mm_S) (H : Heap) (locs : List Loc), (3 - m.toInt < fu94) → (0 ≤ m.toInt) → (m.toInt ≤ 3) → (fr_ [19, 20, 31, 65, 66, 67, 68, 69] X Y2) → (xv_T Y2) → (xf_dr_i fu94 Y2 k m = xf_dr_is Y1 k) → xx_W G o d0 Y2 E D H → va_S (xx_F o d0) sQ.heap H locs → ∀ ls : Array Slot, lv_has ls 3 [(2, .int m), (1, .int k), (0, .ref o)] → W pQ lQ eQ (wm_rm 173) sQ mQ ([Value.ref o] : List Value).toArray belowQ methQ cQ H locs 0 0 (MQ belowQ (wm_Q (fun vQ HQ => vQ = none ∧ xx_W G o d0 (xf_drill (xg_l D) X) E D HQ) (xx_F o d0)) ([Value.ref o] : List Value).toArray sQ 0 0 (xx_F o d0)) (F0 mQ 94 ls []) := by
                  intro fu94
                  induction fu94 with
                  | zero =>
                    intro m Y2 H locs hm94 i094 i194 iF94 iT94 hgo94 hW hS ls hl
                    exact absurd hm94 (by omega)
                  | succ fu94 ih94 =>
                    intro m Y2 H locs hm94 i094 i194 iF94 iT94 hgo94 hW hS ls hl
                    have y4 : (fd_ Y2 4).toInt = (fd_ X 4).toInt := by rw [fd_of (iF94 4 (by decide))]
                    refine lv_iload_n hx hb dX0_drill_94 rfl (lv_at hl 0 rfl) ?_
                    refine lv_iconst (v := 3) hx hb dX0_drill_95 (by decide) ?_
                    refine lv_icmp_ge (tgt := 144) hx hb dX0_drill_96 (by decide) (fun c96 => ?_) (fun c96 => ?_)
                    · have t96 : 3 ≤ (m).toInt := ww_le c96
                      have hs2 : Y2 = xf_dr_is Y1 k := by rw [xf_dr_i, if_pos c96] at hgo94; exact hgo94
                      clear hgo94
                      obtain ⟨v144, e144⟩ : ∃ yQ : Int32, yQ = k + 1 := ⟨_, rfl⟩
                      refine lv_iinc (v := v144) (lv' := [(1, .int v144), (2, .int m), (0, .ref o)]) hx hb dX0_drill_144 hl (k := 1) rfl (by rw [e144]; rfl) (by decide) rfl (fun ls hl => ?_)
                      refine lv_goto (tgt := 84) hx hb dX0_drill_147 (by decide) ?_
                      have tb : v144.toInt = k.toInt + 1 := by rw [e144]; exact ww_inc t89
                      exact ih84 v144 Y2 H locs (by omega) (by omega) (by omega) iF94 iT94 (by rw [e144, hs2]; rw [xf_dr_b, if_neg c89] at hgo84; exact hgo84) hW hS ls (lv_sub hl [0, 2] rfl)
                    · have t96 : (m).toInt < 3 := ww_nle c96
                      have hik : xb_in Y2 k := ⟨i084, by omega⟩
                      refine lv_aload_n hx hb dX0_drill_99 rfl (lv_at hl 2 rfl) ?_
                      refine xx_geta hx hb hts hown hK hW 31 rfl q304 dX0_drill_100 ?_
                      refine lv_iload_n hx hb dX0_drill_103 rfl (lv_at hl 0 rfl) ?_
                      refine xx_zald hx hb hK hW 31 rfl (ww_in (by omega) (by omega)) dX0_drill_104 ?_
                      refine lv_if_eq (tgt := 138) hx hb dX0_drill_105 (by decide) (fun c105 => ?_) (fun c105 => ?_)
                      · skip
                        obtain ⟨v138, e138⟩ : ∃ yQ : Int32, yQ = m + 1 := ⟨_, rfl⟩
                        refine lv_iinc (v := v138) (lv' := [(2, .int v138), (1, .int k), (0, .ref o)]) hx hb dX0_drill_138 hl (k := 0) rfl (by rw [e138]; rfl) (by decide) rfl (fun ls hl => ?_)
                        refine lv_goto (tgt := 94) hx hb dX0_drill_141 (by decide) ?_
                        have tb : v138.toInt = m.toInt + 1 := by rw [e138]; exact ww_inc' (by omega)
                        exact ih94 v138 Y2 H locs (by omega) (by omega) (by omega) (by first | exact iF94 | (rw [f135]; exact iF94.tr ((xf_bore_fr _ _ _ _).le' (by decide)))) (by first | exact iT94 | (rw [f135]; exact xf_bore_xv _ _ _ _ hi.1.1 iT94)) (by first | (rw [e138, f135]; rw [xf_dr_i, if_neg c96, if_neg c105, if_pos c120] at hgo94; exact hgo94) | (rw [e138]; rw [xf_dr_i, if_neg c96, if_neg c105, if_neg c120] at hgo94; exact hgo94) | (rw [e138]; rw [xf_dr_i, if_neg c96, if_pos c105] at hgo94; exact hgo94)) hW hS ls (lv_sub hl [0, 1, 2] rfl)
                      · skip
                        refine lv_aload_n hx hb dX0_drill_108 rfl (lv_at hl 2 rfl) ?_
                        refine xx_getr hx hb hts hown hK hW 9 rfl rfl (by decide) (by decide) q278 dX0_drill_109 ?_
                        refine lv_iload_n hx hb dX0_drill_112 rfl (lv_at hl 0 rfl) ?_
                        refine xx_wald hx hb hK hW (ww_in (by omega) (by omega)) dX0_drill_113 ?_
                        refine lv_aload_n hx hb dX0_drill_114 rfl (lv_at hl 2 rfl) ?_
                        refine xx_getr hx hb hts hown hK hW 3 rfl rfl (by decide) (by decide) q270 dX0_drill_115 ?_
                        refine lv_iload_n hx hb dX0_drill_118 rfl (lv_at hl 1 rfl) ?_
                        refine xx_bald hx hb hK hW hik dX0_drill_119 ?_
                        refine xl_acmp_ne (tgt := 138) hx hb hW hik (hW.rng.2.1 m.toNatClampNeg (by rw [ww_cl]; omega)) dX0_drill_120 (by decide) (fun c120 => ?_) (fun c120 => ?_)
                        · skip
                          obtain ⟨v138, e138⟩ : ∃ yQ : Int32, yQ = m + 1 := ⟨_, rfl⟩
                          refine lv_iinc (v := v138) (lv' := [(2, .int v138), (1, .int k), (0, .ref o)]) hx hb dX0_drill_138 hl (k := 0) rfl (by rw [e138]; rfl) (by decide) rfl (fun ls hl => ?_)
                          refine lv_goto (tgt := 94) hx hb dX0_drill_141 (by decide) ?_
                          have tb : v138.toInt = m.toInt + 1 := by rw [e138]; exact ww_inc' (by omega)
                          exact ih94 v138 Y2 H locs (by omega) (by omega) (by omega) (by first | exact iF94 | (rw [f135]; exact iF94.tr ((xf_bore_fr _ _ _ _).le' (by decide)))) (by first | exact iT94 | (rw [f135]; exact xf_bore_xv _ _ _ _ hi.1.1 iT94)) (by first | (rw [e138, f135]; rw [xf_dr_i, if_neg c96, if_neg c105, if_pos c120] at hgo94; exact hgo94) | (rw [e138]; rw [xf_dr_i, if_neg c96, if_neg c105, if_neg c120] at hgo94; exact hgo94) | (rw [e138]; rw [xf_dr_i, if_neg c96, if_pos c105] at hgo94; exact hgo94)) hW hS ls (lv_sub hl [0, 1, 2] rfl)
                        · skip
                          have hi := xj_w_eq ⟨iF94 4 (by decide), iF94 60 (by decide)⟩ (iF94 9 (by decide)) hJw m i094 (by omega) (by rw [c120]; exact ww_nlt' (by rw [ww_00]; exact i084))
                          refine lv_aload_n hx hb dX0_drill_123 rfl (lv_at hl 2 rfl) ?_
                          refine xx_getr hx hb hts hown hK hW 9 rfl rfl (by decide) (by decide) q278 dX0_drill_124 ?_
                          refine lv_iload_n hx hb dX0_drill_127 rfl (lv_at hl 0 rfl) ?_
                          refine xx_wald hx hb hK hW (ww_in (by omega) (by omega)) dX0_drill_128 ?_
                          refine lv_aload_n hx hb dX0_drill_129 rfl (lv_at hl 2 rfl) ?_
                          refine xx_geta hx hb hts hown hK hW 8 rfl q277 dX0_drill_130 ?_
                          refine lv_iload_n hx hb dX0_drill_133 rfl (lv_at hl 0 rfl) ?_
                          refine xx_iald hx hb hK hW 8 rfl (ww_in (by omega) (by omega)) dX0_drill_134 ?_
                          refine xw_v (xd_bore_X0 (rest := []) lQ ⟨hx, hb, hml, hown, hts⟩ hK hN hW hi (rd_ Y2 8 m) iT94 (xj_s_eq ⟨iF94 4 (by decide), iF94 60 (by decide)⟩ (iF94 5 (by decide)) hJ) ⟨Nat.le_of_ble_eq_true rfl, Nat.le_of_ble_eq_true rfl⟩ hl.1 (by rw [xx_o_pos hi.1.1]; rfl) (Nat.le_of_ble_eq_true rfl) dX0_drill_135 ⟨Nat.le_of_ble_eq_true rfl, Nat.le_of_ble_eq_true rfl⟩) hS (fun X135 H locs f135 hW hS => ?_)
                          obtain ⟨v138, e138⟩ : ∃ yQ : Int32, yQ = m + 1 := ⟨_, rfl⟩
                          refine lv_iinc (v := v138) (lv' := [(2, .int v138), (1, .int k), (0, .ref o)]) hx hb dX0_drill_138 hl (k := 0) rfl (by rw [e138]; rfl) (by decide) rfl (fun ls hl => ?_)
                          refine lv_goto (tgt := 94) hx hb dX0_drill_141 (by decide) ?_
                          have tb : v138.toInt = m.toInt + 1 := by rw [e138]; exact ww_inc' (by omega)
                          exact ih94 v138 X135 H locs (by omega) (by omega) (by omega) (by first | exact iF94 | (rw [f135]; exact iF94.tr ((xf_bore_fr _ _ _ _).le' (by decide)))) (by first | exact iT94 | (rw [f135]; exact xf_bore_xv _ _ _ _ hi.1.1 iT94)) (by first | (rw [e138, f135]; rw [xf_dr_i, if_neg c96, if_neg c105, if_pos c120] at hgo94; exact hgo94) | (rw [e138]; rw [xf_dr_i, if_neg c96, if_neg c105, if_neg c120] at hgo94; exact hgo94) | (rw [e138]; rw [xf_dr_i, if_neg c96, if_pos c105] at hgo94; exact hgo94)) hW hS ls (lv_sub hl [0, 1, 2] rfl)
                exact L94 4 0 Y1 H locs (by decide) (by decide) (by decide) iF84 iT84 (rfl) hW hS ls (lv_sub hl [0, 1, 2] rfl)
          exact L84 121 0 Y0 H locs (by have h4 := (xv_W hW).2; rw [fd_of (iF13 4 (by decide))] at h4; show _ - 0 < (121 : Int); omega) (by decide) (by have h4 := (xv_W hW).1; rw [fd_of (iF13 4 (by decide))] at h4; show (0 : Int) ≤ _; exact h4) iF13 iT13 (by unfold xf_drill; rw [if_pos (by rw [← e4]; exact c7), ← f4, hs]) hW hS ls (lv_sub hl [0, 1] rfl)
        · have t15 : (m).toInt < 3 := ww_nle c15
          refine lv_aload_n hx hb dX0_drill_18 rfl (lv_at hl 1 rfl) ?_
          refine xx_geta hx hb hts hown hK hW 31 rfl q304 dX0_drill_19 ?_
          refine lv_iload_n hx hb dX0_drill_22 rfl (lv_at hl 0 rfl) ?_
          refine wm_join (P := fun w50 : Int32 => w50 = xf_dr_w Y0 m) (j := 50) (rest := [.int m, .ref (o + 21)]) (ls := ls) (fun w50 ew50 => ?_) (fun J50 => ?_)
          · skip
            refine xx_zast hx hb hK hW hS 31 rfl (by rw [ew50]; unfold xf_dr_w; split; rfl; split <;> rfl) (ww_in (by omega) (by omega)) dX0_drill_50 (fun X50 H locs f50 hW hS => ?_)
            have n50 : X50 = xf_dr_1 Y0 m := by rw [f50, ew50]; rfl
            have r50 : fr_ [19, 20, 31, 65, 66, 67, 68, 69] X X50 := by rw [f50]; exact iF13.wr (by decide)
            refine lv_aload_n hx hb dX0_drill_51 rfl (lv_at hl 1 rfl) ?_
            refine xx_geta hx hb hts hown hK hW 31 rfl q304 dX0_drill_52 ?_
            refine lv_iload_n hx hb dX0_drill_55 rfl (lv_at hl 0 rfl) ?_
            refine xx_zald hx hb hK hW 31 rfl (ww_in (by omega) (by omega)) dX0_drill_56 ?_
            refine lv_if_eq (tgt := 76) hx hb dX0_drill_57 (by decide) (fun c57 => ?_) (fun c57 => ?_)
            · skip
              obtain ⟨v76, e76⟩ : ∃ yQ : Int32, yQ = m + 1 := ⟨_, rfl⟩
              refine lv_iinc (v := v76) (lv' := [(1, .int v76), (0, .ref o)]) hx hb dX0_drill_76 hl (k := 0) rfl (by rw [e76]; rfl) (by decide) rfl (fun ls hl => ?_)
              refine lv_goto (tgt := 13) hx hb dX0_drill_79 (by decide) ?_
              have tb : v76.toInt = m.toInt + 1 := by rw [e76]; exact ww_inc' (by omega)
              exact ih13 v76 X50 H locs (by omega) (by omega) (by omega) (by first | exact r50 | (rw [f73]; exact r50.wr (by decide))) (by have r := xf_dr2_fr Y0 m; have z : X50 = xf_dr_2 (xf_dr_1 Y0 m) m := (by unfold xf_dr_2; rw [← n50]; first | rw [if_pos c57] | rw [if_neg c57, f73, e72]); rw [z]; exact xv_T_of (r 64 (by decide)) (r 66 (by decide)) iT13) (by rw [e76]; have z : X50 = xf_dr_2 (xf_dr_1 Y0 m) m := (by unfold xf_dr_2; rw [← n50]; first | rw [if_pos c57] | rw [if_neg c57, f73, e72]); rw [z]; rw [xf_dr_m, if_neg c15] at hgo13; exact hgo13) hW hS ls (lv_sub hl [0, 1] rfl)
            · skip
              have hp9 : ¬ rd_ X50 9 m < 0 := by rw [n50]; exact xf_dr_1_t (by rw [← n50]; exact c57)
              have hi := xj_w_eq ⟨r50 4 (by decide), r50 60 (by decide)⟩ (r50 9 (by decide)) hJw m i013 (by omega) hp9
              refine lv_aload_n hx hb dX0_drill_60 rfl (lv_at hl 1 rfl) ?_
              refine xx_getr hx hb hts hown hK hW 9 rfl rfl (by decide) (by decide) q278 dX0_drill_61 ?_
              refine lv_iload_n hx hb dX0_drill_64 rfl (lv_at hl 0 rfl) ?_
              refine xx_wald hx hb hK hW (ww_in (by omega) (by omega)) dX0_drill_65 ?_
              refine lv_dup hx hb dX0_drill_66 (va_rf_c _) ?_
              refine xl_top hi.1.1 ?_
              refine xb_getN hx hb hts hown hK hW hi.1 (k := 10) (xf_hole hi.2 (k := 10) (by decide)) (hN.nf q536) rfl (xb_vi (f := 68) (xf_hole hi.2 (k := 10) (by decide)) (by decide)) dX0_drill_67 ?_
              refine lv_bipush (v := 60) hx hb dX0_drill_70 (by decide) ?_
              refine nv_iadd hx hb dX0_drill_72 (fun v72 e72 => ?_)
              refine xl_top2 hi.1.1 ?_
              refine xb_putN hx hb hts hown hK hW hS hi.1 (k := 10) (f := 68) (xf_hole hi.2 (k := 10) (by decide)) (xf_hnm _ hi.2 10 (by decide) (by decide)) (by decide) rfl rfl rfl (hN.nf q536) rfl dX0_drill_73 (fun X73 H locs f73 hW hS => ?_)
              have hi : xh_in X73 (rd_ X50 9 m) := by rw [f73]; exact xh_wr hi (by decide) (by decide)
              obtain ⟨v76, e76⟩ : ∃ yQ : Int32, yQ = m + 1 := ⟨_, rfl⟩
              refine lv_iinc (v := v76) (lv' := [(1, .int v76), (0, .ref o)]) hx hb dX0_drill_76 hl (k := 0) rfl (by rw [e76]; rfl) (by decide) rfl (fun ls hl => ?_)
              refine lv_goto (tgt := 13) hx hb dX0_drill_79 (by decide) ?_
              have tb : v76.toInt = m.toInt + 1 := by rw [e76]; exact ww_inc' (by omega)
              exact ih13 v76 X73 H locs (by omega) (by omega) (by omega) (by first | exact r50 | (rw [f73]; exact r50.wr (by decide))) (by have r := xf_dr2_fr Y0 m; have z : X73 = xf_dr_2 (xf_dr_1 Y0 m) m := (by unfold xf_dr_2; rw [← n50]; first | rw [if_pos c57] | rw [if_neg c57, f73, e72]); rw [z]; exact xv_T_of (r 64 (by decide)) (r 66 (by decide)) iT13) (by rw [e76]; have z : X73 = xf_dr_2 (xf_dr_1 Y0 m) m := (by unfold xf_dr_2; rw [← n50]; first | rw [if_pos c57] | rw [if_neg c57, f73, e72]); rw [z]; rw [xf_dr_m, if_neg c15] at hgo13; exact hgo13) hW hS ls (lv_sub hl [0, 1] rfl)
          refine lv_aload_n hx hb dX0_drill_23 rfl (lv_at hl 1 rfl) ?_
          refine xx_getr hx hb hts hown hK hW 9 rfl rfl (by decide) (by decide) q278 dX0_drill_24 ?_
          refine lv_iload_n hx hb dX0_drill_27 rfl (lv_at hl 0 rfl) ?_
          refine xx_wald hx hb hK hW (ww_in (by omega) (by omega)) dX0_drill_28 ?_
          refine xl_ifnull (tgt := 49) hx hb dX0_drill_29 (by decide) (fun c29 => ?_) (fun c29 => ?_)
          · have t29 : ((rd_ Y0 9 m)).toInt < 0 := ww_lt c29
            refine lv_iconst (v := 0) hx hb dX0_drill_49 (by decide) ?_
            exact J50 _ (by simp only [if_neg c15, if_pos c29, xf_dr_w])
          · have t29 : 0 ≤ ((rd_ Y0 9 m)).toInt := ww_nlt c29
            refine lv_aload_n hx hb dX0_drill_32 rfl (lv_at hl 1 rfl) ?_
            refine xx_geta hx hb hts hown hK hW 10 rfl q279 dX0_drill_33 ?_
            refine lv_iload_n hx hb dX0_drill_36 rfl (lv_at hl 0 rfl) ?_
            refine xx_iald hx hb hK hW 10 rfl (ww_in (by omega) (by omega)) dX0_drill_37 ?_
            refine lv_aload_n hx hb dX0_drill_38 rfl (lv_at hl 1 rfl) ?_
            refine xx_geti hx hb hts hown hK hW 0 rfl rfl (by decide) (by decide) q265 dX0_drill_39 ?_
            refine lv_icmp_ge (tgt := 49) hx hb dX0_drill_42 (by decide) (fun c42 => ?_) (fun c42 => ?_)
            · have t42 : ((fd_ Y0 0)).toInt ≤ ((rd_ Y0 10 m)).toInt := ww_le c42
              refine lv_iconst (v := 0) hx hb dX0_drill_49 (by decide) ?_
              exact J50 _ (by simp only [if_neg c15, if_neg c29, if_pos c42, xf_dr_w])
            · have t42 : ((rd_ Y0 10 m)).toInt < ((fd_ Y0 0)).toInt := ww_nle c42
              refine lv_iconst (v := 1) hx hb dX0_drill_45 (by decide) ?_
              refine lv_goto (tgt := 50) hx hb dX0_drill_46 (by decide) ?_
              exact J50 _ (by simp only [if_neg c15, if_neg c29, if_neg c42, xf_dr_w])
    exact L13 4 0 X4 H locs (by decide) (by decide) (by decide) g4 (by have r := xf_gives_fr (xg_l D) X 2 (-1) 0; rw [f4]; exact xv_T_of (r 64 (by decide)) (r 66 (by decide)) hT) (rfl) hW hS ls (lv_sub hl [0, 1] rfl)
  · skip
    refine xw_vret hx hb hr hlocks hW hS ?_ dX0_drill_10
    have hres : xf_drill (xg_l D) X = X4 := by unfold xf_drill; rw [if_neg (by rw [← e4]; exact c7)]; exact f4.symm
    exact ⟨hres.symm, rfl⟩

set_option maxHeartbeats 4000000 in
theorem xc_feedAll (lQ : Launch) (G : wm_G) (o d0 : Nat) (X : mm_S) (E : mm_E) (D : xg) (hX : xv_X X) : xw_Met lQ G o d0 yX0_feedAll (ws_ yX0_feedAll cX0_feedAll 4 none) 173 X E D [Value.ref o] (none) (xf_feedAll (xg_l D) X) E := by
  refine xw_start (own := RX0) (by decide +kernel) (Nat.le_of_ble_eq_true rfl) rfl (fun pQ eQ sQ mQ belowQ methQ cQ hx hb hml hr hlocks hts hown hK hN H hW hS ls hl => ?_)
  have hl : lv_has ls 4 [(0, .ref o)] := hl
  generalize hlc : ([] : List Loc) = locs at hS ⊢
  refine lv_iconst (v := 0) hx hb dX0_feedAll_0 (by decide) ?_
  refine lv_istore_n (lv' := [(1, .int 0), (0, .ref o)]) hx hb dX0_feedAll_1 rfl hl (by decide) rfl (fun ls hl => ?_)
  have L2 : ∀ (fu2 : Nat) (k : Int32) (Y0 : mm_S) (H : Heap) (locs : List Loc), ((fd_ X 4).toInt - k.toInt < fu2) → (0 ≤ k.toInt) → (k.toInt ≤ (fd_ X 4).toInt) → (fr_ [19, 20, 26, 27, 77] X Y0) → (xf_fe_go fu2 (xg_l D) Y0 k = xf_feedAll (xg_l D) X) → xx_W G o d0 Y0 E D H → va_S (xx_F o d0) sQ.heap H locs → ∀ ls : Array Slot, lv_has ls 4 [(1, .int k), (0, .ref o)] → W pQ lQ eQ (wm_rm 173) sQ mQ ([Value.ref o] : List Value).toArray belowQ methQ cQ H locs 0 0 (MQ belowQ (wm_Q (fun vQ HQ => vQ = none ∧ xx_W G o d0 (xf_feedAll (xg_l D) X) E D HQ) (xx_F o d0)) ([Value.ref o] : List Value).toArray sQ 0 0 (xx_F o d0)) (F0 mQ 2 ls []) := by
    intro fu2
    induction fu2 with
    | zero =>
      intro k Y0 H locs hm2 i02 i12 iF2 hgo2 hW hS ls hl
      exact absurd hm2 (by omega)
    | succ fu2 ih2 =>
      intro k Y0 H locs hm2 i02 i12 iF2 hgo2 hW hS ls hl
      have e4 : (fd_ Y0 4).toInt = (fd_ X 4).toInt := by rw [fd_of (iF2 4 (by decide))]
      have hb2 := (xv_W hW).2
      refine lv_iload_n hx hb dX0_feedAll_2 rfl (lv_at hl 0 rfl) ?_
      refine lv_aload_n hx hb dX0_feedAll_3 rfl (lv_at hl 1 rfl) ?_
      refine xx_geti hx hb hts hown hK hW 4 rfl rfl (by decide) (by decide) q271 dX0_feedAll_4 ?_
      refine lv_icmp_ge (tgt := 93) hx hb dX0_feedAll_7 (by decide) (fun c7 => ?_) (fun c7 => ?_)
      · have t7 : ((fd_ Y0 4)).toInt ≤ (k).toInt := ww_le c7
        refine xw_vret hx hb hr hlocks hW hS ?_ dX0_feedAll_93
        have hres : xf_feedAll (xg_l D) X = Y0 := by rw [← hgo2, xf_fe_go, if_pos c7]
        exact ⟨hres.symm, rfl⟩
      · have t7 : (k).toInt < ((fd_ Y0 4)).toInt := ww_nle c7
        refine lv_aload_n hx hb dX0_feedAll_10 rfl (lv_at hl 1 rfl) ?_
        refine lv_iload_n hx hb dX0_feedAll_11 rfl (lv_at hl 0 rfl) ?_
        refine xw_b (xw_rV (As := [.int k]) (rest := []) (n := 1) ⟨hx, hb, hml, hown, hts⟩ hK hN hW (xc_belowOf lQ G o d0 Y0 E D k) (lw_V q1145 q1147 qs24 q84 q1148) (xr_main hK hW) (by decide +kernel) rfl ⟨Nat.le_of_ble_eq_true rfl, Nat.le_of_ble_eq_true rfl⟩ hl.1 rfl (Nat.le_of_ble_eq_true rfl) dX0_feedAll_12 ⟨Nat.le_of_ble_eq_true rfl, Nat.le_of_ble_eq_true rfl⟩) hS (fun v12 H locs e12 hW hS => ?_)
        refine xl_astore_n (lv' := [(2, va_rf (xx_o D v12)), (1, .int k), (0, .ref o)]) hx hb dX0_feedAll_15 rfl hl (by decide) rfl (fun ls hl => ?_)
        refine xl_aload_n hx hb dX0_feedAll_16 rfl (lv_at hl 0 rfl) ?_
        refine xl_ifnonnull (tgt := 23) hx hb dX0_feedAll_17 (by decide) (fun c17 => ?_) (fun c17 => ?_)
        · have t17 : 0 ≤ (v12).toInt := ww_nl0 c17
          have hi17 : xm_in Y0 (xf_belowOf Y0 k) := xf_belowOf_q (xv_W hW) (by rw [← e12]; exact c17)
          refine lv_aload_n hx hb dX0_feedAll_23 rfl (lv_at hl 2 rfl) ?_
          refine xx_geti hx hb hts hown hK hW 26 rfl rfl (by decide) (by decide) q299 dX0_feedAll_24 ?_
          refine lv_aload_n hx hb dX0_feedAll_27 rfl (lv_at hl 2 rfl) ?_
          refine lv_bipush (v := 10) hx hb dX0_feedAll_28 (by decide) ?_
          refine xl_aload_n hx hb dX0_feedAll_30 rfl (lv_at hl 0 rfl) ?_
          refine lv_iconst (v := 1) hx hb dX0_feedAll_31 (by decide) ?_
          refine xw_i (xw_rV (As := [.int 10, va_rf (xx_o D v12), .int 1]) (rest := [.int (fd_ Y0 26)]) (n := 3) ⟨hx, hb, hml, hown, hts⟩ hK hN hW (xc_gives lQ G o d0 Y0 E D 10 v12 1 (xv_X_of (iF2 25 (by decide)) hX) (fun _ => by rw [e12]; exact hi17)) (lw_V q1137 q1139 qs22 q84 q1140) (xr_main hK hW) (by decide +kernel) rfl ⟨Nat.le_of_ble_eq_true rfl, Nat.le_of_ble_eq_true rfl⟩ hl.1 rfl (Nat.le_of_ble_eq_true rfl) dX0_feedAll_32 ⟨Nat.le_of_ble_eq_true rfl, Nat.le_of_ble_eq_true rfl⟩) hS (fun v32 X32 H locs e32 f32 hW hS => ?_)
          have hi17 : xm_in X32 (xf_belowOf Y0 k) := by rw [f32]; exact xm_eq (xf_gives_e _ _ _ _ _) hi17
          refine lv_iconst (v := 0) hx hb dX0_feedAll_35 (by decide) ?_
          refine lv_bipush (v := 9) hx hb dX0_feedAll_36 (by decide) ?_
          refine pp_calli (As := [.int v32, .int 0, .int 9]) (rest := [.int (fd_ Y0 26)]) (n := 3) ⟨hx, hb, hml, hown, hts⟩ (xc_held lQ v32 0 9 (by decide)) (lw_S q860 q861 q84 q862) (by decide +kernel) rfl ⟨Nat.le_of_ble_eq_true rfl, Nat.le_of_ble_eq_true rfl⟩ hl.1 rfl (Nat.le_of_ble_eq_true rfl) dX0_feedAll_38 ⟨Nat.le_of_ble_eq_true rfl, Nat.le_of_ble_eq_true rfl⟩ (fun v38 e38 => ?_)
          refine pp_calli (As := [.int (fd_ Y0 26), .int v38]) (rest := []) (n := 2) ⟨hx, hb, hml, hown, hts⟩ (xc_min lQ (fd_ Y0 26) v38) (lw_S q863 q864 q101 q865) (by decide +kernel) rfl ⟨Nat.le_of_ble_eq_true rfl, Nat.le_of_ble_eq_true rfl⟩ hl.1 rfl (Nat.le_of_ble_eq_true rfl) dX0_feedAll_41 ⟨Nat.le_of_ble_eq_true rfl, Nat.le_of_ble_eq_true rfl⟩ (fun v41 e41 => ?_)
          refine lv_istore_n (i := 3) (lv' := [(3, .int v41), (2, va_rf (xx_o D v12)), (1, .int k), (0, .ref o)]) hx hb dX0_feedAll_44 rfl hl (by decide) (by simp [va_rf_c]) (fun ls hl => ?_)
          refine lv_aload_n hx hb dX0_feedAll_45 rfl (lv_at hl 3 rfl) ?_
          refine lv_dup hx hb dX0_feedAll_46 rfl ?_
          refine xx_geti hx hb hts hown hK hW 26 rfl rfl (by decide) (by decide) q299 dX0_feedAll_47 ?_
          refine lv_iload_n hx hb dX0_feedAll_50 rfl (lv_at hl 0 rfl) ?_
          refine nv_isub hx hb dX0_feedAll_51 (fun v51 e51 => ?_)
          refine xx_puti hx hb hts hown hK hW hS 26 rfl rfl (by decide) (by decide) (by decide) rfl rfl rfl q299 dX0_feedAll_52 (fun X52 H locs f52 hW hS => ?_)
          have hi17 : xm_in X52 (xf_belowOf Y0 k) := by rw [f52]; exact xm_fw hi17 (by decide) (by decide)
          refine lv_aload_n hx hb dX0_feedAll_55 rfl (lv_at hl 3 rfl) ?_
          refine lv_dup hx hb dX0_feedAll_56 rfl ?_
          refine xx_geti hx hb hts hown hK hW 27 rfl rfl (by decide) (by decide) q300 dX0_feedAll_57 ?_
          refine lv_iload_n hx hb dX0_feedAll_60 rfl (lv_at hl 0 rfl) ?_
          refine nv_iadd hx hb dX0_feedAll_61 (fun v61 e61 => ?_)
          refine xx_puti hx hb hts hown hK hW hS 27 rfl rfl (by decide) (by decide) (by decide) rfl rfl rfl q300 dX0_feedAll_62 (fun X62 H locs f62 hW hS => ?_)
          have hi17 : xm_in X62 (xf_belowOf Y0 k) := by rw [f62]; exact xm_fw hi17 (by decide) (by decide)
          refine xl_aload_n hx hb dX0_feedAll_65 rfl (lv_at hl 1 rfl) ?_
          refine xl_aload_n hx hb dX0_feedAll_66 rfl (lv_at hl 1 rfl) ?_
          refine xl_top (show xm_in X62 v12 from by rw [e12]; exact hi17).1.1 ?_
          refine xb_getN hx hb hts hown hK hW (show xm_in X62 v12 from by rw [e12]; exact hi17).1 (k := 2) (xf_man (show xm_in X62 v12 from by rw [e12]; exact hi17).2 (k := 2) (by decide)) (hN.nf q699) rfl (xb_vi (f := 77) (xf_man (show xm_in X62 v12 from by rw [e12]; exact hi17).2 (k := 2) (by decide)) (by decide)) dX0_feedAll_67 ?_
          refine lv_bipush (v := 6) hx hb dX0_feedAll_70 (by decide) ?_
          refine nv_isub hx hb dX0_feedAll_72 (fun v72 e72 => ?_)
          refine lv_iconst (v := 2) hx hb dX0_feedAll_73 (by decide) ?_
          refine lv_iload_n hx hb dX0_feedAll_74 rfl (lv_at hl 0 rfl) ?_
          refine nv_imul hx hb dX0_feedAll_75 (fun v75 e75 => ?_)
          refine nv_iadd hx hb dX0_feedAll_76 (fun v76 e76 => ?_)
          refine lv_iconst (v := 0) hx hb dX0_feedAll_77 (by decide) ?_
          refine lv_sipush (v := 999) hx hb dX0_feedAll_78 (by decide) ?_
          refine pp_calli (As := [.int v76, .int 0, .int 999]) (rest := [va_rf (xx_o D v12)]) (n := 3) ⟨hx, hb, hml, hown, hts⟩ (xc_held lQ v76 0 999 (by decide)) (lw_S q860 q861 q84 q862) (by decide +kernel) rfl ⟨Nat.le_of_ble_eq_true rfl, Nat.le_of_ble_eq_true rfl⟩ hl.1 rfl (by simp [va_rf_c, vc_i, vc_r, vc_l]) dX0_feedAll_81 ⟨Nat.le_of_ble_eq_true rfl, Nat.le_of_ble_eq_true rfl⟩ (fun v81 e81 => ?_)
          refine xl_top2 (show xm_in X62 v12 from by rw [e12]; exact hi17).1.1 ?_
          refine xb_putN hx hb hts hown hK hW hS (show xm_in X62 v12 from by rw [e12]; exact hi17).1 (k := 2) (f := 77) (xf_man (show xm_in X62 v12 from by rw [e12]; exact hi17).2 (k := 2) (by decide)) (xf_mnm (show xm_in X62 v12 from by rw [e12]; exact hi17).2 (k := 2) (by decide) (by decide)) (by decide) rfl rfl rfl (hN.nf q699) rfl dX0_feedAll_84 (fun X84 H locs f84 hW hS => ?_)
          have hi17 : xm_in X84 (xf_belowOf Y0 k) := by rw [f84]; exact xm_wr hi17 (by decide) (by decide)
          obtain ⟨v87, e87⟩ : ∃ yQ : Int32, yQ = k + 1 := ⟨_, rfl⟩
          refine lv_iinc (v := v87) (lv' := [(1, .int v87), (3, .int v41), (2, va_rf (xx_o D v12)), (0, .ref o)]) hx hb dX0_feedAll_87 hl (k := 2) rfl (by rw [e87]; rfl) (by decide) rfl (fun ls hl => ?_)
          refine lv_goto (tgt := 2) hx hb dX0_feedAll_90 (by decide) ?_
          have tb : v87.toInt = k.toInt + 1 := by rw [e87]; exact ww_inc t7
          have hs : X84 = X84 := rfl
          try have hs : X84 = xf_fe_S (xg_l D) Y0 k := by rw [f84, e81, e76, e72, e75, f62, e61, f52, e51, e41, e38, e32, f32, e12]; rfl
          exact ih2 v87 X84 H locs (by omega) (by omega) (by omega) (by first | exact iF2 | (rw [hs]; exact iF2.tr (xf_feS_fr _ _ _))) (by first | (rw [e87]; rw [xf_fe_go, if_neg c7, if_pos (by rw [← e12]; exact c17)] at hgo2; exact hgo2) | (rw [e87, hs]; rw [xf_fe_go, if_neg c7, if_neg (by rw [← e12]; exact c17)] at hgo2; exact hgo2)) hW hS ls (lv_sub hl [0, 3] rfl)
        · have t17 : (v12).toInt < 0 := ww_l0 c17
          refine lv_goto (tgt := 87) hx hb dX0_feedAll_20 (by decide) ?_
          obtain ⟨v87, e87⟩ : ∃ yQ : Int32, yQ = k + 1 := ⟨_, rfl⟩
          refine lv_iinc (v := v87) (lv' := [(1, .int v87), (2, va_rf (xx_o D v12)), (0, .ref o)]) hx hb dX0_feedAll_87 hl (k := 1) rfl (by rw [e87]; rfl) (by decide) rfl (fun ls hl => ?_)
          refine lv_goto (tgt := 2) hx hb dX0_feedAll_90 (by decide) ?_
          have tb : v87.toInt = k.toInt + 1 := by rw [e87]; exact ww_inc t7
          have hs : Y0 = Y0 := rfl
          try have hs : Y0 = xf_fe_S (xg_l D) Y0 k := by rw [f84, e81, e76, e72, e75, f62, e61, f52, e51, e41, e38, e32, f32, e12]; rfl
          exact ih2 v87 Y0 H locs (by omega) (by omega) (by omega) (by first | exact iF2 | (rw [hs]; exact iF2.tr (xf_feS_fr _ _ _))) (by first | (rw [e87]; rw [xf_fe_go, if_neg c7, if_pos (by rw [← e12]; exact c17)] at hgo2; exact hgo2) | (rw [e87, hs]; rw [xf_fe_go, if_neg c7, if_neg (by rw [← e12]; exact c17)] at hgo2; exact hgo2)) hW hS ls (lv_sub hl [0, 2] rfl)
  exact L2 121 0 X H locs (by have := (xv_W hW).2; show _ - 0 < _; omega) (by decide) (xv_W hW).1 (fr_.rf X) (rfl) hW hS ls (lv_sub hl [0, 1] rfl)

set_option maxHeartbeats 4000000 in
theorem xc_hours (lQ : Launch) (G : wm_G) (o d0 : Nat) (X : mm_S) (E : mm_E) (D : xg) (n : Int32) (hh : xv_h X) : xw_Met lQ G o d0 yX0_hours (ws_ yX0_hours cX0_hours 4 (some .int)) 174 X E D [Value.ref o, .int n] (some (.int (xf_hours (xg_l D) X n).1)) (xf_hours (xg_l D) X n).2 E := by
  refine xw_start (own := RX0) (by decide +kernel) (Nat.le_of_ble_eq_true rfl) rfl (fun pQ eQ sQ mQ belowQ methQ cQ hx hb hml hr hlocks hts hown hK hN H hW hS ls hl => ?_)
  have hl : lv_has ls 4 [(0, .ref o), (1, .int n)] := hl
  generalize hlc : ([] : List Loc) = locs at hS ⊢
  refine lv_iload_n hx hb dX0_hours_0 rfl (lv_at hl 1 rfl) ?_
  refine lv_i2l (v := (n).toInt64) hx hb dX0_hours_1 rfl ?_
  refine lv_lconst (v := 1) hx hb dX0_hours_2 (by decide) ?_
  refine lv_ldc2 (v := 48) hx hb hown (hts _ q1178) dX0_hours_3 ?_
  refine xx_within (rest := []) n 1 48 ⟨hx, hb, hml, hown, hts⟩ rfl (by decide) (by decide) q459 hl.1 rfl rfl (Nat.le_of_ble_eq_true rfl) rfl rfl ⟨Nat.le_of_ble_eq_true rfl, Nat.le_of_ble_eq_true rfl⟩ dX0_hours_6 (fun v6 e6 => ?_)
  refine lv_if_eq (tgt := 24) hx hb dX0_hours_9 (by decide) (fun c9 => ?_) (fun c9 => ?_)
  · skip
    refine lv_iconst (v := (-1)) hx hb dX0_hours_24 (by decide) ?_
    refine xw_iret hx hb hr hlocks hW hS ?_ dX0_hours_25
    have hres : xf_hours (xg_l D) X n = ((-1), X) := by subst e6; simp only [xf_hours, if_pos c9]
    exact ⟨by rw [hres], by rw [hres], rfl⟩
  · skip
    refine lv_aload_n hx hb dX0_hours_12 rfl (lv_at hl 0 rfl) ?_
    refine xx_geti hx hb hts hown hK hW 0 rfl rfl (by decide) (by decide) q265 dX0_hours_13 ?_
    refine lv_iload_n hx hb dX0_hours_16 rfl (lv_at hl 1 rfl) ?_
    refine nv_iadd hx hb dX0_hours_17 (fun v17 e17 => ?_)
    refine lv_sipush (v := 1699) hx hb dX0_hours_18 (by decide) ?_
    refine lv_icmp_le (tgt := 26) hx hb dX0_hours_21 (by decide) (fun c21 => ?_) (fun c21 => ?_)
    · have t21 : (v17).toInt ≤ 1699 := ww_le c21
      obtain ⟨n0, n1⟩ := ff_in_t (v := n) (a := 1) (b := 48) (by rw [← e6]; exact c9)
      have n0 : 1 ≤ n.toInt := n0
      have n1 : n.toInt ≤ 48 := n1
      refine lv_iconst (v := 0) hx hb dX0_hours_26 (by decide) ?_
      refine lv_istore_n (lv' := [(2, .int 0), (0, .ref o), (1, .int n)]) hx hb dX0_hours_27 rfl hl (by decide) rfl (fun ls hl => ?_)
      have L28 : ∀ (fu28 : Nat) (k : Int32) (Y0 : mm_S) (H : Heap) (locs : List Loc), (n.toInt - k.toInt < fu28) → (0 ≤ k.toInt) → (k.toInt ≤ n.toInt) → (xv_h Y0) → (xf_hr_go fu28 (xg_l D) Y0 n k = xf_hours (xg_l D) X n) → xx_W G o d0 Y0 E D H → va_S (xx_F o d0) sQ.heap H locs → ∀ ls : Array Slot, lv_has ls 4 [(2, .int k), (0, .ref o), (1, .int n)] → W pQ lQ eQ (wm_rm 174) sQ mQ ([Value.ref o, .int n] : List Value).toArray belowQ methQ cQ H locs 0 0 (MQ belowQ (wm_Q (fun vQ HQ => vQ = some (.int (xf_hours (xg_l D) X n).1) ∧ xx_W G o d0 (xf_hours (xg_l D) X n).2 E D HQ) (xx_F o d0)) ([Value.ref o, .int n] : List Value).toArray sQ 0 0 (xx_F o d0)) (F0 mQ 28 ls []) := by
        intro fu28
        induction fu28 with
        | zero =>
          intro k Y0 H locs hm28 i028 i128 iH28 hgo28 hW hS ls hl
          exact absurd hm28 (by omega)
        | succ fu28 ih28 =>
          intro k Y0 H locs hm28 i028 i128 iH28 hgo28 hW hS ls hl
          have hB0 := xv_W hW
          refine lv_iload_n hx hb dX0_hours_28 rfl (lv_at hl 0 rfl) ?_
          refine lv_iload_n hx hb dX0_hours_29 rfl (lv_at hl 2 rfl) ?_
          refine lv_icmp_ge (tgt := 110) hx hb dX0_hours_30 (by decide) (fun c30 => ?_) (fun c30 => ?_)
          · have t30 : (n).toInt ≤ (k).toInt := ww_le c30
            refine lv_aload_n hx hb dX0_hours_110 rfl (lv_at hl 1 rfl) ?_
            refine xx_geti hx hb hts hown hK hW 0 rfl rfl (by decide) (by decide) q265 dX0_hours_111 ?_
            refine xw_iret hx hb hr hlocks hW hS ?_ dX0_hours_114
            have hres : xf_hours (xg_l D) X n = ((fd_ Y0 0), Y0) := by rw [← hgo28]; simp only [xf_hr_go, if_pos c30]
            exact ⟨by rw [hres], by rw [hres], rfl⟩
          · have t30 : (k).toInt < (n).toInt := ww_nle c30
            refine lv_aload_n hx hb dX0_hours_33 rfl (lv_at hl 1 rfl) ?_
            refine lv_dup hx hb dX0_hours_34 rfl ?_
            refine xx_geti hx hb hts hown hK hW 0 rfl rfl (by decide) (by decide) q265 dX0_hours_35 ?_
            refine lv_iconst (v := 1) hx hb dX0_hours_38 (by decide) ?_
            refine nv_iadd hx hb dX0_hours_39 (fun v39 e39 => ?_)
            refine xx_puti hx hb hts hown hK hW hS 0 rfl rfl (by decide) (by decide) (by decide) rfl rfl rfl q265 dX0_hours_40 (fun X40 H locs f40 hW hS => ?_)
            have n40 : X40 = fw_ Y0 0 (fd_ Y0 0 + 1) := by rw [f40, e39]
            have h40 : xv_h X40 := by rw [n40]; exact xv_h_1 iH28
            refine lv_aload_n hx hb dX0_hours_43 rfl (lv_at hl 1 rfl) ?_
            refine xw_v (xw_rV (As := []) (rest := []) (n := 0) ⟨hx, hb, hml, hown, hts⟩ hK hN hW (xc_drill lQ G o d0 X40 E D h40.1 h40.2.1 h40.2.2.1 h40.2.2.2.2.2) (lw_V q1179 q1181 qs26 q84 q1182) (xr_main hK hW) (by decide +kernel) rfl ⟨Nat.le_of_ble_eq_true rfl, Nat.le_of_ble_eq_true rfl⟩ hl.1 rfl (Nat.le_of_ble_eq_true rfl) dX0_hours_44 ⟨Nat.le_of_ble_eq_true rfl, Nat.le_of_ble_eq_true rfl⟩) hS (fun X44 H locs f44 hW hS => ?_)
            have h44 : xv_h X44 := by rw [f44]; exact xv_h_drill (xv_B_of (by rw [n40]; exact mm_up_k (by decide)) hB0) h40
            refine lv_aload_n hx hb dX0_hours_47 rfl (lv_at hl 1 rfl) ?_
            refine xw_v (xw_rV (As := []) (rest := []) (n := 0) ⟨hx, hb, hml, hown, hts⟩ hK hN hW (xc_arrive lQ G o d0 X44 E D h44.2.2.2.1) (lw_V q1198 q1200 qs28 q84 q1201) (xr_main hK hW) (by decide +kernel) rfl ⟨Nat.le_of_ble_eq_true rfl, Nat.le_of_ble_eq_true rfl⟩ hl.1 rfl (Nat.le_of_ble_eq_true rfl) dX0_hours_48 ⟨Nat.le_of_ble_eq_true rfl, Nat.le_of_ble_eq_true rfl⟩) hS (fun X48 H locs f48 hW hS => ?_)
            have n48 : X48 = xf_hr_1 (xg_l D) Y0 := by rw [f48, f44, n40]; rfl
            have h48 : xv_h X48 := by rw [n48]; exact xv_h_hr1 hB0 iH28
            have x48 : fd_ X48 30 = fd_ Y0 30 := by rw [f48, f44, n40, fd_of (xf_arrive_fr _ 30 (by decide)), fd_of (xf_drill_fr _ _ 30 (by decide)), fd_fn (by decide)]
            refine lv_aload_n hx hb dX0_hours_51 rfl (lv_at hl 1 rfl) ?_
            refine xx_geti hx hb hts hown hK hW 0 rfl rfl (by decide) (by decide) q265 dX0_hours_52 ?_
            refine lv_bipush (v := 24) hx hb dX0_hours_55 (by decide) ?_
            refine nv_irem hx hb dX0_hours_57 (by decide) (fun v57 e57 => ?_)
            refine lv_if_ne (tgt := 65) hx hb dX0_hours_58 (by decide) (fun c58 => ?_) (fun c58 => ?_)
            · skip
              refine lv_iconst (v := 0) hx hb dX0_hours_65 (by decide) ?_
              refine lv_istore_n (lv' := [(3, .int 0), (2, .int k), (0, .ref o), (1, .int n)]) hx hb dX0_hours_66 rfl hl (by decide) rfl (fun ls hl => ?_)
              have L67 : ∀ (fu67 : Nat) (r : Int32) (Y1 : mm_S) (H : Heap) (locs : List Loc), ((fd_ Y0 30).toInt - r.toInt < fu67) → (0 ≤ r.toInt) → (r.toInt ≤ (fd_ Y0 30).toInt) → (xv_h Y1) → (fd_ Y1 30 = fd_ Y0 30) → (xf_mv_go fu67 Y1 r = xf_hr_S (xg_l D) Y0) → xx_W G o d0 Y1 E D H → va_S (xx_F o d0) sQ.heap H locs → ∀ ls : Array Slot, lv_has ls 4 [(3, .int r), (2, .int k), (0, .ref o), (1, .int n)] → W pQ lQ eQ (wm_rm 174) sQ mQ ([Value.ref o, .int n] : List Value).toArray belowQ methQ cQ H locs 0 0 (MQ belowQ (wm_Q (fun vQ HQ => vQ = some (.int (xf_hours (xg_l D) X n).1) ∧ xx_W G o d0 (xf_hours (xg_l D) X n).2 E D HQ) (xx_F o d0)) ([Value.ref o, .int n] : List Value).toArray sQ 0 0 (xx_F o d0)) (F0 mQ 67 ls []) := by
                intro fu67
                induction fu67 with
                | zero =>
                  intro r Y1 H locs hm67 i067 i167 iH67 i367 hgo67 hW hS ls hl
                  exact absurd hm67 (by omega)
                | succ fu67 ih67 =>
                  intro r Y1 H locs hm67 i067 i167 iH67 i367 hgo67 hW hS ls hl
                  have e4 : (fd_ Y1 30).toInt = (fd_ Y0 30).toInt := by rw [i367]
                  have hb2 := iH67.2.2.2.2.1.2.1
                  refine lv_iload_n hx hb dX0_hours_67 rfl (lv_at hl 0 rfl) ?_
                  refine lv_aload_n hx hb dX0_hours_68 rfl (lv_at hl 2 rfl) ?_
                  refine xx_geti hx hb hts hown hK hW 30 rfl rfl (by decide) (by decide) q303 dX0_hours_69 ?_
                  refine lv_icmp_ge (tgt := 104) hx hb dX0_hours_72 (by decide) (fun c72 => ?_) (fun c72 => ?_)
                  · have t72 : ((fd_ Y1 30)).toInt ≤ (r).toInt := ww_le c72
                    have hs : Y1 = xf_hr_S (xg_l D) Y0 := by rw [xf_mv_go, if_pos c72] at hgo67; exact hgo67
                    clear hgo67
                    obtain ⟨v104, e104⟩ : ∃ yQ : Int32, yQ = k + 1 := ⟨_, rfl⟩
                    refine lv_iinc (v := v104) (lv' := [(2, .int v104), (3, .int r), (0, .ref o), (1, .int n)]) hx hb dX0_hours_104 hl (k := 1) rfl (by rw [e104]; rfl) (by decide) rfl (fun ls hl => ?_)
                    refine lv_goto (tgt := 28) hx hb dX0_hours_107 (by decide) ?_
                    have tb : v104.toInt = k.toInt + 1 := by rw [e104]; exact ww_inc t30
                    exact ih28 v104 Y1 H locs (by omega) (by omega) (by omega) (by rw [hs]; exact xv_h_hr hB0 iH28) (by rw [hs, e104]; rw [xf_hr_go, if_neg c30] at hgo28; exact hgo28) hW hS ls (lv_sub hl [0, 2, 3] rfl)
                  · have t72 : (r).toInt < ((fd_ Y1 30)).toInt := ww_nle c72
                    refine lv_aload_n hx hb dX0_hours_75 rfl (lv_at hl 2 rfl) ?_
                    refine xx_geta hx hb hts hown hK hW 29 rfl q302 dX0_hours_76 ?_
                    refine lv_iload_n hx hb dX0_hours_79 rfl (lv_at hl 0 rfl) ?_
                    refine xx_iald hx hb hK hW 29 rfl (ww_in (by omega) (by omega)) dX0_hours_80 ?_
                    refine lv_aload_n hx hb dX0_hours_81 rfl (lv_at hl 2 rfl) ?_
                    refine xx_geti hx hb hts hown hK hW 0 rfl rfl (by decide) (by decide) q265 dX0_hours_82 ?_
                    refine lv_icmp_ne (tgt := 98) hx hb dX0_hours_85 (by decide) (fun c85 => ?_) (fun c85 => ?_)
                    · skip
                      obtain ⟨v98, e98⟩ : ∃ yQ : Int32, yQ = r + 1 := ⟨_, rfl⟩
                      refine lv_iinc (v := v98) (lv' := [(3, .int v98), (2, .int k), (0, .ref o), (1, .int n)]) hx hb dX0_hours_98 hl (k := 0) rfl (by rw [e98]; rfl) (by decide) rfl (fun ls hl => ?_)
                      refine lv_goto (tgt := 67) hx hb dX0_hours_101 (by decide) ?_
                      have tb : v98.toInt = r.toInt + 1 := by rw [e98]; exact ww_inc t72
                      exact ih67 v98 Y1 H locs (by omega) (by omega) (by omega) (by first | exact iH67 | (rw [f95]; exact xv_h_mr _ iH67)) (by first | exact i367 | (rw [f95, fd_of (xf_mr_fr _ _ 30 (by decide))]; exact i367)) (by first | (rw [e98, f95]; rw [xf_mv_go, if_neg c72, if_pos c85] at hgo67; exact hgo67) | (rw [e98]; rw [xf_mv_go, if_neg c72, if_neg c85] at hgo67; exact hgo67)) hW hS ls (lv_sub hl [0, 1, 2, 3] rfl)
                    · skip
                      refine lv_aload_n hx hb dX0_hours_88 rfl (lv_at hl 2 rfl) ?_
                      refine lv_aload_n hx hb dX0_hours_89 rfl (lv_at hl 2 rfl) ?_
                      refine xx_geta hx hb hts hown hK hW 28 rfl q301 dX0_hours_90 ?_
                      refine lv_iload_n hx hb dX0_hours_93 rfl (lv_at hl 0 rfl) ?_
                      refine xx_iald hx hb hK hW 28 rfl (ww_in (by omega) (by omega)) dX0_hours_94 ?_
                      refine xw_v (xw_rV (As := [.int (rd_ Y1 28 r)]) (rest := []) (n := 1) ⟨hx, hb, hml, hown, hts⟩ hK hN hW (xc_moveRock lQ G o d0 Y1 E D (rd_ Y1 28 r) iH67.2.2.2.2.2 (iH67.2.2.2.2.1.2.2 r i067 (by omega))) (lw_V q1206 q1208 qs30 q84 q1209) (xr_main hK hW) (by decide +kernel) rfl ⟨Nat.le_of_ble_eq_true rfl, Nat.le_of_ble_eq_true rfl⟩ hl.1 rfl (Nat.le_of_ble_eq_true rfl) dX0_hours_95 ⟨Nat.le_of_ble_eq_true rfl, Nat.le_of_ble_eq_true rfl⟩) hS (fun X95 H locs f95 hW hS => ?_)
                      obtain ⟨v98, e98⟩ : ∃ yQ : Int32, yQ = r + 1 := ⟨_, rfl⟩
                      refine lv_iinc (v := v98) (lv' := [(3, .int v98), (2, .int k), (0, .ref o), (1, .int n)]) hx hb dX0_hours_98 hl (k := 0) rfl (by rw [e98]; rfl) (by decide) rfl (fun ls hl => ?_)
                      refine lv_goto (tgt := 67) hx hb dX0_hours_101 (by decide) ?_
                      have tb : v98.toInt = r.toInt + 1 := by rw [e98]; exact ww_inc t72
                      exact ih67 v98 X95 H locs (by omega) (by omega) (by omega) (by first | exact iH67 | (rw [f95]; exact xv_h_mr _ iH67)) (by first | exact i367 | (rw [f95, fd_of (xf_mr_fr _ _ 30 (by decide))]; exact i367)) (by first | (rw [e98, f95]; rw [xf_mv_go, if_neg c72, if_pos c85] at hgo67; exact hgo67) | (rw [e98]; rw [xf_mv_go, if_neg c72, if_neg c85] at hgo67; exact hgo67)) hW hS ls (lv_sub hl [0, 1, 2, 3] rfl)
              exact L67 61 0 X48 H locs (by have := iH28.2.2.2.2.1.2.1; show _ - 0 < _; omega) (by decide) iH28.2.2.2.2.1.1 (by first | (rw [f62]; exact xv_h_eat h48) | exact h48) (by first | exact x48 | (have r := xf_feg_fr 121 (xg_l D) X48 0; rw [f62]; exact (fd_of (r 30 (by decide))).trans x48)) (by unfold xf_hr_S xf_hr_2; rw [← n48]; first | rw [if_pos (by rw [← e57]; exact c58), ← f62] | rw [if_neg (by rw [← e57]; exact c58)]) hW hS ls (lv_sub hl [0, 1, 2, 3] rfl)
            · skip
              refine lv_aload_n hx hb dX0_hours_61 rfl (lv_at hl 1 rfl) ?_
              refine xw_v (xw_rV (As := []) (rest := []) (n := 0) ⟨hx, hb, hml, hown, hts⟩ hK hN hW (xc_feedAll lQ G o d0 X48 E D h48.2.1) (lw_V q1202 q1204 qs29 q84 q1205) (xr_main hK hW) (by decide +kernel) rfl ⟨Nat.le_of_ble_eq_true rfl, Nat.le_of_ble_eq_true rfl⟩ hl.1 rfl (Nat.le_of_ble_eq_true rfl) dX0_hours_62 ⟨Nat.le_of_ble_eq_true rfl, Nat.le_of_ble_eq_true rfl⟩) hS (fun X62 H locs f62 hW hS => ?_)
              refine lv_iconst (v := 0) hx hb dX0_hours_65 (by decide) ?_
              refine lv_istore_n (lv' := [(3, .int 0), (2, .int k), (0, .ref o), (1, .int n)]) hx hb dX0_hours_66 rfl hl (by decide) rfl (fun ls hl => ?_)
              have L67 : ∀ (fu67 : Nat) (r : Int32) (Y1 : mm_S) (H : Heap) (locs : List Loc), ((fd_ Y0 30).toInt - r.toInt < fu67) → (0 ≤ r.toInt) → (r.toInt ≤ (fd_ Y0 30).toInt) → (xv_h Y1) → (fd_ Y1 30 = fd_ Y0 30) → (xf_mv_go fu67 Y1 r = xf_hr_S (xg_l D) Y0) → xx_W G o d0 Y1 E D H → va_S (xx_F o d0) sQ.heap H locs → ∀ ls : Array Slot, lv_has ls 4 [(3, .int r), (2, .int k), (0, .ref o), (1, .int n)] → W pQ lQ eQ (wm_rm 174) sQ mQ ([Value.ref o, .int n] : List Value).toArray belowQ methQ cQ H locs 0 0 (MQ belowQ (wm_Q (fun vQ HQ => vQ = some (.int (xf_hours (xg_l D) X n).1) ∧ xx_W G o d0 (xf_hours (xg_l D) X n).2 E D HQ) (xx_F o d0)) ([Value.ref o, .int n] : List Value).toArray sQ 0 0 (xx_F o d0)) (F0 mQ 67 ls []) := by
                intro fu67
                induction fu67 with
                | zero =>
                  intro r Y1 H locs hm67 i067 i167 iH67 i367 hgo67 hW hS ls hl
                  exact absurd hm67 (by omega)
                | succ fu67 ih67 =>
                  intro r Y1 H locs hm67 i067 i167 iH67 i367 hgo67 hW hS ls hl
                  have e4 : (fd_ Y1 30).toInt = (fd_ Y0 30).toInt := by rw [i367]
                  have hb2 := iH67.2.2.2.2.1.2.1
                  refine lv_iload_n hx hb dX0_hours_67 rfl (lv_at hl 0 rfl) ?_
                  refine lv_aload_n hx hb dX0_hours_68 rfl (lv_at hl 2 rfl) ?_
                  refine xx_geti hx hb hts hown hK hW 30 rfl rfl (by decide) (by decide) q303 dX0_hours_69 ?_
                  refine lv_icmp_ge (tgt := 104) hx hb dX0_hours_72 (by decide) (fun c72 => ?_) (fun c72 => ?_)
                  · have t72 : ((fd_ Y1 30)).toInt ≤ (r).toInt := ww_le c72
                    have hs : Y1 = xf_hr_S (xg_l D) Y0 := by rw [xf_mv_go, if_pos c72] at hgo67; exact hgo67
                    clear hgo67
                    obtain ⟨v104, e104⟩ : ∃ yQ : Int32, yQ = k + 1 := ⟨_, rfl⟩
                    refine lv_iinc (v := v104) (lv' := [(2, .int v104), (3, .int r), (0, .ref o), (1, .int n)]) hx hb dX0_hours_104 hl (k := 1) rfl (by rw [e104]; rfl) (by decide) rfl (fun ls hl => ?_)
                    refine lv_goto (tgt := 28) hx hb dX0_hours_107 (by decide) ?_
                    have tb : v104.toInt = k.toInt + 1 := by rw [e104]; exact ww_inc t30
                    exact ih28 v104 Y1 H locs (by omega) (by omega) (by omega) (by rw [hs]; exact xv_h_hr hB0 iH28) (by rw [hs, e104]; rw [xf_hr_go, if_neg c30] at hgo28; exact hgo28) hW hS ls (lv_sub hl [0, 2, 3] rfl)
                  · have t72 : (r).toInt < ((fd_ Y1 30)).toInt := ww_nle c72
                    refine lv_aload_n hx hb dX0_hours_75 rfl (lv_at hl 2 rfl) ?_
                    refine xx_geta hx hb hts hown hK hW 29 rfl q302 dX0_hours_76 ?_
                    refine lv_iload_n hx hb dX0_hours_79 rfl (lv_at hl 0 rfl) ?_
                    refine xx_iald hx hb hK hW 29 rfl (ww_in (by omega) (by omega)) dX0_hours_80 ?_
                    refine lv_aload_n hx hb dX0_hours_81 rfl (lv_at hl 2 rfl) ?_
                    refine xx_geti hx hb hts hown hK hW 0 rfl rfl (by decide) (by decide) q265 dX0_hours_82 ?_
                    refine lv_icmp_ne (tgt := 98) hx hb dX0_hours_85 (by decide) (fun c85 => ?_) (fun c85 => ?_)
                    · skip
                      obtain ⟨v98, e98⟩ : ∃ yQ : Int32, yQ = r + 1 := ⟨_, rfl⟩
                      refine lv_iinc (v := v98) (lv' := [(3, .int v98), (2, .int k), (0, .ref o), (1, .int n)]) hx hb dX0_hours_98 hl (k := 0) rfl (by rw [e98]; rfl) (by decide) rfl (fun ls hl => ?_)
                      refine lv_goto (tgt := 67) hx hb dX0_hours_101 (by decide) ?_
                      have tb : v98.toInt = r.toInt + 1 := by rw [e98]; exact ww_inc t72
                      exact ih67 v98 Y1 H locs (by omega) (by omega) (by omega) (by first | exact iH67 | (rw [f95]; exact xv_h_mr _ iH67)) (by first | exact i367 | (rw [f95, fd_of (xf_mr_fr _ _ 30 (by decide))]; exact i367)) (by first | (rw [e98, f95]; rw [xf_mv_go, if_neg c72, if_pos c85] at hgo67; exact hgo67) | (rw [e98]; rw [xf_mv_go, if_neg c72, if_neg c85] at hgo67; exact hgo67)) hW hS ls (lv_sub hl [0, 1, 2, 3] rfl)
                    · skip
                      refine lv_aload_n hx hb dX0_hours_88 rfl (lv_at hl 2 rfl) ?_
                      refine lv_aload_n hx hb dX0_hours_89 rfl (lv_at hl 2 rfl) ?_
                      refine xx_geta hx hb hts hown hK hW 28 rfl q301 dX0_hours_90 ?_
                      refine lv_iload_n hx hb dX0_hours_93 rfl (lv_at hl 0 rfl) ?_
                      refine xx_iald hx hb hK hW 28 rfl (ww_in (by omega) (by omega)) dX0_hours_94 ?_
                      refine xw_v (xw_rV (As := [.int (rd_ Y1 28 r)]) (rest := []) (n := 1) ⟨hx, hb, hml, hown, hts⟩ hK hN hW (xc_moveRock lQ G o d0 Y1 E D (rd_ Y1 28 r) iH67.2.2.2.2.2 (iH67.2.2.2.2.1.2.2 r i067 (by omega))) (lw_V q1206 q1208 qs30 q84 q1209) (xr_main hK hW) (by decide +kernel) rfl ⟨Nat.le_of_ble_eq_true rfl, Nat.le_of_ble_eq_true rfl⟩ hl.1 rfl (Nat.le_of_ble_eq_true rfl) dX0_hours_95 ⟨Nat.le_of_ble_eq_true rfl, Nat.le_of_ble_eq_true rfl⟩) hS (fun X95 H locs f95 hW hS => ?_)
                      obtain ⟨v98, e98⟩ : ∃ yQ : Int32, yQ = r + 1 := ⟨_, rfl⟩
                      refine lv_iinc (v := v98) (lv' := [(3, .int v98), (2, .int k), (0, .ref o), (1, .int n)]) hx hb dX0_hours_98 hl (k := 0) rfl (by rw [e98]; rfl) (by decide) rfl (fun ls hl => ?_)
                      refine lv_goto (tgt := 67) hx hb dX0_hours_101 (by decide) ?_
                      have tb : v98.toInt = r.toInt + 1 := by rw [e98]; exact ww_inc t72
                      exact ih67 v98 X95 H locs (by omega) (by omega) (by omega) (by first | exact iH67 | (rw [f95]; exact xv_h_mr _ iH67)) (by first | exact i367 | (rw [f95, fd_of (xf_mr_fr _ _ 30 (by decide))]; exact i367)) (by first | (rw [e98, f95]; rw [xf_mv_go, if_neg c72, if_pos c85] at hgo67; exact hgo67) | (rw [e98]; rw [xf_mv_go, if_neg c72, if_neg c85] at hgo67; exact hgo67)) hW hS ls (lv_sub hl [0, 1, 2, 3] rfl)
              exact L67 61 0 X62 H locs (by have := iH28.2.2.2.2.1.2.1; show _ - 0 < _; omega) (by decide) iH28.2.2.2.2.1.1 (by first | (rw [f62]; exact xv_h_eat h48) | exact h48) (by first | exact x48 | (have r := xf_feg_fr 121 (xg_l D) X48 0; rw [f62]; exact (fd_of (r 30 (by decide))).trans x48)) (by unfold xf_hr_S xf_hr_2; rw [← n48]; first | rw [if_pos (by rw [← e57]; exact c58), ← f62] | rw [if_neg (by rw [← e57]; exact c58)]) hW hS ls (lv_sub hl [0, 1, 2, 3] rfl)
      exact L28 49 0 X H locs (by show _ - 0 < _; omega) (by decide) (by show 0 ≤ _; omega) hh (by subst e6 e17; simp only [xf_hours, if_neg c9, if_pos c21]) hW hS ls (lv_sub hl [0, 1, 2] rfl)
    · have t21 : 1699 < (v17).toInt := ww_nle c21
      refine lv_iconst (v := (-1)) hx hb dX0_hours_24 (by decide) ?_
      refine xw_iret hx hb hr hlocks hW hS ?_ dX0_hours_25
      have hres : xf_hours (xg_l D) X n = ((-1), X) := by subst e6 e17; simp only [xf_hours, if_neg c9, if_neg c21]
      exact ⟨by rw [hres], by rw [hres], rfl⟩

set_option maxHeartbeats 4000000 in
theorem xc_capsule (lQ : Launch) (G : wm_G) (o d0 : Nat) (X : mm_S) (E : mm_E) (D : xg) (b : Int32) (hX : xv_X X) : xw_Met lQ G o d0 yX0_capsule (ws_ yX0_capsule cX0_capsule 5 (some .int)) 173 X E D [Value.ref o, .int b] (some (.int (xf_capsule (xg_l D) X b).1)) (xf_capsule (xg_l D) X b).2 E := by
  refine xw_start (own := RX0) (by decide +kernel) (Nat.le_of_ble_eq_true rfl) rfl (fun pQ eQ sQ mQ belowQ methQ cQ hx hb hml hr hlocks hts hown hK hN H hW hS ls hl => ?_)
  have hl : lv_has ls 5 [(0, .ref o), (1, .int b)] := hl
  generalize hlc : ([] : List Loc) = locs at hS ⊢
  refine lv_aload_n hx hb dX0_capsule_0 rfl (lv_at hl 0 rfl) ?_
  refine lv_iload_n hx hb dX0_capsule_1 rfl (lv_at hl 1 rfl) ?_
  refine xw_b (xw_rV (As := [.int b]) (rest := []) (n := 1) ⟨hx, hb, hml, hown, hts⟩ hK hN hW (xc_holeOf lQ G o d0 X E D b) (lw_V q754 q756 qs3 q84 q757) (xr_main hK hW) (by decide +kernel) rfl ⟨Nat.le_of_ble_eq_true rfl, Nat.le_of_ble_eq_true rfl⟩ hl.1 rfl (Nat.le_of_ble_eq_true rfl) dX0_capsule_2 ⟨Nat.le_of_ble_eq_true rfl, Nat.le_of_ble_eq_true rfl⟩) hS (fun v2 H locs e2 hW hS => ?_)
  refine xl_astore_n (lv' := [(2, va_rf (xx_o D v2)), (0, .ref o), (1, .int b)]) hx hb dX0_capsule_5 rfl hl (by decide) rfl (fun ls hl => ?_)
  refine xl_aload_n hx hb dX0_capsule_6 rfl (lv_at hl 0 rfl) ?_
  by_cases n7 : v2 < 0
  · skip
    refine xl_instN hx hb n7 dX0_capsule_7 ?_
    refine lv_if_ne (tgt := 15) hx hb dX0_capsule_10 (by decide) (fun c10 => ?_) (fun c10 => ?_)
    · skip
      exact absurd rfl c10
    · skip
      refine lv_iconst (v := (-1)) hx hb dX0_capsule_13 (by decide) ?_
      refine xw_iret hx hb hr hlocks hW hS ?_ dX0_capsule_14
      have hres : xf_capsule (xg_l D) X b = ((-1), X) := by subst e2; simp only [xf_capsule, if_pos n7, if_pos c10]
      exact ⟨by rw [hres], by rw [hres], rfl⟩
  · skip
    have hi : xh_in X v2 := by rw [e2]; exact xf_holeOf_q (xv_W hW) (by rw [← e2]; exact n7)
    refine xl_top hi.1.1 ?_
    refine xb_instShaft hx hb hts hown hK hN hW hi.1 q600 dX0_capsule_7 ?_
    refine lv_if_ne (tgt := 15) hx hb dX0_capsule_10 (by decide) (fun c10 => ?_) (fun c10 => ?_)
    · skip
      refine xl_aload_n hx hb dX0_capsule_15 rfl (lv_at hl 0 rfl) ?_
      refine xw_p (xd_isThrough_X0 (rest := []) lQ ⟨hx, hb, hml, hown, hts⟩ hK hN hW hi ⟨Nat.le_of_ble_eq_true rfl, Nat.le_of_ble_eq_true rfl⟩ hl.1 (by rw [xx_o_pos hi.1.1]; rfl) (Nat.le_of_ble_eq_true rfl) dX0_capsule_16 ⟨Nat.le_of_ble_eq_true rfl, Nat.le_of_ble_eq_true rfl⟩) hS (fun v16 H locs e16 hW hS => ?_)
      refine lv_if_eq (tgt := 29) hx hb dX0_capsule_19 (by decide) (fun c19 => ?_) (fun c19 => ?_)
      · skip
        refine lv_bipush (v := (-2)) hx hb dX0_capsule_29 (by decide) ?_
        refine xw_iret hx hb hr hlocks hW hS ?_ dX0_capsule_31
        have hres : xf_capsule (xg_l D) X b = ((-2), X) := by subst e2 e16; simp only [xf_capsule, if_neg n7, if_neg c10, if_pos c19]
        exact ⟨by rw [hres], by rw [hres], rfl⟩
      · skip
        refine lv_aload_n hx hb dX0_capsule_22 rfl (lv_at hl 1 rfl) ?_
        refine xw_p (xw_rV (As := []) (rest := []) (n := 0) ⟨hx, hb, hml, hown, hts⟩ hK hN hW (xc_belowMany lQ G o d0 X E D) (lw_V q1141 q1143 qs23 q84 q1144) (xr_main hK hW) (by decide +kernel) rfl ⟨Nat.le_of_ble_eq_true rfl, Nat.le_of_ble_eq_true rfl⟩ hl.1 rfl (Nat.le_of_ble_eq_true rfl) dX0_capsule_23 ⟨Nat.le_of_ble_eq_true rfl, Nat.le_of_ble_eq_true rfl⟩) hS (fun v23 H locs e23 hW hS => ?_)
        refine lv_if_ne (tgt := 32) hx hb dX0_capsule_26 (by decide) (fun c26 => ?_) (fun c26 => ?_)
        · skip
          have mb : ¬ xf_belowMany X = 0 := by rw [← e23]; exact c26
          have hb120 := (xv_W hW).2
          have hi0 := hi
          refine lv_aload_n hx hb dX0_capsule_32 rfl (lv_at hl 1 rfl) ?_
          refine lv_iconst (v := 0) hx hb dX0_capsule_33 (by decide) ?_
          refine xx_puti hx hb hts hown hK hW hS 55 rfl rfl (by decide) (by decide) (by decide) rfl rfl rfl q328 dX0_capsule_34 (fun X34 H locs f34 hW hS => ?_)
          have hi : xh_in X34 v2 := by rw [f34]; exact xh_fw hi (by decide) (by decide)
          refine lv_iconst (v := 0) hx hb dX0_capsule_37 (by decide) ?_
          refine lv_istore_n (i := 3) (lv' := [(3, .int 0), (2, va_rf (xx_o D v2)), (0, .ref o), (1, .int b)]) hx hb dX0_capsule_38 rfl hl (by decide) (by simp [va_rf_c]) (fun ls hl => ?_)
          have L39 : ∀ (fu39 : Nat) (k : Int32) (Y0 : mm_S) (H : Heap) (locs : List Loc), ((fd_ X 4).toInt - k.toInt < fu39) → (0 ≤ k.toInt) → (k.toInt ≤ (fd_ X 4).toInt) → (fr_ [19, 20, 53, 55, 57] X Y0) → (0 ≤ (fd_ Y0 55).toInt) → ((fd_ Y0 55).toInt ≤ k.toInt) → (xf_bm_go fu39 X (fd_ Y0 55) k = xf_belowMany X) → (xv_Up Y0 (fd_ Y0 55).toInt) → (xh_in Y0 v2) → (xf_cp_go fu39 (xg_l D) Y0 k = xf_cp_s (xg_l D) X) → xx_W G o d0 Y0 E D H → va_S (xx_F o d0) sQ.heap H locs → ∀ ls : Array Slot, lv_has ls 5 [(3, .int k), (2, va_rf (xx_o D v2)), (0, .ref o), (1, .int b)] → W pQ lQ eQ (wm_rm 173) sQ mQ ([Value.ref o, .int b] : List Value).toArray belowQ methQ cQ H locs 0 0 (MQ belowQ (wm_Q (fun vQ HQ => vQ = some (.int (xf_capsule (xg_l D) X b).1) ∧ xx_W G o d0 (xf_capsule (xg_l D) X b).2 E D HQ) (xx_F o d0)) ([Value.ref o, .int b] : List Value).toArray sQ 0 0 (xx_F o d0)) (F0 mQ 39 ls []) := by
            intro fu39
            induction fu39 with
            | zero =>
              intro k Y0 H locs hm39 i039 i139 iF39 i239 i339 i439 i539 iO39 hgo39 hW hS ls hl
              exact absurd hm39 (by omega)
            | succ fu39 ih39 =>
              intro k Y0 H locs hm39 i039 i139 iF39 i239 i339 i439 i539 iO39 hgo39 hW hS ls hl
              have e4 : (fd_ Y0 4).toInt = (fd_ X 4).toInt := by rw [fd_of (iF39 4 (by decide))]
              have xbo : ∀ q : Int32, xf_belowOf Y0 q = xf_belowOf X q := xf_belowOf_of (iF39 4 (by decide)) (iF39 60 (by decide)) (iF39 80 (by decide))
              rw [xf_bm_go, ← fd_of (iF39 4 (by decide)), ← xbo] at i439
              refine lv_iload_n hx hb dX0_capsule_39 rfl (lv_at hl 0 rfl) ?_
              refine lv_aload_n hx hb dX0_capsule_40 rfl (lv_at hl 2 rfl) ?_
              refine xx_geti hx hb hts hown hK hW 4 rfl rfl (by decide) (by decide) q271 dX0_capsule_41 ?_
              refine lv_icmp_ge (tgt := 152) hx hb dX0_capsule_44 (by decide) (fun c44 => ?_) (fun c44 => ?_)
              · have t44 : ((fd_ Y0 4)).toInt ≤ (k).toInt := ww_le c44
                rw [if_pos c44] at i439
                have n1 : 1 ≤ (fd_ Y0 55).toInt := by
                  have q : (fd_ Y0 55).toInt ≠ (0 : Int32).toInt := ww_ne (by rw [i439]; exact mb)
                  rw [ww_z0] at q
                  omega
                have g0 : Y0 = xf_cp_s (xg_l D) X := by rw [xf_cp_go, if_pos c44] at hgo39; exact hgo39
                clear hgo39
                refine lv_iconst (v := 1) hx hb dX0_capsule_152 (by decide) ?_
                refine xl_aload_n hx hb dX0_capsule_153 rfl (lv_at hl 1 rfl) ?_
                refine xl_top iO39.1.1 ?_
                refine xb_getN hx hb hts hown hK hW iO39.1 (k := 8) (xf_hole iO39.2 (k := 8) (by decide)) (hN.nf q532) rfl (xb_vi (f := 66) (xf_hole iO39.2 (k := 8) (by decide)) (by decide)) dX0_capsule_154 ?_
                refine lv_bipush (v := 20) hx hb dX0_capsule_157 (by decide) ?_
                refine nv_idiv hx hb dX0_capsule_159 (by decide) (fun v159 e159 => ?_)
                refine nv_iadd hx hb dX0_capsule_160 (fun v160 e160 => ?_)
                refine lv_istore_n (i := 3) (lv' := [(3, .int v160), (2, va_rf (xx_o D v2)), (0, .ref o), (1, .int b)]) hx hb dX0_capsule_161 rfl hl (by decide) (by simp [va_rf_c]) (fun ls hl => ?_)
                refine lv_iconst (v := 0) hx hb dX0_capsule_162 (by decide) ?_
                refine lv_istore (lv' := [(4, .int 0), (3, .int v160), (2, va_rf (xx_o D v2)), (0, .ref o), (1, .int b)]) hx hb dX0_capsule_163 hl (by decide) rfl (fun ls hl => ?_)
                have L165 : ∀ (fu165 : Nat) (i : Int32) (Y3 : mm_S) (H : Heap) (locs : List Loc), ((fd_ Y0 55).toInt - i.toInt < fu165) → (0 ≤ i.toInt) → (i.toInt ≤ (fd_ Y0 55).toInt) → (fr_ [54] Y0 Y3) → (xf_ch_go fu165 Y3 v160 i = xf_ch_s Y0 v160) → xx_W G o d0 Y3 E D H → va_S (xx_F o d0) sQ.heap H locs → ∀ ls : Array Slot, lv_has ls 5 [(4, .int i), (3, .int v160), (2, va_rf (xx_o D v2)), (0, .ref o), (1, .int b)] → W pQ lQ eQ (wm_rm 173) sQ mQ ([Value.ref o, .int b] : List Value).toArray belowQ methQ cQ H locs 0 0 (MQ belowQ (wm_Q (fun vQ HQ => vQ = some (.int (xf_capsule (xg_l D) X b).1) ∧ xx_W G o d0 (xf_capsule (xg_l D) X b).2 E D HQ) (xx_F o d0)) ([Value.ref o, .int b] : List Value).toArray sQ 0 0 (xx_F o d0)) (F0 mQ 165 ls []) := by
                  intro fu165
                  induction fu165 with
                  | zero =>
                    intro i Y3 H locs hm165 j0165 j1165 jF165 hgo165 hW hS ls hl
                    exact absurd hm165 (by omega)
                  | succ fu165 ih165 =>
                    intro i Y3 H locs hm165 j0165 j1165 jF165 hgo165 hW hS ls hl
                    have z55 : (fd_ Y3 55).toInt = (fd_ Y0 55).toInt := by rw [fd_of (jF165 55 (by decide))]
                    refine lv_iload hx hb dX0_capsule_165 (lv_at hl 0 rfl) ?_
                    refine lv_aload_n hx hb dX0_capsule_167 rfl (lv_at hl 3 rfl) ?_
                    refine xx_geti hx hb hts hown hK hW 55 rfl rfl (by decide) (by decide) q328 dX0_capsule_168 ?_
                    refine lv_icmp_ge (tgt := 198) hx hb dX0_capsule_171 (by decide) (fun c171 => ?_) (fun c171 => ?_)
                    · have t171 : ((fd_ Y3 55)).toInt ≤ (i).toInt := ww_le c171
                      have hs2 : Y3 = xf_ch_s Y0 v160 := by rw [xf_ch_go, if_pos c171] at hgo165; exact hgo165
                      clear hgo165
                      refine lv_aload_n hx hb dX0_capsule_198 rfl (lv_at hl 3 rfl) ?_
                      refine lv_aload_n hx hb dX0_capsule_199 rfl (lv_at hl 3 rfl) ?_
                      refine xx_geti hx hb hts hown hK hW 0 rfl rfl (by decide) (by decide) q265 dX0_capsule_200 ?_
                      refine xx_puti hx hb hts hown hK hW hS 56 rfl rfl (by decide) (by decide) (by decide) rfl rfl rfl q329 dX0_capsule_203 (fun X203 H locs f203 hW hS => ?_)
                      have n203 : X203 = xf_ca (xg_l D) X v2 := by rw [f203, hs2, e160, e159, g0]; rfl
                      have z215 : (fd_ X203 55 - 1).toInt = (fd_ Y0 55).toInt - 1 := by rw [f203, fd_fn (by decide), fd_of (jF165 55 (by decide))]; exact ww_sub1 (by omega)
                      refine lv_aload_n hx hb dX0_capsule_206 rfl (lv_at hl 3 rfl) ?_
                      refine xx_geta hx hb hts hown hK hW 54 rfl q327 dX0_capsule_207 ?_
                      refine lv_aload_n hx hb dX0_capsule_210 rfl (lv_at hl 3 rfl) ?_
                      refine xx_geti hx hb hts hown hK hW 55 rfl rfl (by decide) (by decide) q328 dX0_capsule_211 ?_
                      refine lv_iconst (v := 1) hx hb dX0_capsule_214 (by decide) ?_
                      refine nv_isub hx hb dX0_capsule_215 (fun v215 e215 => ?_)
                      refine xx_iald hx hb hK hW 54 rfl (by rw [e215]; exact ww_in (by rw [z215]; omega) (by rw [z215]; omega)) dX0_capsule_216 ?_
                      refine xw_iret hx hb hr hlocks hW hS ?_ dX0_capsule_217
                      have hres : xf_capsule (xg_l D) X b = ((rd_ X203 54 v215), X203) := by unfold xf_capsule; rw [← e2, if_neg n7, if_neg c10, if_neg (by rw [← e16]; exact c19), if_neg mb, ← n203, ← e215]
                      exact ⟨by rw [hres], by rw [hres], rfl⟩
                    · have t171 : (i).toInt < ((fd_ Y3 55)).toInt := ww_nle c171
                      refine lv_aload_n hx hb dX0_capsule_174 rfl (lv_at hl 3 rfl) ?_
                      refine xx_geta hx hb hts hown hK hW 54 rfl q327 dX0_capsule_175 ?_
                      refine lv_iload hx hb dX0_capsule_178 (lv_at hl 0 rfl) ?_
                      refine lv_aload_n hx hb dX0_capsule_180 rfl (lv_at hl 3 rfl) ?_
                      refine xx_geti hx hb hts hown hK hW 0 rfl rfl (by decide) (by decide) q265 dX0_capsule_181 ?_
                      refine lv_iload_n hx hb dX0_capsule_184 rfl (lv_at hl 1 rfl) ?_
                      refine lv_iload hx hb dX0_capsule_185 (lv_at hl 0 rfl) ?_
                      refine lv_iconst (v := 1) hx hb dX0_capsule_187 (by decide) ?_
                      refine nv_iadd hx hb dX0_capsule_188 (fun v188 e188 => ?_)
                      refine nv_imul hx hb dX0_capsule_189 (fun v189 e189 => ?_)
                      refine nv_iadd hx hb dX0_capsule_190 (fun v190 e190 => ?_)
                      refine xx_iast hx hb hK hW hS 54 rfl (ww_in (by omega) (by omega)) dX0_capsule_191 (fun X191 H locs f191 hW hS => ?_)
                      obtain ⟨v192, e192⟩ : ∃ yQ : Int32, yQ = i + 1 := ⟨_, rfl⟩
                      refine lv_iinc (v := v192) (lv' := [(4, .int v192), (3, .int v160), (2, va_rf (xx_o D v2)), (0, .ref o), (1, .int b)]) hx hb dX0_capsule_192 hl (k := 0) rfl (by rw [e192]; rfl) (by decide) rfl (fun ls hl => ?_)
                      refine lv_goto (tgt := 165) hx hb dX0_capsule_195 (by decide) ?_
                      have tb : v192.toInt = i.toInt + 1 := by rw [e192]; exact ww_inc' (by omega)
                      exact ih165 v192 X191 H locs (by omega) (by omega) (by omega) (by rw [f191]; exact jF165.wr (by decide)) (by rw [e192]; have z : X191 = wr_ Y3 54 i (fd_ Y3 0 + v160 * (i + 1)) := (by rw [f191, e190, e189, e188]); rw [z]; rw [xf_ch_go, if_neg c171] at hgo165; exact hgo165) hW hS ls (lv_sub hl [0, 1, 2, 3, 4] rfl)
                exact L165 121 0 Y0 H locs (by show _ - 0 < (121 : Int); omega) (by decide) (by show (0 : Int) ≤ _; omega) (fr_.rf _) (rfl) hW hS ls (lv_sub hl [0, 1, 2, 3, 4] rfl)
              · have t44 : (k).toInt < ((fd_ Y0 4)).toInt := ww_nle c44
                refine lv_aload_n hx hb dX0_capsule_47 rfl (lv_at hl 2 rfl) ?_
                refine lv_iload_n hx hb dX0_capsule_48 rfl (lv_at hl 0 rfl) ?_
                refine xw_b (xw_rV (As := [.int k]) (rest := []) (n := 1) ⟨hx, hb, hml, hown, hts⟩ hK hN hW (xc_belowOf lQ G o d0 Y0 E D k) (lw_V q1145 q1147 qs24 q84 q1148) (xr_main hK hW) (by decide +kernel) rfl ⟨Nat.le_of_ble_eq_true rfl, Nat.le_of_ble_eq_true rfl⟩ hl.1 rfl (Nat.le_of_ble_eq_true rfl) dX0_capsule_49 ⟨Nat.le_of_ble_eq_true rfl, Nat.le_of_ble_eq_true rfl⟩) hS (fun v49 H locs e49 hW hS => ?_)
                refine xl_ifnonnull (tgt := 58) hx hb dX0_capsule_52 (by decide) (fun c52 => ?_) (fun c52 => ?_)
                · have t52 : 0 ≤ (v49).toInt := ww_nl0 c52
                  have hi52 : xm_in Y0 (xf_belowOf Y0 k) := xf_belowOf_q (xv_W hW) (by rw [← e49]; exact c52)
                  refine lv_aload_n hx hb dX0_capsule_58 rfl (lv_at hl 2 rfl) ?_
                  refine xx_geta hx hb hts hown hK hW 57 rfl q330 dX0_capsule_59 ?_
                  refine lv_iload_n hx hb dX0_capsule_62 rfl (lv_at hl 0 rfl) ?_
                  refine lv_aload_n hx hb dX0_capsule_63 rfl (lv_at hl 2 rfl) ?_
                  refine lv_iconst (v := 1) hx hb dX0_capsule_64 (by decide) ?_
                  refine lv_aload_n hx hb dX0_capsule_65 rfl (lv_at hl 2 rfl) ?_
                  refine lv_iload_n hx hb dX0_capsule_66 rfl (lv_at hl 0 rfl) ?_
                  refine xw_b (xw_rV (As := [.int k]) (rest := [.int 1, .ref o, .int k, .ref (o + 39)]) (n := 1) ⟨hx, hb, hml, hown, hts⟩ hK hN hW (xc_belowOf lQ G o d0 Y0 E D k) (lw_V q1145 q1147 qs24 q84 q1148) (xr_main hK hW) (by decide +kernel) rfl ⟨Nat.le_of_ble_eq_true rfl, Nat.le_of_ble_eq_true rfl⟩ hl.1 rfl (Nat.le_of_ble_eq_true rfl) dX0_capsule_67 ⟨Nat.le_of_ble_eq_true rfl, Nat.le_of_ble_eq_true rfl⟩) hS (fun v67 H locs e67 hW hS => ?_)
                  refine lv_iconst (v := 0) hx hb dX0_capsule_70 (by decide) ?_
                  refine xw_i (xw_rV (As := [.int 1, va_rf (xx_o D v67), .int 0]) (rest := [.int k, .ref (o + 39)]) (n := 3) ⟨hx, hb, hml, hown, hts⟩ hK hN hW (xc_gives lQ G o d0 Y0 E D 1 v67 0 (xv_X_of (iF39 25 (by decide)) hX) (fun _ => by rw [e67]; exact hi52)) (lw_V q1137 q1139 qs22 q84 q1140) (xr_main hK hW) (by decide +kernel) rfl ⟨Nat.le_of_ble_eq_true rfl, Nat.le_of_ble_eq_true rfl⟩ hl.1 rfl (Nat.le_of_ble_eq_true rfl) dX0_capsule_71 ⟨Nat.le_of_ble_eq_true rfl, Nat.le_of_ble_eq_true rfl⟩) hS (fun v71 X71 H locs e71 f71 hW hS => ?_)
                  have iO39 : xh_in X71 v2 := by rw [f71]; exact xh_eq (xf_gives_e _ _ _ _ _) iO39
                  have hi52 : xm_in X71 (xf_belowOf Y0 k) := by rw [f71]; exact xm_eq (xf_gives_e _ _ _ _ _) hi52
                  refine xx_iast hx hb hK hW hS 57 rfl (ww_in (by omega) (by omega)) dX0_capsule_74 (fun X74 H locs f74 hW hS => ?_)
                  have iO39 : xh_in X74 v2 := by rw [f74]; exact xh_wr iO39 (by decide) (by decide)
                  have hi52 : xm_in X74 (xf_belowOf Y0 k) := by rw [f74]; exact xm_wr hi52 (by decide) (by decide)
                  have n74 : X74 = xf_cp_1 (xg_l D) Y0 k := by rw [f74, e71, f71, e67]; rfl
                  have y55 : fd_ X74 55 = fd_ Y0 55 := by rw [n74, fd_of (xf_cp1_fr _ _ _ 55 (by decide))]
                  refine lv_aload_n hx hb dX0_capsule_75 rfl (lv_at hl 2 rfl) ?_
                  refine lv_dup hx hb dX0_capsule_76 rfl ?_
                  refine xx_geti hx hb hts hown hK hW 55 rfl rfl (by decide) (by decide) q328 dX0_capsule_77 ?_
                  refine lv_dup_x1 hx hb dX0_capsule_80 rfl rfl ?_
                  refine lv_iconst (v := 1) hx hb dX0_capsule_81 (by decide) ?_
                  refine nv_iadd hx hb dX0_capsule_82 (fun v82 e82 => ?_)
                  refine xx_puti hx hb hts hown hK hW hS 55 rfl rfl (by decide) (by decide) (by decide) rfl rfl rfl q328 dX0_capsule_83 (fun X83 H locs f83 hW hS => ?_)
                  have iO39 : xh_in X83 v2 := by rw [f83]; exact xh_fw iO39 (by decide) (by decide)
                  have hi52 : xm_in X83 (xf_belowOf Y0 k) := by rw [f83]; exact xm_fw hi52 (by decide) (by decide)
                  have n83 : X83 = xf_cp_2 X74 := by rw [f83, e82]; rfl
                  refine lv_istore (lv' := [(4, .int (fd_ X74 55)), (3, .int k), (2, va_rf (xx_o D v2)), (0, .ref o), (1, .int b)]) hx hb dX0_capsule_86 hl (by decide) rfl (fun ls hl => ?_)
                  have L88 : ∀ (fu88 : Nat) (t : Int32) (Y2 : mm_S) (H : Heap) (locs : List Loc), (t.toInt < fu88) → (0 ≤ t.toInt) → (t.toInt ≤ (fd_ Y0 55).toInt) → (fr_ [53] X83 Y2) → (xv_Ut Y2 ((fd_ Y0 55).toInt + 1) t) → (xf_ci_go fu88 Y2 k t = xf_ci_s X83 k (fd_ X74 55)) → xx_W G o d0 Y2 E D H → va_S (xx_F o d0) sQ.heap H locs → ∀ ls : Array Slot, lv_has ls 5 [(4, .int t), (3, .int k), (2, va_rf (xx_o D v2)), (0, .ref o), (1, .int b)] → W pQ lQ eQ (wm_rm 173) sQ mQ ([Value.ref o, .int b] : List Value).toArray belowQ methQ cQ H locs 0 0 (MQ belowQ (wm_Q (fun vQ HQ => vQ = some (.int (xf_capsule (xg_l D) X b).1) ∧ xx_W G o d0 (xf_capsule (xg_l D) X b).2 E D HQ) (xx_F o d0)) ([Value.ref o, .int b] : List Value).toArray sQ 0 0 (xx_F o d0)) (F0 mQ 88 ls []) := by
                    intro fu88
                    induction fu88 with
                    | zero =>
                      intro t Y2 H locs hm88 i088 i188 iF88 i388 hgo88 hW hS ls hl
                      exact absurd hm88 (by omega)
                    | succ fu88 ih88 =>
                      intro t Y2 H locs hm88 i088 i188 iF88 i388 hgo88 hW hS ls hl
                      refine lv_iload hx hb dX0_capsule_88 (lv_at hl 0 rfl) ?_
                      refine lv_if_le (tgt := 138) hx hb dX0_capsule_90 (by decide) (fun c90 => ?_) (fun c90 => ?_)
                      · have t90 : (t).toInt ≤ 0 := ww_le c90
                        have g : (t, Y2) = xf_ci_s X83 k (fd_ X74 55) := by rw [xf_ci_go, if_pos c90] at hgo88; exact hgo88
                        have g1 : t = (xf_ci_s X83 k (fd_ X74 55)).1 := congrArg (fun zQ => zQ.1) g
                        have g2 : Y2 = (xf_ci_s X83 k (fd_ X74 55)).2 := congrArg (fun zQ => zQ.2) g
                        clear g hgo88
                        have up2 := i388
                        have cin := xf_ci_t 122 X83 k (fd_ X74 55) (by rw [y55]; exact i239) (by rw [y55]; omega)
                        have cu : 0 ≤ t.toInt ∧ t.toInt ≤ (fd_ Y0 55).toInt := by rw [g1, ← y55]; exact cin
                        refine lv_aload_n hx hb dX0_capsule_138 rfl (lv_at hl 3 rfl) ?_
                        refine xx_geta hx hb hts hown hK hW 53 rfl q326 dX0_capsule_139 ?_
                        refine lv_iload hx hb dX0_capsule_142 (lv_at hl 0 rfl) ?_
                        refine lv_iload_n hx hb dX0_capsule_144 rfl (lv_at hl 1 rfl) ?_
                        refine xx_iast hx hb hK hW hS 53 rfl (ww_in (by omega) (by omega)) dX0_capsule_145 (fun X145 H locs f145 hW hS => ?_)
                        obtain ⟨v146, e146⟩ : ∃ yQ : Int32, yQ = k + 1 := ⟨_, rfl⟩
                        refine lv_iinc (v := v146) (lv' := [(3, .int v146), (4, .int t), (2, va_rf (xx_o D v2)), (0, .ref o), (1, .int b)]) hx hb dX0_capsule_146 hl (k := 1) rfl (by rw [e146]; rfl) (by decide) (by simp [va_rf_c]) (fun ls hl => ?_)
                        refine lv_goto (tgt := 39) hx hb dX0_capsule_149 (by decide) ?_
                        have tb : v146.toInt = k.toInt + 1 := by rw [e146]; exact ww_inc' (by omega)
                        have hs : X145 = X145 := rfl
                        try have hs : X145 = xf_cp_S (xg_l D) Y0 k := by rw [f145, g1, g2, n83, n74]; rfl
                        have x55 : True := trivial
                        try have x55 : fd_ X145 55 = fd_ Y0 55 + 1 := by rw [f145, fd_wn (by decide), fd_of (iF88 55 (by decide)), f83, fd_fw, e82, y55]
                        try have t55 : (fd_ Y0 55 + 1).toInt = (fd_ Y0 55).toInt + 1 := ww_inc' (by omega)
                        exact ih39 v146 X145 H locs (by omega) (by omega) (by omega) (by first | exact iF39 | (rw [hs]; exact iF39.tr (xf_cpS_fr _ _ _))) (by first | exact i239 | (rw [x55]; omega)) (by first | omega | (rw [x55]; omega)) (by rw [e146]; first | (rw [if_neg c44, if_pos (by rw [← e49]; exact c52)] at i439; rw [← i439]; have z : fd_ Y0 55 + xf_bit 0 = fd_ Y0 55 := (ww_eq (by show (fd_ Y0 55 + 0).toInt = _; rw [ww_add] <;> rw [ww_z0] <;> omega)); rw [z]) | (rw [if_neg c44, if_neg (by rw [← e49]; exact c52)] at i439; rw [x55]; exact i439)) (by first | exact i539 | (rw [x55, t55, f145]; exact xv_Ut_w up2 i039 (by omega))) (by first | exact iO39 | (rw [hs]; have r := xf_cpS_fr (xg_l D) Y0 k; exact xh_eq ⟨(r 4 (by decide)).trans (iF39 4 (by decide)), (r 60 (by decide)).trans (iF39 60 (by decide))⟩ hi0)) (by first | (rw [e146]; rw [xf_cp_go, if_neg c44, if_pos (by rw [← e49]; exact c52)] at hgo39; exact hgo39) | (rw [e146, hs]; rw [xf_cp_go, if_neg c44, if_neg (by rw [← e49]; exact c52)] at hgo39; exact hgo39)) hW hS ls (lv_sub hl [0, 2, 3, 4] rfl)
                      · have t90 : 0 < (t).toInt := ww_nle c90
                        have t104 : ∀ v : Int32, v = t - 1 → v.toInt = t.toInt - 1 := fun v q => by rw [q]; exact ww_sub1 (by omega)
                        have up1 : ∀ v : Int32, v = t - 1 → 0 ≤ (rd_ Y2 53 v).toInt ∧ (rd_ Y2 53 v).toInt < 120 := fun v q => i388 v (by rw [t104 v q]; omega) (by rw [t104 v q]; omega) (by rw [t104 v q]; omega)
                        refine lv_aload_n hx hb dX0_capsule_93 rfl (lv_at hl 3 rfl) ?_
                        refine xx_geta hx hb hts hown hK hW 57 rfl q330 dX0_capsule_94 ?_
                        refine lv_aload_n hx hb dX0_capsule_97 rfl (lv_at hl 3 rfl) ?_
                        refine xx_geta hx hb hts hown hK hW 53 rfl q326 dX0_capsule_98 ?_
                        refine lv_iload hx hb dX0_capsule_101 (lv_at hl 0 rfl) ?_
                        refine lv_iconst (v := 1) hx hb dX0_capsule_103 (by decide) ?_
                        refine nv_isub hx hb dX0_capsule_104 (fun v104 e104 => ?_)
                        refine xx_iald hx hb hK hW 53 rfl (by have := t104 v104 e104; exact ww_in (by omega) (by omega)) dX0_capsule_105 ?_
                        refine xx_iald hx hb hK hW 57 rfl (ww_in (up1 v104 e104).1 (up1 v104 e104).2) dX0_capsule_106 ?_
                        refine lv_aload_n hx hb dX0_capsule_107 rfl (lv_at hl 3 rfl) ?_
                        refine xx_geta hx hb hts hown hK hW 57 rfl q330 dX0_capsule_108 ?_
                        refine lv_iload_n hx hb dX0_capsule_111 rfl (lv_at hl 1 rfl) ?_
                        refine xx_iald hx hb hK hW 57 rfl (ww_in (by omega) (by omega)) dX0_capsule_112 ?_
                        refine lv_icmp_ge (tgt := 138) hx hb dX0_capsule_113 (by decide) (fun c113 => ?_) (fun c113 => ?_)
                        · have t113 : ((rd_ Y2 57 k)).toInt ≤ ((rd_ Y2 57 (rd_ Y2 53 v104))).toInt := ww_le c113
                          have nle : rd_ Y2 57 k ≤ rd_ Y2 57 (rd_ Y2 53 (t - 1)) := by rw [← e104]; exact c113
                          have g : (t, Y2) = xf_ci_s X83 k (fd_ X74 55) := by rw [xf_ci_go, if_neg c90, if_pos nle] at hgo88; exact hgo88
                          have g1 : t = (xf_ci_s X83 k (fd_ X74 55)).1 := congrArg (fun zQ => zQ.1) g
                          have g2 : Y2 = (xf_ci_s X83 k (fd_ X74 55)).2 := congrArg (fun zQ => zQ.2) g
                          clear g hgo88
                          have up2 := i388
                          have cin := xf_ci_t 122 X83 k (fd_ X74 55) (by rw [y55]; exact i239) (by rw [y55]; omega)
                          have cu : 0 ≤ t.toInt ∧ t.toInt ≤ (fd_ Y0 55).toInt := by rw [g1, ← y55]; exact cin
                          refine lv_aload_n hx hb dX0_capsule_138 rfl (lv_at hl 3 rfl) ?_
                          refine xx_geta hx hb hts hown hK hW 53 rfl q326 dX0_capsule_139 ?_
                          refine lv_iload hx hb dX0_capsule_142 (lv_at hl 0 rfl) ?_
                          refine lv_iload_n hx hb dX0_capsule_144 rfl (lv_at hl 1 rfl) ?_
                          refine xx_iast hx hb hK hW hS 53 rfl (ww_in (by omega) (by omega)) dX0_capsule_145 (fun X145 H locs f145 hW hS => ?_)
                          obtain ⟨v146, e146⟩ : ∃ yQ : Int32, yQ = k + 1 := ⟨_, rfl⟩
                          refine lv_iinc (v := v146) (lv' := [(3, .int v146), (4, .int t), (2, va_rf (xx_o D v2)), (0, .ref o), (1, .int b)]) hx hb dX0_capsule_146 hl (k := 1) rfl (by rw [e146]; rfl) (by decide) (by simp [va_rf_c]) (fun ls hl => ?_)
                          refine lv_goto (tgt := 39) hx hb dX0_capsule_149 (by decide) ?_
                          have tb : v146.toInt = k.toInt + 1 := by rw [e146]; exact ww_inc' (by omega)
                          have hs : X145 = X145 := rfl
                          try have hs : X145 = xf_cp_S (xg_l D) Y0 k := by rw [f145, g1, g2, n83, n74]; rfl
                          have x55 : True := trivial
                          try have x55 : fd_ X145 55 = fd_ Y0 55 + 1 := by rw [f145, fd_wn (by decide), fd_of (iF88 55 (by decide)), f83, fd_fw, e82, y55]
                          try have t55 : (fd_ Y0 55 + 1).toInt = (fd_ Y0 55).toInt + 1 := ww_inc' (by omega)
                          exact ih39 v146 X145 H locs (by omega) (by omega) (by omega) (by first | exact iF39 | (rw [hs]; exact iF39.tr (xf_cpS_fr _ _ _))) (by first | exact i239 | (rw [x55]; omega)) (by first | omega | (rw [x55]; omega)) (by rw [e146]; first | (rw [if_neg c44, if_pos (by rw [← e49]; exact c52)] at i439; rw [← i439]; have z : fd_ Y0 55 + xf_bit 0 = fd_ Y0 55 := (ww_eq (by show (fd_ Y0 55 + 0).toInt = _; rw [ww_add] <;> rw [ww_z0] <;> omega)); rw [z]) | (rw [if_neg c44, if_neg (by rw [← e49]; exact c52)] at i439; rw [x55]; exact i439)) (by first | exact i539 | (rw [x55, t55, f145]; exact xv_Ut_w up2 i039 (by omega))) (by first | exact iO39 | (rw [hs]; have r := xf_cpS_fr (xg_l D) Y0 k; exact xh_eq ⟨(r 4 (by decide)).trans (iF39 4 (by decide)), (r 60 (by decide)).trans (iF39 60 (by decide))⟩ hi0)) (by first | (rw [e146]; rw [xf_cp_go, if_neg c44, if_pos (by rw [← e49]; exact c52)] at hgo39; exact hgo39) | (rw [e146, hs]; rw [xf_cp_go, if_neg c44, if_neg (by rw [← e49]; exact c52)] at hgo39; exact hgo39)) hW hS ls (lv_sub hl [0, 2, 3, 4] rfl)
                        · have t113 : ((rd_ Y2 57 (rd_ Y2 53 v104))).toInt < ((rd_ Y2 57 k)).toInt := ww_nle c113
                          have nle : ¬ rd_ Y2 57 k ≤ rd_ Y2 57 (rd_ Y2 53 (t - 1)) := by rw [← e104]; exact c113
                          refine lv_aload_n hx hb dX0_capsule_116 rfl (lv_at hl 3 rfl) ?_
                          refine xx_geta hx hb hts hown hK hW 53 rfl q326 dX0_capsule_117 ?_
                          refine lv_iload hx hb dX0_capsule_120 (lv_at hl 0 rfl) ?_
                          refine lv_aload_n hx hb dX0_capsule_122 rfl (lv_at hl 3 rfl) ?_
                          refine xx_geta hx hb hts hown hK hW 53 rfl q326 dX0_capsule_123 ?_
                          refine lv_iload hx hb dX0_capsule_126 (lv_at hl 0 rfl) ?_
                          refine lv_iconst (v := 1) hx hb dX0_capsule_128 (by decide) ?_
                          refine nv_isub hx hb dX0_capsule_129 (fun v129 e129 => ?_)
                          refine xx_iald hx hb hK hW 53 rfl (by have := t104 v129 e129; exact ww_in (by omega) (by omega)) dX0_capsule_130 ?_
                          refine xx_iast hx hb hK hW hS 53 rfl (ww_in (by omega) (by omega)) dX0_capsule_131 (fun X131 H locs f131 hW hS => ?_)
                          obtain ⟨v132, e132⟩ : ∃ yQ : Int32, yQ = t + (-1) := ⟨_, rfl⟩
                          refine lv_iinc (v := v132) (lv' := [(4, .int v132), (3, .int k), (2, va_rf (xx_o D v2)), (0, .ref o), (1, .int b)]) hx hb dX0_capsule_132 hl (k := 0) rfl (by rw [e132]; rfl) (by decide) rfl (fun ls hl => ?_)
                          refine lv_goto (tgt := 88) hx hb dX0_capsule_135 (by decide) ?_
                          have tb : v132.toInt = t.toInt - 1 := by rw [e132]; exact ww_dec (by omega)
                          exact ih88 v132 X131 H locs (by omega) (by omega) (by omega) (by rw [f131]; exact iF88.wr (by decide)) (by rw [f131, e129, e132]; exact xv_Ut_s i388 (by omega) (by omega)) (by rw [e132]; have z : X131 = xf_ci_1 Y2 t := (by rw [f131, e129]; rfl); rw [z]; rw [xf_ci_go, if_neg c90, if_neg nle] at hgo88; exact hgo88) hW hS ls (lv_sub hl [0, 1, 2, 3, 4] rfl)
                  exact L88 122 (fd_ X74 55) X83 H locs (by rw [y55]; show _ < (122 : Int); omega) (by rw [y55]; exact i239) (by rw [y55]; exact Int.le_refl _) (fr_.rf _) (by rw [f83]; intro i q0 q1 q2; rw [y55] at q2; rw [rd_fn (by decide), f74, rd_wn (by decide), f71, rd_of (xf_gives_fr _ _ _ _ _ 53 (by decide))]; exact i539 i q0 (by omega)) (rfl) hW hS ls (lv_sub hl [0, 1, 2, 3, 4] rfl)
                · have t52 : (v49).toInt < 0 := ww_l0 c52
                  refine lv_goto (tgt := 146) hx hb dX0_capsule_55 (by decide) ?_
                  obtain ⟨v146, e146⟩ : ∃ yQ : Int32, yQ = k + 1 := ⟨_, rfl⟩
                  refine lv_iinc (v := v146) (lv' := [(3, .int v146), (2, va_rf (xx_o D v2)), (0, .ref o), (1, .int b)]) hx hb dX0_capsule_146 hl (k := 0) rfl (by rw [e146]; rfl) (by decide) (by simp [va_rf_c]) (fun ls hl => ?_)
                  refine lv_goto (tgt := 39) hx hb dX0_capsule_149 (by decide) ?_
                  have tb : v146.toInt = k.toInt + 1 := by rw [e146]; exact ww_inc' (by omega)
                  have hs : Y0 = Y0 := rfl
                  try have hs : Y0 = xf_cp_S (xg_l D) Y0 k := by rw [f145, g1, g2, n83, n74]; rfl
                  have x55 : True := trivial
                  try have x55 : fd_ Y0 55 = fd_ Y0 55 + 1 := by rw [f145, fd_wn (by decide), fd_of (iF88 55 (by decide)), f83, fd_fw, e82, y55]
                  try have t55 : (fd_ Y0 55 + 1).toInt = (fd_ Y0 55).toInt + 1 := ww_inc' (by omega)
                  exact ih39 v146 Y0 H locs (by omega) (by omega) (by omega) (by first | exact iF39 | (rw [hs]; exact iF39.tr (xf_cpS_fr _ _ _))) (by first | exact i239 | (rw [x55]; omega)) (by first | omega | (rw [x55]; omega)) (by rw [e146]; first | (rw [if_neg c44, if_pos (by rw [← e49]; exact c52)] at i439; rw [← i439]; have z : fd_ Y0 55 + xf_bit 0 = fd_ Y0 55 := (ww_eq (by show (fd_ Y0 55 + 0).toInt = _; rw [ww_add] <;> rw [ww_z0] <;> omega)); rw [z]) | (rw [if_neg c44, if_neg (by rw [← e49]; exact c52)] at i439; rw [x55]; exact i439)) (by first | exact i539 | (rw [x55, t55, f145]; exact xv_Ut_w up2 i039 (by omega))) (by first | exact iO39 | (rw [hs]; have r := xf_cpS_fr (xg_l D) Y0 k; exact xh_eq ⟨(r 4 (by decide)).trans (iF39 4 (by decide)), (r 60 (by decide)).trans (iF39 60 (by decide))⟩ hi0)) (by first | (rw [e146]; rw [xf_cp_go, if_neg c44, if_pos (by rw [← e49]; exact c52)] at hgo39; exact hgo39) | (rw [e146, hs]; rw [xf_cp_go, if_neg c44, if_neg (by rw [← e49]; exact c52)] at hgo39; exact hgo39)) hW hS ls (lv_sub hl [0, 1, 2, 3] rfl)
          exact L39 121 0 X34 H locs (by show _ - 0 < (121 : Int); omega) (by decide) (by have h4 := (xv_W hW).1; rw [f34, fd_fn (by decide)] at h4; show (0 : Int) ≤ _; exact h4) (by rw [f34]; exact fr_fw (by decide)) (by rw [f34, fd_fw]; decide) (by rw [f34, fd_fw]; decide) (by rw [f34, fd_fw]; rfl) (by rw [f34, fd_fw]; intro i i0 i1; rw [ww_z0] at i1; omega) (by rw [f34]; exact xh_fw hi0 (by decide) (by decide)) (by rw [f34]; rfl) hW hS ls (lv_sub hl [0, 1, 2, 3] rfl)
        · skip
          refine lv_bipush (v := (-2)) hx hb dX0_capsule_29 (by decide) ?_
          refine xw_iret hx hb hr hlocks hW hS ?_ dX0_capsule_31
          have hres : xf_capsule (xg_l D) X b = ((-2), X) := by subst e2 e16 e23; simp only [xf_capsule, if_neg n7, if_neg c10, if_neg c19, if_pos c26]
          exact ⟨by rw [hres], by rw [hres], rfl⟩
    · skip
      refine lv_iconst (v := (-1)) hx hb dX0_capsule_13 (by decide) ?_
      refine xw_iret hx hb hr hlocks hW hS ?_ dX0_capsule_14
      have hres : xf_capsule (xg_l D) X b = ((-1), X) := by subst e2; simp only [xf_capsule, if_neg n7, if_pos c10]
      exact ⟨by rw [hres], by rw [hres], rfl⟩
