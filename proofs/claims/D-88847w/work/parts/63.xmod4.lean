set_option maxHeartbeats 4000000 in
theorem xc_set (lQ : Launch) (G : wm_G) (o d0 : Nat) (X : mm_S) (E : mm_E) (D : xg) (m : Int32) (h : Int32) : xw_Met lQ G o d0 yX0_set (ws_ yX0_set cX0_set 5 (some .int)) 3 X E D [Value.ref o, .int m, .int h] (some (.int (xf_set X m h).1)) (xf_set X m h).2 E := by
  refine xw_start (own := RX0) (by decide +kernel) (Nat.le_of_ble_eq_true rfl) rfl (fun pQ eQ sQ mQ belowQ methQ cQ hx hb hml hr hlocks hts hown hK hN H hW hS ls hl => ?_)
  have hl : lv_has ls 5 [(0, .ref o), (1, .int m), (2, .int h)] := hl
  generalize hlc : ([] : List Loc) = locs at hS ⊢
  refine lv_iload_n hx hb dX0_set_0 rfl (lv_at hl 1 rfl) ?_
  refine pp_calli (As := [.int m]) (rest := []) (n := 1) ⟨hx, hb, hml, hown, hts⟩ (xc_isMachine lQ m) (lw_S q784 q785 q84 q786) (by decide +kernel) rfl ⟨Nat.le_of_ble_eq_true rfl, Nat.le_of_ble_eq_true rfl⟩ hl.1 rfl (Nat.le_of_ble_eq_true rfl) dX0_set_1 ⟨Nat.le_of_ble_eq_true rfl, Nat.le_of_ble_eq_true rfl⟩ (fun v1 e1 => ?_)
  refine lv_if_eq (tgt := 20) hx hb dX0_set_4 (by decide) (fun c4 => ?_) (fun c4 => ?_)
  · skip
    refine lv_ldcw (v := (-2000000000)) hx hb hown (hts _ q727) dX0_set_20 ?_
    refine xw_iret hx hb hr hlocks hW hS ?_ dX0_set_23
    have hres : xf_set X m h = ((-2000000000), X) := by subst e1; simp only [xf_set, if_pos c4]
    exact ⟨by rw [hres], by rw [hres], rfl⟩
  · skip
    refine lv_iload_n hx hb dX0_set_7 rfl (lv_at hl 2 rfl) ?_
    refine lv_iconst (v := (-1)) hx hb dX0_set_8 (by decide) ?_
    refine lv_icmp_eq (tgt := 24) hx hb dX0_set_9 (by decide) (fun c9 => ?_) (fun c9 => ?_)
    · skip
      refine xw_joinb (G := G) (o := o) (d0 := d0) (X := X) (E := E) (D := D) (H0 := sQ.heap) (P := fun g : Int32 => g = (if h = -1 then -1 else xf_holeOf X h) ∧ xh_or X g) (j := 38) (rest := []) (ls := ls) (fun g H locs eg hW hS => ?_) (fun J38 => ?_)
      · skip
        have hgh := eg.2
        refine xl_astore_n (lv' := [(3, va_rf (xx_o D g)), (0, .ref o), (1, .int m), (2, .int h)]) hx hb dX0_set_38 rfl hl (by decide) rfl (fun ls hl => ?_)
        refine lv_iconst (v := 0) hx hb dX0_set_39 (by decide) ?_
        refine lv_istore (lv' := [(4, .int 0), (3, va_rf (xx_o D g)), (0, .ref o), (1, .int m), (2, .int h)]) hx hb dX0_set_40 hl (by decide) (by simp [va_rf_c]) (fun ls hl => ?_)
        have L42 : ∀ (fu42 : Nat) (k : Int32), (3 - k.toInt < fu42) → (0 ≤ k.toInt) → (k.toInt ≤ 3) → (xf_set_go fu42 X m g k = xf_set X m h) → ∀ ls : Array Slot, lv_has ls 5 [(4, .int k), (3, va_rf (xx_o D g)), (0, .ref o), (1, .int m), (2, .int h)] → W pQ lQ eQ (wm_rm 3) sQ mQ ([Value.ref o, .int m, .int h] : List Value).toArray belowQ methQ cQ H locs 0 0 (MQ belowQ (wm_Q (fun vQ HQ => vQ = some (.int (xf_set X m h).1) ∧ xx_W G o d0 (xf_set X m h).2 E D HQ) (xx_F o d0)) ([Value.ref o, .int m, .int h] : List Value).toArray sQ 0 0 (xx_F o d0)) (F0 mQ 42 ls []) := by
          intro fu42
          induction fu42 with
          | zero =>
            intro k hm42 i042 i142 hgo42 ls hl
            exact absurd hm42 (by omega)
          | succ fu42 ih42 =>
            intro k hm42 i042 i142 hgo42 ls hl
            refine lv_iload hx hb dX0_set_42 (lv_at hl 0 rfl) ?_
            refine lv_iconst (v := 3) hx hb dX0_set_44 (by decide) ?_
            refine lv_icmp_ge (tgt := 79) hx hb dX0_set_45 (by decide) (fun c45 => ?_) (fun c45 => ?_)
            · have t45 : 3 ≤ (k).toInt := ww_le c45
              refine lv_aload_n hx hb dX0_set_79 rfl (lv_at hl 2 rfl) ?_
              refine xx_getr hx hb hts hown hK hW 9 rfl rfl (by decide) (by decide) q278 dX0_set_80 ?_
              refine lv_iload_n hx hb dX0_set_83 rfl (lv_at hl 3 rfl) ?_
              refine xx_wald hx hb hK hW (by have t := ff_isMachine_t (by rw [← e1]; exact c4); exact ww_in (by omega) (by omega)) dX0_set_84 ?_
              refine xw_p (xw_rS (As := [va_rf (xx_o D (rd_ X 9 m))]) (rest := []) (n := 1) ⟨hx, hb, hml, hown, hts⟩ hK hN hW (xc_numberOf lQ G o d0 X E D (rd_ X 9 m) (hW.rng.2.1 m.toNatClampNeg (by have t := ff_isMachine_t (m := m) (by rw [← e1]; exact c4); rw [ww_cl]; omega))) (lw_S q792 q793 q84 q794) (by decide +kernel) rfl ⟨Nat.le_of_ble_eq_true rfl, Nat.le_of_ble_eq_true rfl⟩ hl.1 rfl (Nat.le_of_ble_eq_true rfl) dX0_set_85 ⟨Nat.le_of_ble_eq_true rfl, Nat.le_of_ble_eq_true rfl⟩) hS (fun v85 H locs e85 hW hS => ?_)
              refine lv_istore (lv' := [(4, .int v85), (3, va_rf (xx_o D g)), (0, .ref o), (1, .int m), (2, .int h)]) hx hb dX0_set_88 hl (by decide) (by simp [va_rf_c]) (fun ls hl => ?_)
              refine lv_aload_n hx hb dX0_set_90 rfl (lv_at hl 2 rfl) ?_
              refine xx_getr hx hb hts hown hK hW 9 rfl rfl (by decide) (by decide) q278 dX0_set_91 ?_
              refine lv_iload_n hx hb dX0_set_94 rfl (lv_at hl 3 rfl) ?_
              refine xl_aload_n hx hb dX0_set_95 rfl (lv_at hl 1 rfl) ?_
              refine xx_wast hx hb hK hN hW hS (by have t := ff_isMachine_t (by rw [← e1]; exact c4); exact ww_in (by omega) (by omega)) hgh dX0_set_96 (fun X96 H locs f96 hW hS => ?_)
              refine lv_iload hx hb dX0_set_97 (lv_at hl 0 rfl) ?_
              refine xw_iret hx hb hr hlocks hW hS ?_ dX0_set_99
              have hres : xf_set X m h = (v85, X96) := by rw [← hgo42]; subst e85 f96; simp only [xf_set_go, if_pos c45]
              exact ⟨by rw [hres], by rw [hres], rfl⟩
            · have t45 : (k).toInt < 3 := ww_nle c45
              refine xl_aload_n hx hb dX0_set_48 rfl (lv_at hl 1 rfl) ?_
              refine xl_ifnull (tgt := 73) hx hb dX0_set_49 (by decide) (fun c49 => ?_) (fun c49 => ?_)
              · have t49 : (g).toInt < 0 := ww_lt c49
                obtain ⟨v73, e73⟩ : ∃ yQ : Int32, yQ = k + 1 := ⟨_, rfl⟩
                refine lv_iinc (v := v73) (lv' := [(4, .int v73), (3, va_rf (xx_o D g)), (0, .ref o), (1, .int m), (2, .int h)]) hx hb dX0_set_73 hl (k := 0) rfl (by rw [e73]; rfl) (by decide) (by simp [va_rf_c]) (fun ls hl => ?_)
                refine lv_goto (tgt := 42) hx hb dX0_set_76 (by decide) ?_
                have tb : v73.toInt = k.toInt + 1 := by rw [e73]; exact ww_inc (b := 3) t45
                exact ih42 v73 (by omega) (by omega) (by omega) (by subst e73; simp only [xf_set_go, if_neg c45, if_pos c49] at hgo42; exact hgo42) ls (lv_sub hl [0, 1, 2, 3, 4] rfl)
              · have t49 : 0 ≤ (g).toInt := ww_nlt c49
                refine lv_iload hx hb dX0_set_52 (lv_at hl 0 rfl) ?_
                refine lv_iload_n hx hb dX0_set_54 rfl (lv_at hl 3 rfl) ?_
                refine lv_icmp_eq (tgt := 73) hx hb dX0_set_55 (by decide) (fun c55 => ?_) (fun c55 => ?_)
                · skip
                  obtain ⟨v73, e73⟩ : ∃ yQ : Int32, yQ = k + 1 := ⟨_, rfl⟩
                  refine lv_iinc (v := v73) (lv' := [(4, .int v73), (3, va_rf (xx_o D g)), (0, .ref o), (1, .int m), (2, .int h)]) hx hb dX0_set_73 hl (k := 0) rfl (by rw [e73]; rfl) (by decide) (by simp [va_rf_c]) (fun ls hl => ?_)
                  refine lv_goto (tgt := 42) hx hb dX0_set_76 (by decide) ?_
                  have tb : v73.toInt = k.toInt + 1 := by rw [e73]; exact ww_inc (b := 3) t45
                  exact ih42 v73 (by omega) (by omega) (by omega) (by subst e73; simp only [xf_set_go, if_neg c45, if_neg c49, if_pos c55] at hgo42; exact hgo42) ls (lv_sub hl [0, 1, 2, 3, 4] rfl)
                · skip
                  refine lv_aload_n hx hb dX0_set_58 rfl (lv_at hl 2 rfl) ?_
                  refine xx_getr hx hb hts hown hK hW 9 rfl rfl (by decide) (by decide) q278 dX0_set_59 ?_
                  refine lv_iload hx hb dX0_set_62 (lv_at hl 0 rfl) ?_
                  refine xx_wald hx hb hK hW (ww_in (by omega) (by omega)) dX0_set_64 ?_
                  refine xl_aload_n hx hb dX0_set_65 rfl (lv_at hl 1 rfl) ?_
                  refine xl_acmp_ne (tgt := 73) hx hb hW (hgh.2 c49).1 (hW.rng.2.1 k.toNatClampNeg (by rw [ww_cl]; omega)) dX0_set_66 (by decide) (fun c66 => ?_) (fun c66 => ?_)
                  · skip
                    obtain ⟨v73, e73⟩ : ∃ yQ : Int32, yQ = k + 1 := ⟨_, rfl⟩
                    refine lv_iinc (v := v73) (lv' := [(4, .int v73), (3, va_rf (xx_o D g)), (0, .ref o), (1, .int m), (2, .int h)]) hx hb dX0_set_73 hl (k := 0) rfl (by rw [e73]; rfl) (by decide) (by simp [va_rf_c]) (fun ls hl => ?_)
                    refine lv_goto (tgt := 42) hx hb dX0_set_76 (by decide) ?_
                    have tb : v73.toInt = k.toInt + 1 := by rw [e73]; exact ww_inc (b := 3) t45
                    exact ih42 v73 (by omega) (by omega) (by omega) (by subst e73; simp only [xf_set_go, if_neg c45, if_neg c49, if_neg c55, if_neg c66] at hgo42; exact hgo42) ls (lv_sub hl [0, 1, 2, 3, 4] rfl)
                  · skip
                    refine lv_ldcw (v := (-2000000000)) hx hb hown (hts _ q727) dX0_set_69 ?_
                    refine xw_iret hx hb hr hlocks hW hS ?_ dX0_set_72
                    have hres : xf_set X m h = ((-2000000000), X) := by rw [← hgo42]; simp only [xf_set_go, if_neg c45, if_neg c49, if_neg c55, if_pos c66]
                    exact ⟨by rw [hres], by rw [hres], rfl⟩
        exact L42 4 0 (by decide) (by decide) (by decide) (by rw [eg.1]; subst e1; simp only [xf_set, if_neg c4, if_pos c9]) ls (lv_sub hl [0, 1, 2, 3, 4] rfl)
      refine lv_iload_n hx hb dX0_set_24 rfl (lv_at hl 2 rfl) ?_
      refine lv_iconst (v := (-1)) hx hb dX0_set_25 (by decide) ?_
      refine lv_icmp_ne (tgt := 33) hx hb dX0_set_26 (by decide) (fun c26 => ?_) (fun c26 => ?_)
      · skip
        exact absurd c9 c26
      · skip
        refine xl_null (D := D) hx hb dX0_set_29 ?_
        refine lv_goto (tgt := 38) hx hb dX0_set_30 (by decide) ?_
        exact J38 _ H locs (by refine ⟨(if_pos c26).symm, xh_or_n (xv_W hW)⟩) hW hS
    · skip
      refine lv_aload_n hx hb dX0_set_12 rfl (lv_at hl 0 rfl) ?_
      refine lv_iload_n hx hb dX0_set_13 rfl (lv_at hl 2 rfl) ?_
      refine xw_b (xw_rV (As := [.int h]) (rest := []) (n := 1) ⟨hx, hb, hml, hown, hts⟩ hK hN hW (xc_holeOf lQ G o d0 X E D h) (lw_V q754 q756 qs3 q84 q757) (xr_main hK hW) (by decide +kernel) rfl ⟨Nat.le_of_ble_eq_true rfl, Nat.le_of_ble_eq_true rfl⟩ hl.1 rfl (Nat.le_of_ble_eq_true rfl) dX0_set_14 ⟨Nat.le_of_ble_eq_true rfl, Nat.le_of_ble_eq_true rfl⟩) hS (fun v14 H locs e14 hW hS => ?_)
      refine xl_ifnonnull (tgt := 24) hx hb dX0_set_17 (by decide) (fun c17 => ?_) (fun c17 => ?_)
      · have t17 : 0 ≤ (v14).toInt := ww_nl0 c17
        have hi17 : xh_in X (xf_holeOf X h) := xf_holeOf_q (xv_W hW) (by rw [← e14]; exact c17)
        refine xw_joinb (G := G) (o := o) (d0 := d0) (X := X) (E := E) (D := D) (H0 := sQ.heap) (P := fun g : Int32 => g = (if h = -1 then -1 else xf_holeOf X h) ∧ xh_or X g) (j := 38) (rest := []) (ls := ls) (fun g H locs eg hW hS => ?_) (fun J38 => ?_)
        · skip
          have hgh := eg.2
          refine xl_astore_n (lv' := [(3, va_rf (xx_o D g)), (0, .ref o), (1, .int m), (2, .int h)]) hx hb dX0_set_38 rfl hl (by decide) rfl (fun ls hl => ?_)
          refine lv_iconst (v := 0) hx hb dX0_set_39 (by decide) ?_
          refine lv_istore (lv' := [(4, .int 0), (3, va_rf (xx_o D g)), (0, .ref o), (1, .int m), (2, .int h)]) hx hb dX0_set_40 hl (by decide) (by simp [va_rf_c]) (fun ls hl => ?_)
          have L42 : ∀ (fu42 : Nat) (k : Int32), (3 - k.toInt < fu42) → (0 ≤ k.toInt) → (k.toInt ≤ 3) → (xf_set_go fu42 X m g k = xf_set X m h) → ∀ ls : Array Slot, lv_has ls 5 [(4, .int k), (3, va_rf (xx_o D g)), (0, .ref o), (1, .int m), (2, .int h)] → W pQ lQ eQ (wm_rm 3) sQ mQ ([Value.ref o, .int m, .int h] : List Value).toArray belowQ methQ cQ H locs 0 0 (MQ belowQ (wm_Q (fun vQ HQ => vQ = some (.int (xf_set X m h).1) ∧ xx_W G o d0 (xf_set X m h).2 E D HQ) (xx_F o d0)) ([Value.ref o, .int m, .int h] : List Value).toArray sQ 0 0 (xx_F o d0)) (F0 mQ 42 ls []) := by
            intro fu42
            induction fu42 with
            | zero =>
              intro k hm42 i042 i142 hgo42 ls hl
              exact absurd hm42 (by omega)
            | succ fu42 ih42 =>
              intro k hm42 i042 i142 hgo42 ls hl
              refine lv_iload hx hb dX0_set_42 (lv_at hl 0 rfl) ?_
              refine lv_iconst (v := 3) hx hb dX0_set_44 (by decide) ?_
              refine lv_icmp_ge (tgt := 79) hx hb dX0_set_45 (by decide) (fun c45 => ?_) (fun c45 => ?_)
              · have t45 : 3 ≤ (k).toInt := ww_le c45
                refine lv_aload_n hx hb dX0_set_79 rfl (lv_at hl 2 rfl) ?_
                refine xx_getr hx hb hts hown hK hW 9 rfl rfl (by decide) (by decide) q278 dX0_set_80 ?_
                refine lv_iload_n hx hb dX0_set_83 rfl (lv_at hl 3 rfl) ?_
                refine xx_wald hx hb hK hW (by have t := ff_isMachine_t (by rw [← e1]; exact c4); exact ww_in (by omega) (by omega)) dX0_set_84 ?_
                refine xw_p (xw_rS (As := [va_rf (xx_o D (rd_ X 9 m))]) (rest := []) (n := 1) ⟨hx, hb, hml, hown, hts⟩ hK hN hW (xc_numberOf lQ G o d0 X E D (rd_ X 9 m) (hW.rng.2.1 m.toNatClampNeg (by have t := ff_isMachine_t (m := m) (by rw [← e1]; exact c4); rw [ww_cl]; omega))) (lw_S q792 q793 q84 q794) (by decide +kernel) rfl ⟨Nat.le_of_ble_eq_true rfl, Nat.le_of_ble_eq_true rfl⟩ hl.1 rfl (Nat.le_of_ble_eq_true rfl) dX0_set_85 ⟨Nat.le_of_ble_eq_true rfl, Nat.le_of_ble_eq_true rfl⟩) hS (fun v85 H locs e85 hW hS => ?_)
                refine lv_istore (lv' := [(4, .int v85), (3, va_rf (xx_o D g)), (0, .ref o), (1, .int m), (2, .int h)]) hx hb dX0_set_88 hl (by decide) (by simp [va_rf_c]) (fun ls hl => ?_)
                refine lv_aload_n hx hb dX0_set_90 rfl (lv_at hl 2 rfl) ?_
                refine xx_getr hx hb hts hown hK hW 9 rfl rfl (by decide) (by decide) q278 dX0_set_91 ?_
                refine lv_iload_n hx hb dX0_set_94 rfl (lv_at hl 3 rfl) ?_
                refine xl_aload_n hx hb dX0_set_95 rfl (lv_at hl 1 rfl) ?_
                refine xx_wast hx hb hK hN hW hS (by have t := ff_isMachine_t (by rw [← e1]; exact c4); exact ww_in (by omega) (by omega)) hgh dX0_set_96 (fun X96 H locs f96 hW hS => ?_)
                refine lv_iload hx hb dX0_set_97 (lv_at hl 0 rfl) ?_
                refine xw_iret hx hb hr hlocks hW hS ?_ dX0_set_99
                have hres : xf_set X m h = (v85, X96) := by rw [← hgo42]; subst e85 f96; simp only [xf_set_go, if_pos c45]
                exact ⟨by rw [hres], by rw [hres], rfl⟩
              · have t45 : (k).toInt < 3 := ww_nle c45
                refine xl_aload_n hx hb dX0_set_48 rfl (lv_at hl 1 rfl) ?_
                refine xl_ifnull (tgt := 73) hx hb dX0_set_49 (by decide) (fun c49 => ?_) (fun c49 => ?_)
                · have t49 : (g).toInt < 0 := ww_lt c49
                  obtain ⟨v73, e73⟩ : ∃ yQ : Int32, yQ = k + 1 := ⟨_, rfl⟩
                  refine lv_iinc (v := v73) (lv' := [(4, .int v73), (3, va_rf (xx_o D g)), (0, .ref o), (1, .int m), (2, .int h)]) hx hb dX0_set_73 hl (k := 0) rfl (by rw [e73]; rfl) (by decide) (by simp [va_rf_c]) (fun ls hl => ?_)
                  refine lv_goto (tgt := 42) hx hb dX0_set_76 (by decide) ?_
                  have tb : v73.toInt = k.toInt + 1 := by rw [e73]; exact ww_inc (b := 3) t45
                  exact ih42 v73 (by omega) (by omega) (by omega) (by subst e73; simp only [xf_set_go, if_neg c45, if_pos c49] at hgo42; exact hgo42) ls (lv_sub hl [0, 1, 2, 3, 4] rfl)
                · have t49 : 0 ≤ (g).toInt := ww_nlt c49
                  refine lv_iload hx hb dX0_set_52 (lv_at hl 0 rfl) ?_
                  refine lv_iload_n hx hb dX0_set_54 rfl (lv_at hl 3 rfl) ?_
                  refine lv_icmp_eq (tgt := 73) hx hb dX0_set_55 (by decide) (fun c55 => ?_) (fun c55 => ?_)
                  · skip
                    obtain ⟨v73, e73⟩ : ∃ yQ : Int32, yQ = k + 1 := ⟨_, rfl⟩
                    refine lv_iinc (v := v73) (lv' := [(4, .int v73), (3, va_rf (xx_o D g)), (0, .ref o), (1, .int m), (2, .int h)]) hx hb dX0_set_73 hl (k := 0) rfl (by rw [e73]; rfl) (by decide) (by simp [va_rf_c]) (fun ls hl => ?_)
                    refine lv_goto (tgt := 42) hx hb dX0_set_76 (by decide) ?_
                    have tb : v73.toInt = k.toInt + 1 := by rw [e73]; exact ww_inc (b := 3) t45
                    exact ih42 v73 (by omega) (by omega) (by omega) (by subst e73; simp only [xf_set_go, if_neg c45, if_neg c49, if_pos c55] at hgo42; exact hgo42) ls (lv_sub hl [0, 1, 2, 3, 4] rfl)
                  · skip
                    refine lv_aload_n hx hb dX0_set_58 rfl (lv_at hl 2 rfl) ?_
                    refine xx_getr hx hb hts hown hK hW 9 rfl rfl (by decide) (by decide) q278 dX0_set_59 ?_
                    refine lv_iload hx hb dX0_set_62 (lv_at hl 0 rfl) ?_
                    refine xx_wald hx hb hK hW (ww_in (by omega) (by omega)) dX0_set_64 ?_
                    refine xl_aload_n hx hb dX0_set_65 rfl (lv_at hl 1 rfl) ?_
                    refine xl_acmp_ne (tgt := 73) hx hb hW (hgh.2 c49).1 (hW.rng.2.1 k.toNatClampNeg (by rw [ww_cl]; omega)) dX0_set_66 (by decide) (fun c66 => ?_) (fun c66 => ?_)
                    · skip
                      obtain ⟨v73, e73⟩ : ∃ yQ : Int32, yQ = k + 1 := ⟨_, rfl⟩
                      refine lv_iinc (v := v73) (lv' := [(4, .int v73), (3, va_rf (xx_o D g)), (0, .ref o), (1, .int m), (2, .int h)]) hx hb dX0_set_73 hl (k := 0) rfl (by rw [e73]; rfl) (by decide) (by simp [va_rf_c]) (fun ls hl => ?_)
                      refine lv_goto (tgt := 42) hx hb dX0_set_76 (by decide) ?_
                      have tb : v73.toInt = k.toInt + 1 := by rw [e73]; exact ww_inc (b := 3) t45
                      exact ih42 v73 (by omega) (by omega) (by omega) (by subst e73; simp only [xf_set_go, if_neg c45, if_neg c49, if_neg c55, if_neg c66] at hgo42; exact hgo42) ls (lv_sub hl [0, 1, 2, 3, 4] rfl)
                    · skip
                      refine lv_ldcw (v := (-2000000000)) hx hb hown (hts _ q727) dX0_set_69 ?_
                      refine xw_iret hx hb hr hlocks hW hS ?_ dX0_set_72
                      have hres : xf_set X m h = ((-2000000000), X) := by rw [← hgo42]; simp only [xf_set_go, if_neg c45, if_neg c49, if_neg c55, if_pos c66]
                      exact ⟨by rw [hres], by rw [hres], rfl⟩
          exact L42 4 0 (by decide) (by decide) (by decide) (by rw [eg.1]; subst e1 e14; simp only [xf_set, if_neg c4, if_neg c9, if_neg c17]) ls (lv_sub hl [0, 1, 2, 3, 4] rfl)
        refine lv_iload_n hx hb dX0_set_24 rfl (lv_at hl 2 rfl) ?_
        refine lv_iconst (v := (-1)) hx hb dX0_set_25 (by decide) ?_
        refine lv_icmp_ne (tgt := 33) hx hb dX0_set_26 (by decide) (fun c26 => ?_) (fun c26 => ?_)
        · skip
          refine lv_aload_n hx hb dX0_set_33 rfl (lv_at hl 0 rfl) ?_
          refine lv_iload_n hx hb dX0_set_34 rfl (lv_at hl 2 rfl) ?_
          refine xw_b (xw_rV (As := [.int h]) (rest := []) (n := 1) ⟨hx, hb, hml, hown, hts⟩ hK hN hW (xc_holeOf lQ G o d0 X E D h) (lw_V q754 q756 qs3 q84 q757) (xr_main hK hW) (by decide +kernel) rfl ⟨Nat.le_of_ble_eq_true rfl, Nat.le_of_ble_eq_true rfl⟩ hl.1 rfl (Nat.le_of_ble_eq_true rfl) dX0_set_35 ⟨Nat.le_of_ble_eq_true rfl, Nat.le_of_ble_eq_true rfl⟩) hS (fun v35 H locs e35 hW hS => ?_)
          exact J38 _ H locs (by refine ⟨?_, ?_⟩; exact (by rw [e35]; rw [if_neg c26]); rw [e35]; exact xh_or_of (xv_W hW)) hW hS
        · skip
          exact absurd c26 c9
      · have t17 : (v14).toInt < 0 := ww_l0 c17
        refine lv_ldcw (v := (-2000000000)) hx hb hown (hts _ q727) dX0_set_20 ?_
        refine xw_iret hx hb hr hlocks hW hS ?_ dX0_set_23
        have hres : xf_set X m h = ((-2000000000), X) := by subst e1 e14; simp only [xf_set, if_neg c4, if_neg c9, if_pos c17]
        exact ⟨by rw [hres], by rw [hres], rfl⟩

set_option maxHeartbeats 4000000 in
theorem xc_yard (lQ : Launch) (G : wm_G) (o d0 : Nat) (X : mm_S) (E : mm_E) (D : xg) (h : Int32) (v : Int32) (hT : xv_T X) : xw_Met lQ G o d0 yX0_yard (ws_ yX0_yard cX0_yard 4 (some .int)) 3 X E D [Value.ref o, .int h, .int v] (some (.int (xf_yard X h v).1)) (xf_yard X h v).2 E := by
  refine xw_start (own := RX0) (by decide +kernel) (Nat.le_of_ble_eq_true rfl) rfl (fun pQ eQ sQ mQ belowQ methQ cQ hx hb hml hr hlocks hts hown hK hN H hW hS ls hl => ?_)
  have hl : lv_has ls 4 [(0, .ref o), (1, .int h), (2, .int v)] := hl
  generalize hlc : ([] : List Loc) = locs at hS ⊢
  refine lv_aload_n hx hb dX0_yard_0 rfl (lv_at hl 0 rfl) ?_
  refine lv_iload_n hx hb dX0_yard_1 rfl (lv_at hl 1 rfl) ?_
  refine xw_b (xw_rV (As := [.int h]) (rest := []) (n := 1) ⟨hx, hb, hml, hown, hts⟩ hK hN hW (xc_holeOf lQ G o d0 X E D h) (lw_V q754 q756 qs3 q84 q757) (xr_main hK hW) (by decide +kernel) rfl ⟨Nat.le_of_ble_eq_true rfl, Nat.le_of_ble_eq_true rfl⟩ hl.1 rfl (Nat.le_of_ble_eq_true rfl) dX0_yard_2 ⟨Nat.le_of_ble_eq_true rfl, Nat.le_of_ble_eq_true rfl⟩) hS (fun v2 H locs e2 hW hS => ?_)
  refine xl_astore_n (lv' := [(3, va_rf (xx_o D v2)), (0, .ref o), (1, .int h), (2, .int v)]) hx hb dX0_yard_5 rfl hl (by decide) rfl (fun ls hl => ?_)
  refine xl_aload_n hx hb dX0_yard_6 rfl (lv_at hl 0 rfl) ?_
  refine xl_ifnull (tgt := 24) hx hb dX0_yard_7 (by decide) (fun c7 => ?_) (fun c7 => ?_)
  · have t7 : (v2).toInt < 0 := ww_lt c7
    refine lv_iconst (v := (-1)) hx hb dX0_yard_24 (by decide) ?_
    refine xw_iret hx hb hr hlocks hW hS ?_ dX0_yard_25
    have hres : xf_yard X h v = ((-1), X) := by subst e2; simp only [xf_yard, xf_yard_2, xf_yard_1, if_pos c7]
    exact ⟨by rw [hres], by rw [hres], rfl⟩
  · have t7 : 0 ≤ (v2).toInt := ww_nlt c7
    have hi7 : xh_in X (xf_holeOf X h) := xf_holeOf_q (xv_W hW) (by rw [← e2]; exact c7)
    refine lv_iload_n hx hb dX0_yard_10 rfl (lv_at hl 3 rfl) ?_
    refine lv_i2l (v := (v).toInt64) hx hb dX0_yard_11 rfl ?_
    refine lv_ldc2 (v := (-2)) hx hb hown (hts _ q804) dX0_yard_12 ?_
    refine lv_ldc2 (v := 2) hx hb hown (hts _ q514) dX0_yard_15 ?_
    refine xx_within (rest := []) v (-2) 2 ⟨hx, hb, hml, hown, hts⟩ rfl (by decide) (by decide) q459 hl.1 rfl rfl (Nat.le_of_ble_eq_true rfl) rfl rfl ⟨Nat.le_of_ble_eq_true rfl, Nat.le_of_ble_eq_true rfl⟩ dX0_yard_18 (fun v18 e18 => ?_)
    refine lv_if_ne (tgt := 26) hx hb dX0_yard_21 (by decide) (fun c21 => ?_) (fun c21 => ?_)
    · skip
      refine xl_aload_n hx hb dX0_yard_26 rfl (lv_at hl 0 rfl) ?_
      refine xw_p (xd_isThrough_X0 (rest := []) lQ ⟨hx, hb, hml, hown, hts⟩ hK hN hW (show xh_in X v2 from by rw [e2]; exact hi7) ⟨Nat.le_of_ble_eq_true rfl, Nat.le_of_ble_eq_true rfl⟩ hl.1 (by rw [xx_o_pos (show xh_in X v2 from by rw [e2]; exact hi7).1.1]; rfl) (Nat.le_of_ble_eq_true rfl) dX0_yard_27 ⟨Nat.le_of_ble_eq_true rfl, Nat.le_of_ble_eq_true rfl⟩) hS (fun v27 H locs e27 hW hS => ?_)
      refine lv_if_eq (tgt := 36) hx hb dX0_yard_30 (by decide) (fun c30 => ?_) (fun c30 => ?_)
      · skip
        refine xl_aload_n hx hb dX0_yard_36 rfl (lv_at hl 0 rfl) ?_
        refine xl_top (show xh_in X v2 from by rw [e2]; exact hi7).1.1 ?_
        refine xb_getN hx hb hts hown hK hW (show xh_in X v2 from by rw [e2]; exact hi7).1 (k := 6) (xf_hole (show xh_in X v2 from by rw [e2]; exact hi7).2 (k := 6) (by decide)) (hN.nf q528) rfl (xb_vi (f := 64) (xf_hole (show xh_in X v2 from by rw [e2]; exact hi7).2 (k := 6) (by decide)) (by decide)) dX0_yard_37 ?_
        refine lv_bipush (v := 60) hx hb dX0_yard_40 (by decide) ?_
        refine lv_icmp_ne (tgt := 48) hx hb dX0_yard_42 (by decide) (fun c42 => ?_) (fun c42 => ?_)
        · skip
          obtain ⟨q1, q2, q3⟩ := hT (xf_holeOf X h) (xb_120 (xv_W hW) hi7.1).1 (xb_120 (xv_W hW) hi7.1).2
          have q4 : (rd_ X 64 (xf_holeOf X h)).toInt ≠ 60 := by rw [← e2]; exact ww_ne c42
          refine xl_aload_n hx hb dX0_yard_48 rfl (lv_at hl 0 rfl) ?_
          refine xl_top (show xh_in X v2 from by rw [e2]; exact hi7).1.1 ?_
          refine xb_getN hx hb hts hown hK hW (show xh_in X v2 from by rw [e2]; exact hi7).1 (k := 5) (xf_hole (show xh_in X v2 from by rw [e2]; exact hi7).2 (k := 5) (by decide)) (hN.nf q526) rfl (xb_va (j := 1) (xf_hole (show xh_in X v2 from by rw [e2]; exact hi7).2 (k := 5) (by decide)) (by decide)) dX0_yard_49 ?_
          refine xl_aload_n hx hb dX0_yard_52 rfl (lv_at hl 0 rfl) ?_
          refine lv_dup hx hb dX0_yard_53 (va_rf_c _) ?_
          refine xl_top (show xh_in X v2 from by rw [e2]; exact hi7).1.1 ?_
          refine xb_getN hx hb hts hown hK hW (show xh_in X v2 from by rw [e2]; exact hi7).1 (k := 6) (xf_hole (show xh_in X v2 from by rw [e2]; exact hi7).2 (k := 6) (by decide)) (hN.nf q528) rfl (xb_vi (f := 64) (xf_hole (show xh_in X v2 from by rw [e2]; exact hi7).2 (k := 6) (by decide)) (by decide)) dX0_yard_54 ?_
          refine lv_iconst (v := 1) hx hb dX0_yard_57 (by decide) ?_
          refine nv_iadd hx hb dX0_yard_58 (fun v58 e58 => ?_)
          refine lv_dup_x1 hx hb dX0_yard_59 rfl (va_rf_c _) ?_
          refine xl_top2 (show xh_in X v2 from by rw [e2]; exact hi7).1.1 ?_
          refine xb_putN hx hb hts hown hK hW hS (show xh_in X v2 from by rw [e2]; exact hi7).1 (k := 6) (f := 64) (xf_hole (show xh_in X v2 from by rw [e2]; exact hi7).2 (k := 6) (by decide)) (xf_hnm _ (show xh_in X v2 from by rw [e2]; exact hi7).2 6 (by decide) (by decide)) (by decide) rfl rfl rfl (hN.nf q528) rfl dX0_yard_60 (fun X60 H locs f60 hW hS => ?_)
          have hi7 : xh_in X60 (xf_holeOf X h) := by rw [f60]; exact xh_wr hi7 (by decide) (by decide)
          refine lv_iload_n hx hb dX0_yard_63 rfl (lv_at hl 3 rfl) ?_
          refine xh_iast hx hb hK hW hS (show xh_in X60 v2 from by rw [e2]; exact hi7) 0 (by decide) 63 rfl (by have q5 : (rd_ X 64 (xf_holeOf X h) + 1).toInt = (rd_ X 64 (xf_holeOf X h)).toInt + 1 := ww_inc' (by omega); rw [e58, e2]; exact ww_in (by omega) (by omega)) dX0_yard_64 (fun X64 H locs f64 hW hS => ?_)
          have hi7 : xh_in X64 (xf_holeOf X h) := by rw [f64]; exact xh_wa hi7 (by decide) (by decide)
          refine xl_aload_n hx hb dX0_yard_65 rfl (lv_at hl 0 rfl) ?_
          refine xl_top (show xh_in X64 v2 from by rw [e2]; exact hi7).1.1 ?_
          refine xb_getN hx hb hts hown hK hW (show xh_in X64 v2 from by rw [e2]; exact hi7).1 (k := 6) (xf_hole (show xh_in X64 v2 from by rw [e2]; exact hi7).2 (k := 6) (by decide)) (hN.nf q528) rfl (xb_vi (f := 64) (xf_hole (show xh_in X64 v2 from by rw [e2]; exact hi7).2 (k := 6) (by decide)) (by decide)) dX0_yard_66 ?_
          refine xw_iret hx hb hr hlocks hW hS ?_ dX0_yard_69
          have hres : xf_yard X h v = ((rd_ X64 64 v2), X64) := by subst e2 e18 e27 e58 f60 f64; simp only [xf_yard, xf_yard_2, xf_yard_1, if_neg c7, if_neg c21, if_pos c30, if_neg c42]
          exact ⟨by rw [hres], by rw [hres], rfl⟩
        · skip
          refine lv_bipush (v := (-3)) hx hb dX0_yard_45 (by decide) ?_
          refine xw_iret hx hb hr hlocks hW hS ?_ dX0_yard_47
          have hres : xf_yard X h v = ((-3), X) := by subst e2 e18 e27; simp only [xf_yard, xf_yard_2, xf_yard_1, if_neg c7, if_neg c21, if_pos c30, if_pos c42]
          exact ⟨by rw [hres], by rw [hres], rfl⟩
      · skip
        refine lv_bipush (v := (-2)) hx hb dX0_yard_33 (by decide) ?_
        refine xw_iret hx hb hr hlocks hW hS ?_ dX0_yard_35
        have hres : xf_yard X h v = ((-2), X) := by subst e2 e18 e27; simp only [xf_yard, xf_yard_2, xf_yard_1, if_neg c7, if_neg c21, if_neg c30]
        exact ⟨by rw [hres], by rw [hres], rfl⟩
    · skip
      refine lv_iconst (v := (-1)) hx hb dX0_yard_24 (by decide) ?_
      refine xw_iret hx hb hr hlocks hW hS ?_ dX0_yard_25
      have hres : xf_yard X h v = ((-1), X) := by subst e2 e18; simp only [xf_yard, xf_yard_2, xf_yard_1, if_neg c7, if_pos c21]
      exact ⟨by rw [hres], by rw [hres], rfl⟩

set_option maxHeartbeats 4000000 in
theorem xc_isBored (lQ : Launch) (G : wm_G) (o d0 : Nat) (X : mm_S) (E : mm_E) (D : xg) (h : Int32) (y : Int32) (hh : xh_or X h) : xw_Met lQ G o d0 yX0_isBored (ws_ yX0_isBored cX0_isBored 2 (some .boolean)) 1 X E D ([va_rf (xx_o D h), .int y] : List Value) (some (.int (xf_isBored X h y))) X E := by
  refine xw_start (own := RX0) (by decide +kernel) (by simp [lg_sl, va_rf_c, vc_i, vc_r, vc_l]) rfl (fun pQ eQ sQ mQ belowQ methQ cQ hx hb hml hr hlocks hts hown hK hN H hW hS ls hl => ?_)
  have hl : lv_has ls 2 [(0, va_rf (xx_o D h)), (1, .int y)] := by simpa [lv_args, va_rf_c, vc_i, vc_r, vc_l] using hl
  generalize hlc : ([] : List Loc) = locs at hS ⊢
  refine xl_aload_n hx hb dX0_isBored_0 rfl (lv_at hl 0 rfl) ?_
  refine xl_ifnull (tgt := 22) hx hb dX0_isBored_1 (by decide) (fun c1 => ?_) (fun c1 => ?_)
  · have t1 : (h).toInt < 0 := ww_lt c1
    refine lv_iconst (v := 0) hx hb dX0_isBored_22 (by decide) ?_
    refine xw_zret hx hb hr hlocks hW hS rfl ?_ dX0_isBored_23
    have hres : xf_isBored X h y = 0 := by simp only [xf_isBored, if_pos c1]
    exact ⟨by rw [hres], rfl, rfl⟩
  · have t1 : 0 ≤ (h).toInt := ww_nlt c1
    have hi1 := hh.2 c1
    refine lv_iload_n hx hb dX0_isBored_4 rfl (lv_at hl 1 rfl) ?_
    refine lv_i2l (v := (y).toInt64) hx hb dX0_isBored_5 rfl ?_
    refine lv_lconst (v := 1) hx hb dX0_isBored_6 (by decide) ?_
    refine xl_aload_n hx hb dX0_isBored_7 rfl (lv_at hl 0 rfl) ?_
    refine xl_top hi1.1.1 ?_
    refine xb_getN hx hb hts hown hK hW hi1.1 (k := 8) (xf_hole hi1.2 (k := 8) (by decide)) (hN.nf q532) rfl (xb_vi (f := 66) (xf_hole hi1.2 (k := 8) (by decide)) (by decide)) dX0_isBored_8 ?_
    refine lv_i2l (v := ((rd_ X 66 h)).toInt64) hx hb dX0_isBored_11 rfl ?_
    refine xx_within (rest := []) y 1 (rd_ X 66 h) ⟨hx, hb, hml, hown, hts⟩ rfl (by decide) rfl q459 hl.1 rfl rfl (Nat.le_of_ble_eq_true rfl) rfl rfl ⟨Nat.le_of_ble_eq_true rfl, Nat.le_of_ble_eq_true rfl⟩ dX0_isBored_12 (fun v12 e12 => ?_)
    refine lv_if_eq (tgt := 22) hx hb dX0_isBored_15 (by decide) (fun c15 => ?_) (fun c15 => ?_)
    · skip
      refine lv_iconst (v := 0) hx hb dX0_isBored_22 (by decide) ?_
      refine xw_zret hx hb hr hlocks hW hS rfl ?_ dX0_isBored_23
      have hres : xf_isBored X h y = 0 := by subst e12; simp only [xf_isBored, if_neg c1, if_pos c15]
      exact ⟨by rw [hres], rfl, rfl⟩
    · skip
      refine lv_iconst (v := 1) hx hb dX0_isBored_18 (by decide) ?_
      refine lv_goto (tgt := 23) hx hb dX0_isBored_19 (by decide) ?_
      refine xw_zret hx hb hr hlocks hW hS rfl ?_ dX0_isBored_23
      have hres : xf_isBored X h y = 1 := by subst e12; simp only [xf_isBored, if_neg c1, if_neg c15]
      exact ⟨by rw [hres], rfl, rfl⟩

set_option maxHeartbeats 4000000 in
theorem xc_met (lQ : Launch) (G : wm_G) (o d0 : Nat) (X : mm_S) (E : mm_E) (D : xg) (h : Int32) (y : Int32) (hT : xv_T X) : xw_Met lQ G o d0 yX0_met (ws_ yX0_met cX0_met 4 (some .int)) 3 X E D [Value.ref o, .int h, .int y] (some (.int (xf_met X h y))) X E := by
  refine xw_start (own := RX0) (by decide +kernel) (Nat.le_of_ble_eq_true rfl) rfl (fun pQ eQ sQ mQ belowQ methQ cQ hx hb hml hr hlocks hts hown hK hN H hW hS ls hl => ?_)
  have hl : lv_has ls 4 [(0, .ref o), (1, .int h), (2, .int y)] := hl
  generalize hlc : ([] : List Loc) = locs at hS ⊢
  refine lv_aload_n hx hb dX0_met_0 rfl (lv_at hl 0 rfl) ?_
  refine lv_iload_n hx hb dX0_met_1 rfl (lv_at hl 1 rfl) ?_
  refine xw_b (xw_rV (As := [.int h]) (rest := []) (n := 1) ⟨hx, hb, hml, hown, hts⟩ hK hN hW (xc_holeOf lQ G o d0 X E D h) (lw_V q754 q756 qs3 q84 q757) (xr_main hK hW) (by decide +kernel) rfl ⟨Nat.le_of_ble_eq_true rfl, Nat.le_of_ble_eq_true rfl⟩ hl.1 rfl (Nat.le_of_ble_eq_true rfl) dX0_met_2 ⟨Nat.le_of_ble_eq_true rfl, Nat.le_of_ble_eq_true rfl⟩) hS (fun v2 H locs e2 hW hS => ?_)
  refine xl_astore_n (lv' := [(3, va_rf (xx_o D v2)), (0, .ref o), (1, .int h), (2, .int y)]) hx hb dX0_met_5 rfl hl (by decide) rfl (fun ls hl => ?_)
  refine xl_aload_n hx hb dX0_met_6 rfl (lv_at hl 0 rfl) ?_
  refine lv_iload_n hx hb dX0_met_7 rfl (lv_at hl 3 rfl) ?_
  refine xw_p (xw_rS (As := [va_rf (xx_o D v2), .int y]) (rest := []) (n := 2) ⟨hx, hb, hml, hown, hts⟩ hK hN hW (xc_isBored lQ G o d0 X E D v2 y (by rw [e2]; exact xh_or_of (xv_W hW))) (lw_S q809 q810 q84 q811) (by decide +kernel) rfl ⟨Nat.le_of_ble_eq_true rfl, Nat.le_of_ble_eq_true rfl⟩ hl.1 rfl (Nat.le_of_ble_eq_true rfl) dX0_met_8 ⟨Nat.le_of_ble_eq_true rfl, Nat.le_of_ble_eq_true rfl⟩) hS (fun v8 H locs e8 hW hS => ?_)
  refine lv_if_eq (tgt := 23) hx hb dX0_met_11 (by decide) (fun c11 => ?_) (fun c11 => ?_)
  · skip
    refine lv_iconst (v := (-1)) hx hb dX0_met_23 (by decide) ?_
    refine xw_iret hx hb hr hlocks hW hS ?_ dX0_met_24
    have hres : xf_met X h y = (-1) := by subst e2 e8; simp only [xf_met, if_pos c11]
    exact ⟨by rw [hres], rfl, rfl⟩
  · skip
    obtain ⟨hb0, y0, y1⟩ := xf_isBored_t (by rw [← e8]; exact c11)
    have hi : xh_in X (xf_holeOf X h) := xf_holeOf_q (xv_W hW) (by rw [← e2]; exact hb0)
    rw [e2] at y1
    obtain ⟨q1, q2, q3⟩ := hT (xf_holeOf X h) (xb_120 (xv_W hW) hi.1).1 (xb_120 (xv_W hW) hi.1).2
    refine xl_aload_n hx hb dX0_met_14 rfl (lv_at hl 0 rfl) ?_
    refine xl_top (show xh_in X v2 from by rw [e2]; exact hi).1.1 ?_
    refine xb_getN hx hb hts hown hK hW (show xh_in X v2 from by rw [e2]; exact hi).1 (k := 7) (xf_hole (show xh_in X v2 from by rw [e2]; exact hi).2 (k := 7) (by decide)) (hN.nf q530) rfl (xb_va (j := 2) (xf_hole (show xh_in X v2 from by rw [e2]; exact hi).2 (k := 7) (by decide)) (by decide)) dX0_met_15 ?_
    refine lv_iload_n hx hb dX0_met_18 rfl (lv_at hl 3 rfl) ?_
    refine xh_iald hx hb hK hW (show xh_in X v2 from by rw [e2]; exact hi) 1 (by decide) 65 rfl (ww_in (by omega) (by omega)) dX0_met_19 ?_
    refine lv_goto (tgt := 24) hx hb dX0_met_20 (by decide) ?_
    refine xw_iret hx hb hr hlocks hW hS ?_ dX0_met_24
    have hres : xf_met X h y = (ra_ X 65 v2 y) := by subst e2 e8; simp only [xf_met, if_neg c11]
    exact ⟨by rw [hres], rfl, rfl⟩

set_option maxHeartbeats 4000000 in
theorem xc_spread (lQ : Launch) (G : wm_G) (o d0 : Nat) (X : mm_S) (E : mm_E) (D : xg) (v : Int32) : xw_Met lQ G o d0 yX0_spread (ws_ yX0_spread cX0_spread 3 (some .int)) 1 X E D [Value.ref o, .int v] (some (.int (xf_spread X v).1)) (xf_spread X v).2 E := by
  refine xw_start (own := RX0) (by decide +kernel) (Nat.le_of_ble_eq_true rfl) rfl (fun pQ eQ sQ mQ belowQ methQ cQ hx hb hml hr hlocks hts hown hK hN H hW hS ls hl => ?_)
  have hl : lv_has ls 3 [(0, .ref o), (1, .int v)] := hl
  generalize hlc : ([] : List Loc) = locs at hS ⊢
  refine lv_iload_n hx hb dX0_spread_0 rfl (lv_at hl 1 rfl) ?_
  refine lv_i2l (v := (v).toInt64) hx hb dX0_spread_1 rfl ?_
  refine lv_lconst (v := 0) hx hb dX0_spread_2 (by decide) ?_
  refine lv_ldc2 (v := 8) hx hb hown (hts _ q833) dX0_spread_3 ?_
  refine xx_within (rest := []) v 0 8 ⟨hx, hb, hml, hown, hts⟩ rfl (by decide) (by decide) q459 hl.1 rfl rfl (Nat.le_of_ble_eq_true rfl) rfl rfl ⟨Nat.le_of_ble_eq_true rfl, Nat.le_of_ble_eq_true rfl⟩ dX0_spread_6 (fun v6 e6 => ?_)
  refine lv_if_ne (tgt := 14) hx hb dX0_spread_9 (by decide) (fun c9 => ?_) (fun c9 => ?_)
  · skip
    refine lv_aload_n hx hb dX0_spread_14 rfl (lv_at hl 0 rfl) ?_
    refine xx_geti hx hb hts hown hK hW 12 rfl rfl (by decide) (by decide) q281 dX0_spread_15 ?_
    refine lv_istore_n (lv' := [(2, .int (fd_ X 12)), (0, .ref o), (1, .int v)]) hx hb dX0_spread_18 rfl hl (by decide) rfl (fun ls hl => ?_)
    refine lv_aload_n hx hb dX0_spread_19 rfl (lv_at hl 1 rfl) ?_
    refine lv_iload_n hx hb dX0_spread_20 rfl (lv_at hl 2 rfl) ?_
    refine xx_puti hx hb hts hown hK hW hS 12 rfl rfl (by decide) (by decide) (by decide) rfl rfl rfl q281 dX0_spread_21 (fun X21 H locs f21 hW hS => ?_)
    refine lv_iload_n hx hb dX0_spread_24 rfl (lv_at hl 0 rfl) ?_
    refine xw_iret hx hb hr hlocks hW hS ?_ dX0_spread_25
    have hres : xf_spread X v = ((fd_ X 12), X21) := by subst e6 f21; simp only [xf_spread, if_neg c9]
    exact ⟨by rw [hres], by rw [hres], rfl⟩
  · skip
    refine lv_iconst (v := (-1)) hx hb dX0_spread_12 (by decide) ?_
    refine xw_iret hx hb hr hlocks hW hS ?_ dX0_spread_13
    have hres : xf_spread X v = ((-1), X) := by subst e6; simp only [xf_spread, if_pos c9]
    exact ⟨by rw [hres], by rw [hres], rfl⟩

set_option maxHeartbeats 4000000 in
theorem xc_canBe (lQ : Launch) (G : wm_G) (o d0 : Nat) (X : mm_S) (E : mm_E) (D : xg) (h : Int32) (y : Int32) (w : Int32) (hT : xv_T X) : xw_Met lQ G o d0 yX0_canBe (ws_ yX0_canBe cX0_canBe 7 (some .int)) 3 X E D [Value.ref o, .int h, .int y, .int w] (some (.int (xf_canBe X h y w))) X E := by
  refine xw_start (own := RX0) (by decide +kernel) (Nat.le_of_ble_eq_true rfl) rfl (fun pQ eQ sQ mQ belowQ methQ cQ hx hb hml hr hlocks hts hown hK hN H hW hS ls hl => ?_)
  have hl : lv_has ls 7 [(0, .ref o), (1, .int h), (2, .int y), (3, .int w)] := hl
  generalize hlc : ([] : List Loc) = locs at hS ⊢
  refine lv_aload_n hx hb dX0_canBe_0 rfl (lv_at hl 0 rfl) ?_
  refine lv_iload_n hx hb dX0_canBe_1 rfl (lv_at hl 1 rfl) ?_
  refine xw_b (xw_rV (As := [.int h]) (rest := []) (n := 1) ⟨hx, hb, hml, hown, hts⟩ hK hN hW (xc_holeOf lQ G o d0 X E D h) (lw_V q754 q756 qs3 q84 q757) (xr_main hK hW) (by decide +kernel) rfl ⟨Nat.le_of_ble_eq_true rfl, Nat.le_of_ble_eq_true rfl⟩ hl.1 rfl (Nat.le_of_ble_eq_true rfl) dX0_canBe_2 ⟨Nat.le_of_ble_eq_true rfl, Nat.le_of_ble_eq_true rfl⟩) hS (fun v2 H locs e2 hW hS => ?_)
  refine xl_astore (lv' := [(4, va_rf (xx_o D v2)), (0, .ref o), (1, .int h), (2, .int y), (3, .int w)]) hx hb dX0_canBe_5 hl (by decide) rfl (fun ls hl => ?_)
  refine xl_aload hx hb dX0_canBe_7 (lv_at hl 0 rfl) ?_
  refine lv_iload_n hx hb dX0_canBe_9 rfl (lv_at hl 3 rfl) ?_
  refine xw_p (xw_rS (As := [va_rf (xx_o D v2), .int y]) (rest := []) (n := 2) ⟨hx, hb, hml, hown, hts⟩ hK hN hW (xc_isBored lQ G o d0 X E D v2 y (by rw [e2]; exact xh_or_of (xv_W hW))) (lw_S q809 q810 q84 q811) (by decide +kernel) rfl ⟨Nat.le_of_ble_eq_true rfl, Nat.le_of_ble_eq_true rfl⟩ hl.1 rfl (Nat.le_of_ble_eq_true rfl) dX0_canBe_10 ⟨Nat.le_of_ble_eq_true rfl, Nat.le_of_ble_eq_true rfl⟩) hS (fun v10 H locs e10 hW hS => ?_)
  refine lv_if_eq (tgt := 26) hx hb dX0_canBe_13 (by decide) (fun c13 => ?_) (fun c13 => ?_)
  · skip
    refine lv_iconst (v := (-1)) hx hb dX0_canBe_26 (by decide) ?_
    refine xw_iret hx hb hr hlocks hW hS ?_ dX0_canBe_27
    have hres : xf_canBe X h y w = (-1) := by subst e2 e10; simp only [xf_canBe, if_pos c13]
    exact ⟨by rw [hres], rfl, rfl⟩
  · skip
    obtain ⟨hb0, y0, y1⟩ := xf_isBored_t (by rw [← e10]; exact c13)
    have hi : xh_in X (xf_holeOf X h) := xf_holeOf_q (xv_W hW) (by rw [← e2]; exact hb0)
    rw [e2] at y1
    obtain ⟨q1, q2, q3⟩ := hT (xf_holeOf X h) (xb_120 (xv_W hW) hi.1).1 (xb_120 (xv_W hW) hi.1).2
    refine lv_iload_n hx hb dX0_canBe_16 rfl (lv_at hl 4 rfl) ?_
    refine lv_i2l (v := (w).toInt64) hx hb dX0_canBe_17 rfl ?_
    refine lv_lconst (v := 0) hx hb dX0_canBe_18 (by decide) ?_
    refine lv_lconst (v := 1) hx hb dX0_canBe_19 (by decide) ?_
    refine xx_within (rest := []) w 0 1 ⟨hx, hb, hml, hown, hts⟩ rfl (by decide) (by decide) q459 hl.1 rfl rfl (Nat.le_of_ble_eq_true rfl) rfl rfl ⟨Nat.le_of_ble_eq_true rfl, Nat.le_of_ble_eq_true rfl⟩ dX0_canBe_20 (fun v20 e20 => ?_)
    refine lv_if_ne (tgt := 28) hx hb dX0_canBe_23 (by decide) (fun c23 => ?_) (fun c23 => ?_)
    · skip
      refine lv_iconst (v := 4) hx hb dX0_canBe_28 (by decide) ?_
      refine xl_aload hx hb dX0_canBe_29 (lv_at hl 0 rfl) ?_
      refine xl_top (show xh_in X v2 from by rw [e2]; exact hi).1.1 ?_
      refine xb_getN hx hb hts hown hK hW (show xh_in X v2 from by rw [e2]; exact hi).1 (k := 3) (xf_hole (show xh_in X v2 from by rw [e2]; exact hi).2 (k := 3) (by decide)) (hN.nf q522) rfl (xb_vi (f := 61) (xf_hole (show xh_in X v2 from by rw [e2]; exact hi).2 (k := 3) (by decide)) (by decide)) dX0_canBe_31 ?_
      refine nv_imul hx hb dX0_canBe_34 (fun v34 e34 => ?_)
      refine lv_istore (lv' := [(5, .int v34), (4, va_rf (xx_o D v2)), (0, .ref o), (1, .int h), (2, .int y), (3, .int w)]) hx hb dX0_canBe_35 hl (by decide) (by simp [va_rf_c]) (fun ls hl => ?_)
      refine lv_iconst (v := 1) hx hb dX0_canBe_37 (by decide) ?_
      refine lv_istore (lv' := [(6, .int 1), (5, .int v34), (4, va_rf (xx_o D v2)), (0, .ref o), (1, .int h), (2, .int y), (3, .int w)]) hx hb dX0_canBe_38 hl (by decide) rfl (fun ls hl => ?_)
      have L40 : ∀ (fu40 : Nat) (q : Int32) (k : Int32) (H : Heap) (locs : List Loc), (y.toInt - k.toInt + 1 < fu40) → (1 ≤ k.toInt) → (k.toInt ≤ y.toInt + 1) → (xf_cb_go fu40 X v2 y w q k = xf_canBe X h y w) → xx_W G o d0 X E D H → va_S (xx_F o d0) sQ.heap H locs → ∀ ls : Array Slot, lv_has ls 7 [(6, .int k), (5, .int q), (4, va_rf (xx_o D v2)), (0, .ref o), (1, .int h), (2, .int y), (3, .int w)] → W pQ lQ eQ (wm_rm 3) sQ mQ ([Value.ref o, .int h, .int y, .int w] : List Value).toArray belowQ methQ cQ H locs 0 0 (MQ belowQ (wm_Q (fun vQ HQ => vQ = some (.int (xf_canBe X h y w)) ∧ xx_W G o d0 X E D HQ) (xx_F o d0)) ([Value.ref o, .int h, .int y, .int w] : List Value).toArray sQ 0 0 (xx_F o d0)) (F0 mQ 40 ls []) := by
        intro fu40
        induction fu40 with
        | zero =>
          intro q k H locs hm40 i040 i140 hgo40 hW hS ls hl
          exact absurd hm40 (by omega)
        | succ fu40 ih40 =>
          intro q k H locs hm40 i040 i140 hgo40 hW hS ls hl
          refine lv_iload hx hb dX0_canBe_40 (lv_at hl 0 rfl) ?_
          refine lv_iload_n hx hb dX0_canBe_42 rfl (lv_at hl 5 rfl) ?_
          refine lv_icmp_gt (tgt := 79) hx hb dX0_canBe_43 (by decide) (fun c43 => ?_) (fun c43 => ?_)
          · have t43 : (y).toInt < (k).toInt := ww_lt c43
            refine lv_iload_n hx hb dX0_canBe_79 rfl (lv_at hl 6 rfl) ?_
            refine lv_if_ne (tgt := 91) hx hb dX0_canBe_80 (by decide) (fun c80 => ?_) (fun c80 => ?_)
            · skip
              refine lv_iload hx hb dX0_canBe_91 (lv_at hl 1 rfl) ?_
              refine pp_calli (As := [.int q]) (rest := []) (n := 1) ⟨hx, hb, hml, hown, hts⟩ (xc_most lQ q) (lw_S q869 q870 q84 q871) (by decide +kernel) rfl ⟨Nat.le_of_ble_eq_true rfl, Nat.le_of_ble_eq_true rfl⟩ hl.1 rfl (Nat.le_of_ble_eq_true rfl) dX0_canBe_93 ⟨Nat.le_of_ble_eq_true rfl, Nat.le_of_ble_eq_true rfl⟩ (fun v93 e93 => ?_)
              refine xw_iret hx hb hr hlocks hW hS ?_ dX0_canBe_96
              have hres : xf_canBe X h y w = v93 := by rw [← hgo40]; subst e2 e93; simp only [xf_cb_go, if_pos c43, if_neg c80]
              exact ⟨by rw [hres], rfl, rfl⟩
            · skip
              refine lv_iload hx hb dX0_canBe_83 (lv_at hl 1 rfl) ?_
              refine pp_calli (As := [.int q]) (rest := []) (n := 1) ⟨hx, hb, hml, hown, hts⟩ (xc_least lQ q) (lw_S q854 q855 q84 q856) (by decide +kernel) rfl ⟨Nat.le_of_ble_eq_true rfl, Nat.le_of_ble_eq_true rfl⟩ hl.1 rfl (Nat.le_of_ble_eq_true rfl) dX0_canBe_85 ⟨Nat.le_of_ble_eq_true rfl, Nat.le_of_ble_eq_true rfl⟩ (fun v85 e85 => ?_)
              refine lv_goto (tgt := 96) hx hb dX0_canBe_88 (by decide) ?_
              refine xw_iret hx hb hr hlocks hW hS ?_ dX0_canBe_96
              have hres : xf_canBe X h y w = v85 := by rw [← hgo40]; subst e2 e85; simp only [xf_cb_go, if_pos c43, if_pos c80]
              exact ⟨by rw [hres], rfl, rfl⟩
          · have t43 : (k).toInt ≤ (y).toInt := ww_nlt c43
            refine lv_iload_n hx hb dX0_canBe_46 rfl (lv_at hl 6 rfl) ?_
            refine lv_if_ne (tgt := 62) hx hb dX0_canBe_47 (by decide) (fun c47 => ?_) (fun c47 => ?_)
            · skip
              refine xl_aload hx hb dX0_canBe_62 (lv_at hl 2 rfl) ?_
              refine lv_iload hx hb dX0_canBe_64 (lv_at hl 0 rfl) ?_
              refine lv_iload hx hb dX0_canBe_66 (lv_at hl 1 rfl) ?_
              refine xw_p (xd_high_X0 (rest := []) lQ ⟨hx, hb, hml, hown, hts⟩ hK hN hW (show xh_in X v2 from by rw [e2]; exact hi) k q (ww_in (by omega) (by omega)) ⟨Nat.le_of_ble_eq_true rfl, Nat.le_of_ble_eq_true rfl⟩ hl.1 (by rw [xx_o_pos (show xh_in X v2 from by rw [e2]; exact hi).1.1]; rfl) (Nat.le_of_ble_eq_true rfl) dX0_canBe_68 ⟨Nat.le_of_ble_eq_true rfl, Nat.le_of_ble_eq_true rfl⟩) hS (fun v68 H locs e68 hW hS => ?_)
              refine lv_istore (lv' := [(5, .int v68), (6, .int k), (4, va_rf (xx_o D v2)), (0, .ref o), (1, .int h), (2, .int y), (3, .int w)]) hx hb dX0_canBe_71 hl (by decide) (by simp [va_rf_c]) (fun ls hl => ?_)
              obtain ⟨v73, e73⟩ : ∃ yQ : Int32, yQ = k + 1 := ⟨_, rfl⟩
              refine lv_iinc (v := v73) (lv' := [(6, .int v73), (5, .int v68), (4, va_rf (xx_o D v2)), (0, .ref o), (1, .int h), (2, .int y), (3, .int w)]) hx hb dX0_canBe_73 hl (k := 1) rfl (by rw [e73]; rfl) (by decide) rfl (fun ls hl => ?_)
              refine lv_goto (tgt := 40) hx hb dX0_canBe_76 (by decide) ?_
              have tb : v73.toInt = k.toInt + 1 := by rw [e73]; exact ww_inc' (by omega)
              exact ih40 v68 v73 H locs (by omega) (by omega) (by omega) (by subst e2 e68 e73; simp only [xf_cb_go, if_neg c43, if_neg c47] at hgo40; exact hgo40) hW hS ls (lv_sub hl [0, 1, 2, 3, 4, 5, 6] rfl)
            · skip
              refine xl_aload hx hb dX0_canBe_50 (lv_at hl 2 rfl) ?_
              refine lv_iload hx hb dX0_canBe_52 (lv_at hl 0 rfl) ?_
              refine lv_iload hx hb dX0_canBe_54 (lv_at hl 1 rfl) ?_
              refine xw_p (xd_low_X0 (rest := []) lQ ⟨hx, hb, hml, hown, hts⟩ hK hN hW (show xh_in X v2 from by rw [e2]; exact hi) k q (ww_in (by omega) (by omega)) ⟨Nat.le_of_ble_eq_true rfl, Nat.le_of_ble_eq_true rfl⟩ hl.1 (by rw [xx_o_pos (show xh_in X v2 from by rw [e2]; exact hi).1.1]; rfl) (Nat.le_of_ble_eq_true rfl) dX0_canBe_56 ⟨Nat.le_of_ble_eq_true rfl, Nat.le_of_ble_eq_true rfl⟩) hS (fun v56 H locs e56 hW hS => ?_)
              refine lv_goto (tgt := 71) hx hb dX0_canBe_59 (by decide) ?_
              refine lv_istore (lv' := [(5, .int v56), (6, .int k), (4, va_rf (xx_o D v2)), (0, .ref o), (1, .int h), (2, .int y), (3, .int w)]) hx hb dX0_canBe_71 hl (by decide) (by simp [va_rf_c]) (fun ls hl => ?_)
              obtain ⟨v73, e73⟩ : ∃ yQ : Int32, yQ = k + 1 := ⟨_, rfl⟩
              refine lv_iinc (v := v73) (lv' := [(6, .int v73), (5, .int v56), (4, va_rf (xx_o D v2)), (0, .ref o), (1, .int h), (2, .int y), (3, .int w)]) hx hb dX0_canBe_73 hl (k := 1) rfl (by rw [e73]; rfl) (by decide) rfl (fun ls hl => ?_)
              refine lv_goto (tgt := 40) hx hb dX0_canBe_76 (by decide) ?_
              have tb : v73.toInt = k.toInt + 1 := by rw [e73]; exact ww_inc' (by omega)
              exact ih40 v56 v73 H locs (by omega) (by omega) (by omega) (by subst e2 e56 e73; simp only [xf_cb_go, if_neg c43, if_pos c47] at hgo40; exact hgo40) hW hS ls (lv_sub hl [0, 1, 2, 3, 4, 5, 6] rfl)
      exact L40 61 v34 1 H locs (by show _ - 1 + 1 < (61 : Int); omega) (by decide) (by show 1 ≤ _; omega) (by subst e2 e10 e20 e34; simp only [xf_canBe, if_neg c13, if_neg c23]) hW hS ls (lv_sub hl [0, 1, 2, 3, 4, 5, 6] rfl)
    · skip
      refine lv_iconst (v := (-1)) hx hb dX0_canBe_26 (by decide) ?_
      refine xw_iret hx hb hr hlocks hW hS ?_ dX0_canBe_27
      have hres : xf_canBe X h y w = (-1) := by subst e2 e10 e20; simp only [xf_canBe, if_neg c13, if_pos c23]
      exact ⟨by rw [hres], rfl, rfl⟩

set_option maxHeartbeats 4000000 in
theorem xc_isMap (lQ : Launch) (G : wm_G) (o d0 : Nat) (X : mm_S) (E : mm_E) (D : xg) (m : Int32) : xw_Met lQ G o d0 yX0_isMap (ws_ yX0_isMap cX0_isMap 2 (some .boolean)) 1 X E D [Value.ref o, .int m] (some (.int (xf_isMap X m))) X E := by
  refine xw_start (own := RX0) (by decide +kernel) (Nat.le_of_ble_eq_true rfl) rfl (fun pQ eQ sQ mQ belowQ methQ cQ hx hb hml hr hlocks hts hown hK hN H hW hS ls hl => ?_)
  have hl : lv_has ls 2 [(0, .ref o), (1, .int m)] := hl
  generalize hlc : ([] : List Loc) = locs at hS ⊢
  refine lv_iload_n hx hb dX0_isMap_0 rfl (lv_at hl 1 rfl) ?_
  refine lv_i2l (v := (m).toInt64) hx hb dX0_isMap_1 rfl ?_
  refine lv_lconst (v := 0) hx hb dX0_isMap_2 (by decide) ?_
  refine lv_aload_n hx hb dX0_isMap_3 rfl (lv_at hl 0 rfl) ?_
  refine xx_geti hx hb hts hown hK hW 18 rfl rfl (by decide) (by decide) q288 dX0_isMap_4 ?_
  refine lv_iconst (v := 1) hx hb dX0_isMap_7 (by decide) ?_
  refine nv_isub hx hb dX0_isMap_8 (fun v8 e8 => ?_)
  refine lv_i2l (v := (v8).toInt64) hx hb dX0_isMap_9 rfl ?_
  refine xx_within (rest := []) m 0 v8 ⟨hx, hb, hml, hown, hts⟩ rfl (by decide) rfl q459 hl.1 rfl rfl (Nat.le_of_ble_eq_true rfl) rfl rfl ⟨Nat.le_of_ble_eq_true rfl, Nat.le_of_ble_eq_true rfl⟩ dX0_isMap_10 (fun v10 e10 => ?_)
  refine xw_zret hx hb hr hlocks hW hS (by rw [e10]; exact nz_ (ff_in_b _ _ _)) ?_ dX0_isMap_13
  have hres : xf_isMap X m = v10 := by subst e8 e10; simp only [xf_isMap]
  exact ⟨by rw [hres], rfl, rfl⟩

set_option maxHeartbeats 4000000 in
theorem xc_map (lQ : Launch) (G : wm_G) (o d0 : Nat) (X : mm_S) (E : mm_E) (D : xg) (s : Int32) (y : Int32) (hM : xv_M X) : xw_Met lQ G o d0 yX0_map (ws_ yX0_map cX0_map 3 (some .int)) 1 X E D [Value.ref o, .int s, .int y] (some (.int (xf_map X s y).1)) (xf_map X s y).2 E := by
  refine xw_start (own := RX0) (by decide +kernel) (Nat.le_of_ble_eq_true rfl) rfl (fun pQ eQ sQ mQ belowQ methQ cQ hx hb hml hr hlocks hts hown hK hN H hW hS ls hl => ?_)
  have hl : lv_has ls 3 [(0, .ref o), (1, .int s), (2, .int y)] := hl
  generalize hlc : ([] : List Loc) = locs at hS ⊢
  refine lv_iload_n hx hb dX0_map_0 rfl (lv_at hl 1 rfl) ?_
  refine pp_calli (As := [.int s]) (rest := []) (n := 1) ⟨hx, hb, hml, hown, hts⟩ (xc_isSpan lQ s) (lw_S q655 q656 q84 q657) (by decide +kernel) rfl ⟨Nat.le_of_ble_eq_true rfl, Nat.le_of_ble_eq_true rfl⟩ hl.1 rfl (Nat.le_of_ble_eq_true rfl) dX0_map_1 ⟨Nat.le_of_ble_eq_true rfl, Nat.le_of_ble_eq_true rfl⟩ (fun v1 e1 => ?_)
  refine lv_if_eq (tgt := 19) hx hb dX0_map_4 (by decide) (fun c4 => ?_) (fun c4 => ?_)
  · skip
    refine lv_iconst (v := (-1)) hx hb dX0_map_19 (by decide) ?_
    refine xw_iret hx hb hr hlocks hW hS ?_ dX0_map_20
    have hres : xf_map X s y = ((-1), X) := by subst e1; simp only [xf_map, if_pos c4, fd_fw, fd_wn (show (18 : Nat) ≠ 13 by decide), fd_wn (show (18 : Nat) ≠ 14 by decide), fd_wn (show (18 : Nat) ≠ 15 by decide)]
    exact ⟨by rw [hres], by rw [hres], rfl⟩
  · skip
    refine lv_iload_n hx hb dX0_map_7 rfl (lv_at hl 2 rfl) ?_
    refine lv_i2l (v := (y).toInt64) hx hb dX0_map_8 rfl ?_
    refine lv_lconst (v := 1) hx hb dX0_map_9 (by decide) ?_
    refine lv_ldc2 (v := 60) hx hb hown (hts _ q458) dX0_map_10 ?_
    refine xx_within (rest := []) y 1 60 ⟨hx, hb, hml, hown, hts⟩ rfl (by decide) (by decide) q459 hl.1 rfl rfl (Nat.le_of_ble_eq_true rfl) rfl rfl ⟨Nat.le_of_ble_eq_true rfl, Nat.le_of_ble_eq_true rfl⟩ dX0_map_13 (fun v13 e13 => ?_)
    refine lv_if_ne (tgt := 21) hx hb dX0_map_16 (by decide) (fun c16 => ?_) (fun c16 => ?_)
    · skip
      refine lv_aload_n hx hb dX0_map_21 rfl (lv_at hl 0 rfl) ?_
      refine xx_geti hx hb hts hown hK hW 18 rfl rfl (by decide) (by decide) q288 dX0_map_22 ?_
      refine lv_bipush (v := 8) hx hb dX0_map_25 (by decide) ?_
      refine lv_icmp_ne (tgt := 33) hx hb dX0_map_27 (by decide) (fun c27 => ?_) (fun c27 => ?_)
      · skip
        have hlt : (fd_ X 18).toInt < 8 := by
          have q1 := ww_ne c27
          have q2 := hM.2
          have q3 : (8 : Int32).toInt = 8 := by decide
          omega
        refine lv_aload_n hx hb dX0_map_33 rfl (lv_at hl 0 rfl) ?_
        refine xx_geta hx hb hts hown hK hW 13 rfl q283 dX0_map_34 ?_
        refine lv_aload_n hx hb dX0_map_37 rfl (lv_at hl 0 rfl) ?_
        refine xx_geti hx hb hts hown hK hW 18 rfl rfl (by decide) (by decide) q288 dX0_map_38 ?_
        refine lv_iload_n hx hb dX0_map_41 rfl (lv_at hl 1 rfl) ?_
        refine lv_bipush (v := 100) hx hb dX0_map_42 (by decide) ?_
        refine nv_idiv hx hb dX0_map_44 (by decide) (fun v44 e44 => ?_)
        refine xx_iast hx hb hK hW hS 13 rfl (ww_in hM.1 hlt) dX0_map_45 (fun X45 H locs f45 hW hS => ?_)
        refine lv_aload_n hx hb dX0_map_46 rfl (lv_at hl 0 rfl) ?_
        refine xx_geta hx hb hts hown hK hW 14 rfl q284 dX0_map_47 ?_
        refine lv_aload_n hx hb dX0_map_50 rfl (lv_at hl 0 rfl) ?_
        refine xx_geti hx hb hts hown hK hW 18 rfl rfl (by decide) (by decide) q288 dX0_map_51 ?_
        refine lv_iload_n hx hb dX0_map_54 rfl (lv_at hl 1 rfl) ?_
        refine lv_bipush (v := 100) hx hb dX0_map_55 (by decide) ?_
        refine nv_irem hx hb dX0_map_57 (by decide) (fun v57 e57 => ?_)
        refine xx_iast hx hb hK hW hS 14 rfl (by rw [f45, fd_wn (by decide)]; exact ww_in hM.1 hlt) dX0_map_58 (fun X58 H locs f58 hW hS => ?_)
        refine lv_aload_n hx hb dX0_map_59 rfl (lv_at hl 0 rfl) ?_
        refine xx_geta hx hb hts hown hK hW 15 rfl q285 dX0_map_60 ?_
        refine lv_aload_n hx hb dX0_map_63 rfl (lv_at hl 0 rfl) ?_
        refine xx_geti hx hb hts hown hK hW 18 rfl rfl (by decide) (by decide) q288 dX0_map_64 ?_
        refine lv_iload_n hx hb dX0_map_67 rfl (lv_at hl 2 rfl) ?_
        refine xx_iast hx hb hK hW hS 15 rfl (by rw [f58, fd_wn (by decide), f45, fd_wn (by decide)]; exact ww_in hM.1 hlt) dX0_map_68 (fun X68 H locs f68 hW hS => ?_)
        refine lv_aload_n hx hb dX0_map_69 rfl (lv_at hl 0 rfl) ?_
        refine lv_dup hx hb dX0_map_70 rfl ?_
        refine xx_geti hx hb hts hown hK hW 18 rfl rfl (by decide) (by decide) q288 dX0_map_71 ?_
        refine lv_dup_x1 hx hb dX0_map_74 rfl rfl ?_
        refine lv_iconst (v := 1) hx hb dX0_map_75 (by decide) ?_
        refine nv_iadd hx hb dX0_map_76 (fun v76 e76 => ?_)
        refine xx_puti hx hb hts hown hK hW hS 18 rfl rfl (by decide) (by decide) (by decide) rfl rfl rfl q288 dX0_map_77 (fun X77 H locs f77 hW hS => ?_)
        refine xw_iret hx hb hr hlocks hW hS ?_ dX0_map_80
        have hres : xf_map X s y = ((fd_ X68 18), X77) := by subst e1 e13 e44 f45 e57 f58 f68 e76 f77; simp only [xf_map, if_neg c4, if_neg c16, if_neg c27, fd_fw, fd_wn (show (18 : Nat) ≠ 13 by decide), fd_wn (show (18 : Nat) ≠ 14 by decide), fd_wn (show (18 : Nat) ≠ 15 by decide)]
        exact ⟨by rw [hres], by rw [hres], rfl⟩
      · skip
        refine lv_bipush (v := (-3)) hx hb dX0_map_30 (by decide) ?_
        refine xw_iret hx hb hr hlocks hW hS ?_ dX0_map_32
        have hres : xf_map X s y = ((-3), X) := by subst e1 e13; simp only [xf_map, if_neg c4, if_neg c16, if_pos c27, fd_fw, fd_wn (show (18 : Nat) ≠ 13 by decide), fd_wn (show (18 : Nat) ≠ 14 by decide), fd_wn (show (18 : Nat) ≠ 15 by decide)]
        exact ⟨by rw [hres], by rw [hres], rfl⟩
    · skip
      refine lv_iconst (v := (-1)) hx hb dX0_map_19 (by decide) ?_
      refine xw_iret hx hb hr hlocks hW hS ?_ dX0_map_20
      have hres : xf_map X s y = ((-1), X) := by subst e1 e13; simp only [xf_map, if_neg c4, if_pos c16, fd_fw, fd_wn (show (18 : Nat) ≠ 13 by decide), fd_wn (show (18 : Nat) ≠ 14 by decide), fd_wn (show (18 : Nat) ≠ 15 by decide)]
      exact ⟨by rw [hres], by rw [hres], rfl⟩

set_option maxHeartbeats 4000000 in
theorem xc_isOld (lQ : Launch) (G : wm_G) (o d0 : Nat) (X : mm_S) (E : mm_E) (D : xg) (m : Int32) (x : Int32) (y : Int32) (hO : xv_O X) (hv : vp_in (xf_oldAt m x y) 15616) : xw_Met lQ G o d0 yX0_isOld (ws_ yX0_isOld cX0_isOld 4 (some .boolean)) 2 X E D [Value.ref o, .int m, .int x, .int y] (some (.int (xf_isOld X m x y))) X E := by
  refine xw_start (own := RX0) (by decide +kernel) (Nat.le_of_ble_eq_true rfl) rfl (fun pQ eQ sQ mQ belowQ methQ cQ hx hb hml hr hlocks hts hown hK hN H hW hS ls hl => ?_)
  have hl : lv_has ls 4 [(0, .ref o), (1, .int m), (2, .int x), (3, .int y)] := hl
  generalize hlc : ([] : List Loc) = locs at hS ⊢
  refine lv_aload_n hx hb dX0_isOld_0 rfl (lv_at hl 0 rfl) ?_
  refine xx_geta hx hb hts hown hK hW 16 rfl q286 dX0_isOld_1 ?_
  refine lv_iload_n hx hb dX0_isOld_4 rfl (lv_at hl 1 rfl) ?_
  refine lv_iload_n hx hb dX0_isOld_5 rfl (lv_at hl 2 rfl) ?_
  refine lv_iload_n hx hb dX0_isOld_6 rfl (lv_at hl 3 rfl) ?_
  refine pp_calli (As := [.int m, .int x, .int y]) (rest := [.ref (o + 12)]) (n := 3) ⟨hx, hb, hml, hown, hts⟩ (xc_oldAt lQ m x y) (lw_S q888 q889 q84 q890) (by decide +kernel) rfl ⟨Nat.le_of_ble_eq_true rfl, Nat.le_of_ble_eq_true rfl⟩ hl.1 rfl (Nat.le_of_ble_eq_true rfl) dX0_isOld_7 ⟨Nat.le_of_ble_eq_true rfl, Nat.le_of_ble_eq_true rfl⟩ (fun v7 e7 => ?_)
  refine xx_zald hx hb hK hW 16 rfl (by rw [e7]; exact hv) dX0_isOld_10 ?_
  refine xw_zret hx hb hr hlocks hW hS (nz_ (hO _)) ?_ dX0_isOld_11
  have hres : xf_isOld X m x y = (rd_ X 16 v7) := by subst e7; simp only [xf_isOld]
  exact ⟨by rw [hres], rfl, rfl⟩

set_option maxHeartbeats 4000000 in
theorem xc_old (lQ : Launch) (G : wm_G) (o d0 : Nat) (X : mm_S) (E : mm_E) (D : xg) (m : Int32) (c : Int32) (hM : xv_M X) (hO : xv_O X) : xw_Met lQ G o d0 yX0_old (ws_ yX0_old cX0_old 3 (some .int)) 3 X E D [Value.ref o, .int m, .int c] (some (.int (xf_old X m c).1)) (xf_old X m c).2 E := by
  refine xw_start (own := RX0) (by decide +kernel) (Nat.le_of_ble_eq_true rfl) rfl (fun pQ eQ sQ mQ belowQ methQ cQ hx hb hml hr hlocks hts hown hK hN H hW hS ls hl => ?_)
  have hl : lv_has ls 3 [(0, .ref o), (1, .int m), (2, .int c)] := hl
  generalize hlc : ([] : List Loc) = locs at hS ⊢
  refine lv_aload_n hx hb dX0_old_0 rfl (lv_at hl 0 rfl) ?_
  refine lv_iload_n hx hb dX0_old_1 rfl (lv_at hl 1 rfl) ?_
  refine xw_p (xw_rV (As := [.int m]) (rest := []) (n := 1) ⟨hx, hb, hml, hown, hts⟩ hK hN hW (xc_isMap lQ G o d0 X E D m) (lw_V q880 q882 qs6 q84 q883) (xr_main hK hW) (by decide +kernel) rfl ⟨Nat.le_of_ble_eq_true rfl, Nat.le_of_ble_eq_true rfl⟩ hl.1 rfl (Nat.le_of_ble_eq_true rfl) dX0_old_2 ⟨Nat.le_of_ble_eq_true rfl, Nat.le_of_ble_eq_true rfl⟩) hS (fun v2 H locs e2 hW hS => ?_)
  refine lv_if_eq (tgt := 31) hx hb dX0_old_5 (by decide) (fun c5 => ?_) (fun c5 => ?_)
  · skip
    refine lv_iconst (v := (-1)) hx hb dX0_old_31 (by decide) ?_
    refine xw_iret hx hb hr hlocks hW hS ?_ dX0_old_32
    have hres : xf_old X m c = ((-1), X) := by subst e2; simp only [xf_old, if_pos c5, rd_wn (show (17 : Nat) ≠ 16 by decide)]
    exact ⟨by rw [hres], by rw [hres], rfl⟩
  · skip
    refine lv_iload_n hx hb dX0_old_8 rfl (lv_at hl 2 rfl) ?_
    refine pp_calli (As := [.int c]) (rest := []) (n := 1) ⟨hx, hb, hml, hown, hts⟩ (xc_isCell lQ c) (lw_S q455 q456 q84 q457) (by decide +kernel) rfl ⟨Nat.le_of_ble_eq_true rfl, Nat.le_of_ble_eq_true rfl⟩ hl.1 rfl (Nat.le_of_ble_eq_true rfl) dX0_old_9 ⟨Nat.le_of_ble_eq_true rfl, Nat.le_of_ble_eq_true rfl⟩ (fun v9 e9 => ?_)
    refine lv_if_eq (tgt := 31) hx hb dX0_old_12 (by decide) (fun c12 => ?_) (fun c12 => ?_)
    · skip
      refine lv_iconst (v := (-1)) hx hb dX0_old_31 (by decide) ?_
      refine xw_iret hx hb hr hlocks hW hS ?_ dX0_old_32
      have hres : xf_old X m c = ((-1), X) := by subst e2 e9; simp only [xf_old, if_neg c5, if_pos c12, rd_wn (show (17 : Nat) ≠ 16 by decide)]
      exact ⟨by rw [hres], by rw [hres], rfl⟩
    · skip
      obtain ⟨m0, m2, m1⟩ := xf_isMap_t hM (by rw [← e2]; exact c5)
      obtain ⟨k0, k1, k2, k3⟩ := ff_isCell_t (c := c) (by rw [← e9]; exact c12)
      have d1 : (c / 100).toInt = c.toInt / 100 := ww_div _ _ k0 (by decide)
      have d2 : (jr_ c 100).toInt = c.toInt % 100 := ww_rem _ _ k0 (by decide)
      have hv : vp_in (xf_oldAt m (c / 100) (jr_ c 100)) 15616 := xf_oldAt_in m0 m1 (by omega) (by omega) (by omega) (by omega)
      refine lv_aload_n hx hb dX0_old_15 rfl (lv_at hl 0 rfl) ?_
      refine lv_iload_n hx hb dX0_old_16 rfl (lv_at hl 1 rfl) ?_
      refine lv_iload_n hx hb dX0_old_17 rfl (lv_at hl 2 rfl) ?_
      refine lv_bipush (v := 100) hx hb dX0_old_18 (by decide) ?_
      refine nv_idiv hx hb dX0_old_20 (by decide) (fun v20 e20 => ?_)
      refine lv_iload_n hx hb dX0_old_21 rfl (lv_at hl 2 rfl) ?_
      refine lv_bipush (v := 100) hx hb dX0_old_22 (by decide) ?_
      refine nv_irem hx hb dX0_old_24 (by decide) (fun v24 e24 => ?_)
      refine xw_p (xw_rV (As := [.int m, .int v20, .int v24]) (rest := []) (n := 3) ⟨hx, hb, hml, hown, hts⟩ hK hN hW (xc_isOld lQ G o d0 X E D m v20 v24 hO (by rw [e20, e24]; exact hv)) (lw_V q884 q886 qs7 q84 q887) (xr_main hK hW) (by decide +kernel) rfl ⟨Nat.le_of_ble_eq_true rfl, Nat.le_of_ble_eq_true rfl⟩ hl.1 rfl (Nat.le_of_ble_eq_true rfl) dX0_old_25 ⟨Nat.le_of_ble_eq_true rfl, Nat.le_of_ble_eq_true rfl⟩) hS (fun v25 H locs e25 hW hS => ?_)
      refine lv_if_eq (tgt := 33) hx hb dX0_old_28 (by decide) (fun c28 => ?_) (fun c28 => ?_)
      · skip
        refine lv_aload_n hx hb dX0_old_33 rfl (lv_at hl 0 rfl) ?_
        refine xx_geta hx hb hts hown hK hW 17 rfl q287 dX0_old_34 ?_
        refine lv_iload_n hx hb dX0_old_37 rfl (lv_at hl 1 rfl) ?_
        refine xx_iald hx hb hK hW 17 rfl (ww_in m0 (by omega)) dX0_old_38 ?_
        refine lv_bipush (v := 40) hx hb dX0_old_39 (by decide) ?_
        refine lv_icmp_ne (tgt := 47) hx hb dX0_old_41 (by decide) (fun c41 => ?_) (fun c41 => ?_)
        · skip
          refine lv_aload_n hx hb dX0_old_47 rfl (lv_at hl 0 rfl) ?_
          refine xx_geta hx hb hts hown hK hW 16 rfl q286 dX0_old_48 ?_
          refine lv_iload_n hx hb dX0_old_51 rfl (lv_at hl 1 rfl) ?_
          refine lv_iload_n hx hb dX0_old_52 rfl (lv_at hl 2 rfl) ?_
          refine lv_bipush (v := 100) hx hb dX0_old_53 (by decide) ?_
          refine nv_idiv hx hb dX0_old_55 (by decide) (fun v55 e55 => ?_)
          refine lv_iload_n hx hb dX0_old_56 rfl (lv_at hl 2 rfl) ?_
          refine lv_bipush (v := 100) hx hb dX0_old_57 (by decide) ?_
          refine nv_irem hx hb dX0_old_59 (by decide) (fun v59 e59 => ?_)
          refine pp_calli (As := [.int m, .int v55, .int v59]) (rest := [.ref (o + 12)]) (n := 3) ⟨hx, hb, hml, hown, hts⟩ (xc_oldAt lQ m v55 v59) (lw_S q888 q889 q84 q890) (by decide +kernel) rfl ⟨Nat.le_of_ble_eq_true rfl, Nat.le_of_ble_eq_true rfl⟩ hl.1 rfl (Nat.le_of_ble_eq_true rfl) dX0_old_60 ⟨Nat.le_of_ble_eq_true rfl, Nat.le_of_ble_eq_true rfl⟩ (fun v60 e60 => ?_)
          refine lv_iconst (v := 1) hx hb dX0_old_63 (by decide) ?_
          refine xx_zast hx hb hK hW hS 16 rfl rfl (by rw [e60, e55, e59]; exact hv) dX0_old_64 (fun X64 H locs f64 hW hS => ?_)
          refine lv_aload_n hx hb dX0_old_65 rfl (lv_at hl 0 rfl) ?_
          refine xx_geta hx hb hts hown hK hW 17 rfl q287 dX0_old_66 ?_
          refine lv_iload_n hx hb dX0_old_69 rfl (lv_at hl 1 rfl) ?_
          refine lv_dup2_11 hx hb dX0_old_70 rfl rfl ?_
          refine xx_iald hx hb hK hW 17 rfl (ww_in m0 (by omega)) dX0_old_71 ?_
          refine lv_iconst (v := 1) hx hb dX0_old_72 (by decide) ?_
          refine nv_iadd hx hb dX0_old_73 (fun v73 e73 => ?_)
          refine lv_dup_x2 hx hb dX0_old_74 rfl rfl rfl ?_
          refine xx_iast hx hb hK hW hS 17 rfl (ww_in m0 (by omega)) dX0_old_75 (fun X75 H locs f75 hW hS => ?_)
          refine xw_iret hx hb hr hlocks hW hS ?_ dX0_old_76
          have hres : xf_old X m c = (v73, X75) := by subst e2 e9 e20 e24 e25 e55 e59 e60 f64 e73 f75; simp only [xf_old, if_neg c5, if_neg c12, if_pos c28, if_neg c41, rd_wn (show (17 : Nat) ≠ 16 by decide)]
          exact ⟨by rw [hres], by rw [hres], rfl⟩
        · skip
          refine lv_bipush (v := (-3)) hx hb dX0_old_44 (by decide) ?_
          refine xw_iret hx hb hr hlocks hW hS ?_ dX0_old_46
          have hres : xf_old X m c = ((-3), X) := by subst e2 e9 e20 e24 e25; simp only [xf_old, if_neg c5, if_neg c12, if_pos c28, if_pos c41, rd_wn (show (17 : Nat) ≠ 16 by decide)]
          exact ⟨by rw [hres], by rw [hres], rfl⟩
      · skip
        refine lv_iconst (v := (-1)) hx hb dX0_old_31 (by decide) ?_
        refine xw_iret hx hb hr hlocks hW hS ?_ dX0_old_32
        have hres : xf_old X m c = ((-1), X) := by subst e2 e9 e20 e24 e25; simp only [xf_old, if_neg c5, if_neg c12, if_neg c28, rd_wn (show (17 : Nat) ≠ 16 by decide)]
        exact ⟨by rw [hres], by rw [hres], rfl⟩

set_option maxHeartbeats 4000000 in
theorem xc_isOfShelter (lQ : Launch) (G : wm_G) (o d0 : Nat) (X : mm_S) (E : mm_E) (D : xg) (m : Int32) (x : Int32) (y : Int32) (m0 : 0 ≤ m.toInt) (m1 : m.toInt < 8) : xw_Met lQ G o d0 yX0_isOfShelter (ws_ yX0_isOfShelter cX0_isOfShelter 4 (some .boolean)) 1 X E D [Value.ref o, .int m, .int x, .int y] (some (.int (xf_isOfShelter X m x y))) X E := by
  refine xw_start (own := RX0) (by decide +kernel) (Nat.le_of_ble_eq_true rfl) rfl (fun pQ eQ sQ mQ belowQ methQ cQ hx hb hml hr hlocks hts hown hK hN H hW hS ls hl => ?_)
  have hl : lv_has ls 4 [(0, .ref o), (1, .int m), (2, .int x), (3, .int y)] := hl
  generalize hlc : ([] : List Loc) = locs at hS ⊢
  refine lv_aload_n hx hb dX0_isOfShelter_0 rfl (lv_at hl 0 rfl) ?_
  refine xx_geta hx hb hts hown hK hW 15 rfl q285 dX0_isOfShelter_1 ?_
  refine lv_iload_n hx hb dX0_isOfShelter_4 rfl (lv_at hl 1 rfl) ?_
  refine xx_iald hx hb hK hW 15 rfl (ww_in m0 (by omega)) dX0_isOfShelter_5 ?_
  refine lv_iload_n hx hb dX0_isOfShelter_6 rfl (lv_at hl 3 rfl) ?_
  refine lv_icmp_ne (tgt := 36) hx hb dX0_isOfShelter_7 (by decide) (fun c7 => ?_) (fun c7 => ?_)
  · skip
    refine lv_iconst (v := 0) hx hb dX0_isOfShelter_36 (by decide) ?_
    refine xw_zret hx hb hr hlocks hW hS rfl ?_ dX0_isOfShelter_37
    have hres : xf_isOfShelter X m x y = 0 := by simp only [xf_isOfShelter, if_neg c7]
    exact ⟨by rw [hres], rfl, rfl⟩
  · skip
    refine lv_iload_n hx hb dX0_isOfShelter_10 rfl (lv_at hl 2 rfl) ?_
    refine lv_i2l (v := (x).toInt64) hx hb dX0_isOfShelter_11 rfl ?_
    refine lv_aload_n hx hb dX0_isOfShelter_12 rfl (lv_at hl 0 rfl) ?_
    refine xx_geta hx hb hts hown hK hW 13 rfl q283 dX0_isOfShelter_13 ?_
    refine lv_iload_n hx hb dX0_isOfShelter_16 rfl (lv_at hl 1 rfl) ?_
    refine xx_iald hx hb hK hW 13 rfl (ww_in m0 (by omega)) dX0_isOfShelter_17 ?_
    refine lv_i2l (v := ((rd_ X 13 m)).toInt64) hx hb dX0_isOfShelter_18 rfl ?_
    refine lv_aload_n hx hb dX0_isOfShelter_19 rfl (lv_at hl 0 rfl) ?_
    refine xx_geta hx hb hts hown hK hW 14 rfl q284 dX0_isOfShelter_20 ?_
    refine lv_iload_n hx hb dX0_isOfShelter_23 rfl (lv_at hl 1 rfl) ?_
    refine xx_iald hx hb hK hW 14 rfl (ww_in m0 (by omega)) dX0_isOfShelter_24 ?_
    refine lv_i2l (v := ((rd_ X 14 m)).toInt64) hx hb dX0_isOfShelter_25 rfl ?_
    refine xx_within (rest := []) x (rd_ X 13 m) (rd_ X 14 m) ⟨hx, hb, hml, hown, hts⟩ rfl rfl rfl q459 hl.1 rfl rfl (Nat.le_of_ble_eq_true rfl) rfl rfl ⟨Nat.le_of_ble_eq_true rfl, Nat.le_of_ble_eq_true rfl⟩ dX0_isOfShelter_26 (fun v26 e26 => ?_)
    refine lv_if_eq (tgt := 36) hx hb dX0_isOfShelter_29 (by decide) (fun c29 => ?_) (fun c29 => ?_)
    · skip
      refine lv_iconst (v := 0) hx hb dX0_isOfShelter_36 (by decide) ?_
      refine xw_zret hx hb hr hlocks hW hS rfl ?_ dX0_isOfShelter_37
      have hres : xf_isOfShelter X m x y = 0 := by subst e26; simp only [xf_isOfShelter, if_pos c7, if_pos c29]
      exact ⟨by rw [hres], rfl, rfl⟩
    · skip
      refine lv_iconst (v := 1) hx hb dX0_isOfShelter_32 (by decide) ?_
      refine lv_goto (tgt := 37) hx hb dX0_isOfShelter_33 (by decide) ?_
      refine xw_zret hx hb hr hlocks hW hS rfl ?_ dX0_isOfShelter_37
      have hres : xf_isOfShelter X m x y = 1 := by subst e26; simp only [xf_isOfShelter, if_pos c7, if_neg c29]
      exact ⟨by rw [hres], rfl, rfl⟩

set_option maxHeartbeats 4000000 in
theorem xc_isLike (lQ : Launch) (G : wm_G) (o d0 : Nat) (X : mm_S) (E : mm_E) (D : xg) (m : Int32) (x : Int32) (y : Int32) (t : Int32) (m0 : 0 ≤ m.toInt) (m1 : m.toInt < 8) (hO : xv_O X) (hv : vp_in (xf_oldAt m x y) 15616) : xw_Met lQ G o d0 yX0_isLike (ws_ yX0_isLike cX0_isLike 7 (some .boolean)) 3 X E D [Value.ref o, .int m, .int x, .int y, .int t] (some (.int (xf_isLike X m x y t))) X E := by
  refine xw_start (own := RX0) (by decide +kernel) (Nat.le_of_ble_eq_true rfl) rfl (fun pQ eQ sQ mQ belowQ methQ cQ hx hb hml hr hlocks hts hown hK hN H hW hS ls hl => ?_)
  have hl : lv_has ls 7 [(0, .ref o), (1, .int m), (2, .int x), (3, .int y), (4, .int t)] := hl
  generalize hlc : ([] : List Loc) = locs at hS ⊢
  refine lv_aload_n hx hb dX0_isLike_0 rfl (lv_at hl 0 rfl) ?_
  refine lv_iload_n hx hb dX0_isLike_1 rfl (lv_at hl 1 rfl) ?_
  refine lv_iload_n hx hb dX0_isLike_2 rfl (lv_at hl 2 rfl) ?_
  refine lv_iload_n hx hb dX0_isLike_3 rfl (lv_at hl 3 rfl) ?_
  refine xw_p (xw_rV (As := [.int m, .int x, .int y]) (rest := []) (n := 3) ⟨hx, hb, hml, hown, hts⟩ hK hN hW (xc_isOld lQ G o d0 X E D m x y hO hv) (lw_V q884 q886 qs7 q84 q887) (xr_main hK hW) (by decide +kernel) rfl ⟨Nat.le_of_ble_eq_true rfl, Nat.le_of_ble_eq_true rfl⟩ hl.1 rfl (Nat.le_of_ble_eq_true rfl) dX0_isLike_4 ⟨Nat.le_of_ble_eq_true rfl, Nat.le_of_ble_eq_true rfl⟩) hS (fun v4 H locs e4 hW hS => ?_)
  refine lv_istore (lv' := [(5, .int v4), (0, .ref o), (1, .int m), (2, .int x), (3, .int y), (4, .int t)]) hx hb dX0_isLike_7 hl (by decide) rfl (fun ls hl => ?_)
  refine lv_aload_n hx hb dX0_isLike_9 rfl (lv_at hl 1 rfl) ?_
  refine lv_iload_n hx hb dX0_isLike_10 rfl (lv_at hl 2 rfl) ?_
  refine lv_iload_n hx hb dX0_isLike_11 rfl (lv_at hl 3 rfl) ?_
  refine lv_iload_n hx hb dX0_isLike_12 rfl (lv_at hl 4 rfl) ?_
  refine xw_p (xw_rV (As := [.int m, .int x, .int y]) (rest := []) (n := 3) ⟨hx, hb, hml, hown, hts⟩ hK hN hW (xc_isOfShelter lQ G o d0 X E D m x y m0 m1) (lw_V q899 q901 qs9 q84 q902) (xr_main hK hW) (by decide +kernel) rfl ⟨Nat.le_of_ble_eq_true rfl, Nat.le_of_ble_eq_true rfl⟩ hl.1 rfl (Nat.le_of_ble_eq_true rfl) dX0_isLike_13 ⟨Nat.le_of_ble_eq_true rfl, Nat.le_of_ble_eq_true rfl⟩) hS (fun v13 H locs e13 hW hS => ?_)
  refine lv_istore (lv' := [(6, .int v13), (5, .int v4), (0, .ref o), (1, .int m), (2, .int x), (3, .int y), (4, .int t)]) hx hb dX0_isLike_16 hl (by decide) rfl (fun ls hl => ?_)
  refine wm_join (P := fun w54 : Int32 => w54 = xf_isLike X m x y t) (j := 54) (rest := []) (ls := ls) (fun w54 ew54 => ?_) (fun J54 => ?_)
  · skip
    refine xw_zret hx hb hr hlocks hW hS (by rw [ew54]; exact nz_ (xf_isLike_b hO _ _ _ _)) ?_ dX0_isLike_54
    have hres : xf_isLike X m x y t = w54 := by subst e4 e13 ew54; simp only [xf_isLike]
    exact ⟨by rw [hres], rfl, rfl⟩
  refine lv_iload hx hb dX0_isLike_18 (lv_at hl 6 rfl) ?_
  refine lv_if_ne (tgt := 41) hx hb dX0_isLike_20 (by decide) (fun c20 => ?_) (fun c20 => ?_)
  · skip
    refine lv_iload hx hb dX0_isLike_41 (lv_at hl 6 rfl) ?_
    refine lv_iconst (v := 1) hx hb dX0_isLike_43 (by decide) ?_
    refine lv_icmp_ne (tgt := 52) hx hb dX0_isLike_44 (by decide) (fun c44 => ?_) (fun c44 => ?_)
    · skip
      refine lv_iload hx hb dX0_isLike_52 (lv_at hl 0 rfl) ?_
      exact J54 _ (by subst e4 e13; simp only [if_neg c20, if_neg c44, xf_isLike])
    · skip
      refine lv_iload hx hb dX0_isLike_47 (lv_at hl 1 rfl) ?_
      refine lv_goto (tgt := 54) hx hb dX0_isLike_49 (by decide) ?_
      exact J54 _ (by subst e4 e13; simp only [if_neg c20, if_pos c44, xf_isLike])
  · skip
    refine lv_iload hx hb dX0_isLike_23 (lv_at hl 1 rfl) ?_
    refine lv_if_ne (tgt := 37) hx hb dX0_isLike_25 (by decide) (fun c25 => ?_) (fun c25 => ?_)
    · skip
      refine lv_iconst (v := 0) hx hb dX0_isLike_37 (by decide) ?_
      refine lv_goto (tgt := 54) hx hb dX0_isLike_38 (by decide) ?_
      exact J54 _ (by subst e4 e13; simp only [if_pos c20, if_neg c25, xf_isLike])
    · skip
      refine lv_iload hx hb dX0_isLike_28 (lv_at hl 0 rfl) ?_
      refine lv_if_ne (tgt := 37) hx hb dX0_isLike_30 (by decide) (fun c30 => ?_) (fun c30 => ?_)
      · skip
        refine lv_iconst (v := 0) hx hb dX0_isLike_37 (by decide) ?_
        refine lv_goto (tgt := 54) hx hb dX0_isLike_38 (by decide) ?_
        exact J54 _ (by subst e4 e13; simp only [if_pos c20, if_pos c25, if_neg c30, xf_isLike])
      · skip
        refine lv_iconst (v := 1) hx hb dX0_isLike_33 (by decide) ?_
        refine lv_goto (tgt := 54) hx hb dX0_isLike_34 (by decide) ?_
        exact J54 _ (by subst e4 e13; simp only [if_pos c20, if_pos c25, if_pos c30, xf_isLike])

set_option maxHeartbeats 4000000 in
theorem xc_wrong (lQ : Launch) (G : wm_G) (o d0 : Nat) (X : mm_S) (E : mm_E) (D : xg) (m : Int32) (hM : xv_M X) (hO : xv_O X) (hT : xv_T X) : xw_Met lQ G o d0 yX0_wrong (ws_ yX0_wrong cX0_wrong 9 (some .int)) 4 X E D [Value.ref o, .int m] (some (.int (xf_wrong X m))) X E := by
  refine xw_start (own := RX0) (by decide +kernel) (Nat.le_of_ble_eq_true rfl) rfl (fun pQ eQ sQ mQ belowQ methQ cQ hx hb hml hr hlocks hts hown hK hN H hW hS ls hl => ?_)
  have hl : lv_has ls 9 [(0, .ref o), (1, .int m)] := hl
  generalize hlc : ([] : List Loc) = locs at hS ⊢
  refine lv_aload_n hx hb dX0_wrong_0 rfl (lv_at hl 0 rfl) ?_
  refine lv_iload_n hx hb dX0_wrong_1 rfl (lv_at hl 1 rfl) ?_
  refine xw_p (xw_rV (As := [.int m]) (rest := []) (n := 1) ⟨hx, hb, hml, hown, hts⟩ hK hN hW (xc_isMap lQ G o d0 X E D m) (lw_V q880 q882 qs6 q84 q883) (xr_main hK hW) (by decide +kernel) rfl ⟨Nat.le_of_ble_eq_true rfl, Nat.le_of_ble_eq_true rfl⟩ hl.1 rfl (Nat.le_of_ble_eq_true rfl) dX0_wrong_2 ⟨Nat.le_of_ble_eq_true rfl, Nat.le_of_ble_eq_true rfl⟩) hS (fun v2 H locs e2 hW hS => ?_)
  refine lv_if_ne (tgt := 10) hx hb dX0_wrong_5 (by decide) (fun c5 => ?_) (fun c5 => ?_)
  · skip
    obtain ⟨m0, m2, m1⟩ := xf_isMap_t hM (by rw [← e2]; exact c5)
    refine lv_iconst (v := 0) hx hb dX0_wrong_10 (by decide) ?_
    refine lv_istore_n (lv' := [(2, .int 0), (0, .ref o), (1, .int m)]) hx hb dX0_wrong_11 rfl hl (by decide) rfl (fun ls hl => ?_)
    have L12 : ∀ (fu12 : Nat) (k : Int32) (H : Heap) (locs : List Loc), ((fd_ X 4).toInt - k.toInt < fu12) → (0 ≤ k.toInt) → (k.toInt ≤ (fd_ X 4).toInt) → (xf_wr_go fu12 X m k = xf_wrong X m) → xx_W G o d0 X E D H → va_S (xx_F o d0) sQ.heap H locs → ∀ ls : Array Slot, lv_has ls 9 [(2, .int k), (0, .ref o), (1, .int m)] → W pQ lQ eQ (wm_rm 4) sQ mQ ([Value.ref o, .int m] : List Value).toArray belowQ methQ cQ H locs 0 0 (MQ belowQ (wm_Q (fun vQ HQ => vQ = some (.int (xf_wrong X m)) ∧ xx_W G o d0 X E D HQ) (xx_F o d0)) ([Value.ref o, .int m] : List Value).toArray sQ 0 0 (xx_F o d0)) (F0 mQ 12 ls []) := by
      intro fu12
      induction fu12 with
      | zero =>
        intro k H locs hm12 i012 i112 hgo12 hW hS ls hl
        exact absurd hm12 (by omega)
      | succ fu12 ih12 =>
        intro k H locs hm12 i012 i112 hgo12 hW hS ls hl
        refine lv_iload_n hx hb dX0_wrong_12 rfl (lv_at hl 0 rfl) ?_
        refine lv_aload_n hx hb dX0_wrong_13 rfl (lv_at hl 1 rfl) ?_
        refine xx_geti hx hb hts hown hK hW 4 rfl rfl (by decide) (by decide) q271 dX0_wrong_14 ?_
        refine lv_icmp_ge (tgt := 154) hx hb dX0_wrong_17 (by decide) (fun c17 => ?_) (fun c17 => ?_)
        · have t17 : ((fd_ X 4)).toInt ≤ (k).toInt := ww_le c17
          refine lv_bipush (v := (-2)) hx hb dX0_wrong_154 (by decide) ?_
          refine xw_iret hx hb hr hlocks hW hS ?_ dX0_wrong_156
          have hres : xf_wrong X m = (-2) := by rw [← hgo12]; simp only [xf_wr_go, if_pos c17]
          exact ⟨by rw [hres], rfl, rfl⟩
        · have t17 : (k).toInt < ((fd_ X 4)).toInt := ww_nle c17
          refine lv_aload_n hx hb dX0_wrong_20 rfl (lv_at hl 1 rfl) ?_
          refine lv_iload_n hx hb dX0_wrong_21 rfl (lv_at hl 0 rfl) ?_
          refine xw_b (xw_rV (As := [.int k]) (rest := []) (n := 1) ⟨hx, hb, hml, hown, hts⟩ hK hN hW (xc_holeOf lQ G o d0 X E D k) (lw_V q754 q756 qs3 q84 q757) (xr_main hK hW) (by decide +kernel) rfl ⟨Nat.le_of_ble_eq_true rfl, Nat.le_of_ble_eq_true rfl⟩ hl.1 rfl (Nat.le_of_ble_eq_true rfl) dX0_wrong_22 ⟨Nat.le_of_ble_eq_true rfl, Nat.le_of_ble_eq_true rfl⟩) hS (fun v22 H locs e22 hW hS => ?_)
          refine xl_astore_n (lv' := [(3, va_rf (xx_o D v22)), (2, .int k), (0, .ref o), (1, .int m)]) hx hb dX0_wrong_25 rfl hl (by decide) rfl (fun ls hl => ?_)
          refine wm_join (P := fun w40 : Int32 => w40 = xf_wc X v22) (j := 40) (rest := []) (ls := ls) (fun w40 ew40 => ?_) (fun J40 => ?_)
          · skip
            refine lv_istore (lv' := [(4, .int w40), (3, va_rf (xx_o D v22)), (2, .int k), (0, .ref o), (1, .int m)]) hx hb dX0_wrong_40 hl (by decide) (by simp [va_rf_c]) (fun ls hl => ?_)
            refine lv_iload hx hb dX0_wrong_42 (lv_at hl 0 rfl) ?_
            refine lv_istore (lv' := [(5, .int w40), (4, .int w40), (3, va_rf (xx_o D v22)), (2, .int k), (0, .ref o), (1, .int m)]) hx hb dX0_wrong_44 hl (by decide) rfl (fun ls hl => ?_)
            refine lv_iconst (v := 1) hx hb dX0_wrong_46 (by decide) ?_
            refine lv_istore (lv' := [(6, .int 1), (5, .int w40), (4, .int w40), (3, va_rf (xx_o D v22)), (2, .int k), (0, .ref o), (1, .int m)]) hx hb dX0_wrong_47 hl (by decide) rfl (fun ls hl => ?_)
            have L49 : ∀ (fu49 : Nat) (gl : Int32) (gh : Int32) (y : Int32) (H : Heap) (locs : List Loc), (61 - y.toInt < fu49) → (1 ≤ y.toInt) → (y.toInt ≤ 61) → (xf_wyc fu49 fu12 X m v22 gl gh y k = xf_wrong X m) → xx_W G o d0 X E D H → va_S (xx_F o d0) sQ.heap H locs → ∀ ls : Array Slot, lv_has ls 9 [(6, .int y), (5, .int gh), (4, .int gl), (3, va_rf (xx_o D v22)), (2, .int k), (0, .ref o), (1, .int m)] → W pQ lQ eQ (wm_rm 4) sQ mQ ([Value.ref o, .int m] : List Value).toArray belowQ methQ cQ H locs 0 0 (MQ belowQ (wm_Q (fun vQ HQ => vQ = some (.int (xf_wrong X m)) ∧ xx_W G o d0 X E D HQ) (xx_F o d0)) ([Value.ref o, .int m] : List Value).toArray sQ 0 0 (xx_F o d0)) (F0 mQ 49 ls []) := by
              intro fu49
              induction fu49 with
              | zero =>
                intro gl gh y H locs hm49 j049 j149 hgo49 hW hS ls hl
                exact absurd hm49 (by omega)
              | succ fu49 ih49 =>
                intro gl gh y H locs hm49 j049 j149 hgo49 hW hS ls hl
                refine xl_aload_n hx hb dX0_wrong_49 rfl (lv_at hl 3 rfl) ?_
                refine xl_ifnull (tgt := 148) hx hb dX0_wrong_50 (by decide) (fun c50 => ?_) (fun c50 => ?_)
                · have t50 : (v22).toInt < 0 := ww_lt c50
                  rw [xf_wyc_0 c50] at hgo49
                  obtain ⟨v148, e148⟩ : ∃ yQ : Int32, yQ = k + 1 := ⟨_, rfl⟩
                  refine lv_iinc (v := v148) (lv' := [(2, .int v148), (6, .int y), (5, .int gh), (4, .int gl), (3, va_rf (xx_o D v22)), (0, .ref o), (1, .int m)]) hx hb dX0_wrong_148 hl (k := 4) rfl (by rw [e148]; rfl) (by decide) rfl (fun ls hl => ?_)
                  refine lv_goto (tgt := 12) hx hb dX0_wrong_151 (by decide) ?_
                  have tb : v148.toInt = k.toInt + 1 := by rw [e148]; exact ww_inc t17
                  exact ih12 v148 H locs (by omega) (by omega) (by omega) (by subst e22 ew40 e148; exact hgo49) hW hS ls (lv_sub hl [0, 5, 6] rfl)
                · have t50 : 0 ≤ (v22).toInt := ww_nlt c50
                  have hi50 : xh_in X (xf_holeOf X k) := xf_holeOf_q (xv_W hW) (by rw [← e22]; exact c50)
                  refine lv_iload hx hb dX0_wrong_53 (lv_at hl 0 rfl) ?_
                  refine xl_aload_n hx hb dX0_wrong_55 rfl (lv_at hl 3 rfl) ?_
                  refine xl_top (show xh_in X v22 from by rw [e22]; exact hi50).1.1 ?_
                  refine xb_getN hx hb hts hown hK hW (show xh_in X v22 from by rw [e22]; exact hi50).1 (k := 8) (xf_hole (show xh_in X v22 from by rw [e22]; exact hi50).2 (k := 8) (by decide)) (hN.nf q532) rfl (xb_vi (f := 66) (xf_hole (show xh_in X v22 from by rw [e22]; exact hi50).2 (k := 8) (by decide)) (by decide)) dX0_wrong_56 ?_
                  refine lv_icmp_gt (tgt := 148) hx hb dX0_wrong_59 (by decide) (fun c59 => ?_) (fun c59 => ?_)
                  · have t59 : ((rd_ X 66 v22)).toInt < (y).toInt := ww_lt c59
                    rw [xf_wyc_1 c50 c59] at hgo49
                    obtain ⟨v148, e148⟩ : ∃ yQ : Int32, yQ = k + 1 := ⟨_, rfl⟩
                    refine lv_iinc (v := v148) (lv' := [(2, .int v148), (6, .int y), (5, .int gh), (4, .int gl), (3, va_rf (xx_o D v22)), (0, .ref o), (1, .int m)]) hx hb dX0_wrong_148 hl (k := 4) rfl (by rw [e148]; rfl) (by decide) rfl (fun ls hl => ?_)
                    refine lv_goto (tgt := 12) hx hb dX0_wrong_151 (by decide) ?_
                    have tb : v148.toInt = k.toInt + 1 := by rw [e148]; exact ww_inc t17
                    exact ih12 v148 H locs (by omega) (by omega) (by omega) (by subst e22 ew40 e148; exact hgo49) hW hS ls (lv_sub hl [0, 5, 6] rfl)
                  · have t59 : (y).toInt ≤ ((rd_ X 66 v22)).toInt := ww_nlt c59
                    have hi := hi50
                    obtain ⟨q1, q2, q3⟩ := hT (xf_holeOf X k) (xb_120 (xv_W hW) hi.1).1 (xb_120 (xv_W hW) hi.1).2
                    have hz : (0 : Int32).toInt = 0 := by decide
                    have hy0 : ¬ y = 0 := ww_ne' (by omega)
                    rw [e22] at t59
                    refine xl_aload_n hx hb dX0_wrong_62 rfl (lv_at hl 3 rfl) ?_
                    refine lv_iload hx hb dX0_wrong_63 (lv_at hl 0 rfl) ?_
                    refine lv_iload hx hb dX0_wrong_65 (lv_at hl 2 rfl) ?_
                    refine xw_p (xd_low_X0 (rest := []) lQ ⟨hx, hb, hml, hown, hts⟩ hK hN hW (show xh_in X v22 from by rw [e22]; exact hi50) y gl (ww_in (by omega) (by omega)) ⟨Nat.le_of_ble_eq_true rfl, Nat.le_of_ble_eq_true rfl⟩ hl.1 (by rw [xx_o_pos (show xh_in X v22 from by rw [e22]; exact hi50).1.1]; rfl) (Nat.le_of_ble_eq_true rfl) dX0_wrong_67 ⟨Nat.le_of_ble_eq_true rfl, Nat.le_of_ble_eq_true rfl⟩) hS (fun v67 H locs e67 hW hS => ?_)
                    refine lv_istore (lv' := [(4, .int v67), (6, .int y), (5, .int gh), (3, va_rf (xx_o D v22)), (2, .int k), (0, .ref o), (1, .int m)]) hx hb dX0_wrong_70 hl (by decide) (by simp [va_rf_c]) (fun ls hl => ?_)
                    refine xl_aload_n hx hb dX0_wrong_72 rfl (lv_at hl 3 rfl) ?_
                    refine lv_iload hx hb dX0_wrong_73 (lv_at hl 1 rfl) ?_
                    refine lv_iload hx hb dX0_wrong_75 (lv_at hl 2 rfl) ?_
                    refine xw_p (xd_high_X0 (rest := []) lQ ⟨hx, hb, hml, hown, hts⟩ hK hN hW (show xh_in X v22 from by rw [e22]; exact hi50) y gh (ww_in (by omega) (by omega)) ⟨Nat.le_of_ble_eq_true rfl, Nat.le_of_ble_eq_true rfl⟩ hl.1 (by rw [xx_o_pos (show xh_in X v22 from by rw [e22]; exact hi50).1.1]; rfl) (Nat.le_of_ble_eq_true rfl) dX0_wrong_77 ⟨Nat.le_of_ble_eq_true rfl, Nat.le_of_ble_eq_true rfl⟩) hS (fun v77 H locs e77 hW hS => ?_)
                    refine lv_istore (lv' := [(5, .int v77), (4, .int v67), (6, .int y), (3, va_rf (xx_o D v22)), (2, .int k), (0, .ref o), (1, .int m)]) hx hb dX0_wrong_80 hl (by decide) rfl (fun ls hl => ?_)
                    refine lv_iconst (v := 0) hx hb dX0_wrong_82 (by decide) ?_
                    refine lv_istore (lv' := [(7, .int 0), (5, .int v77), (4, .int v67), (6, .int y), (3, va_rf (xx_o D v22)), (2, .int k), (0, .ref o), (1, .int m)]) hx hb dX0_wrong_83 hl (by decide) rfl (fun ls hl => ?_)
                    refine lv_iload hx hb dX0_wrong_85 (lv_at hl 2 rfl) ?_
                    refine pp_calli (As := [.int v67]) (rest := []) (n := 1) ⟨hx, hb, hml, hown, hts⟩ (xc_least lQ v67) (lw_S q854 q855 q84 q856) (by decide +kernel) rfl ⟨Nat.le_of_ble_eq_true rfl, Nat.le_of_ble_eq_true rfl⟩ hl.1 rfl (Nat.le_of_ble_eq_true rfl) dX0_wrong_87 ⟨Nat.le_of_ble_eq_true rfl, Nat.le_of_ble_eq_true rfl⟩ (fun v87 e87 => ?_)
                    refine lv_istore (lv' := [(8, .int v87), (7, .int 0), (5, .int v77), (4, .int v67), (6, .int y), (3, va_rf (xx_o D v22)), (2, .int k), (0, .ref o), (1, .int m)]) hx hb dX0_wrong_90 hl (by decide) rfl (fun ls hl => ?_)
                    have L92 : ∀ (fu92 : Nat) (z : Int32) (x : Int32) (H : Heap) (locs : List Loc), (32 - x.toInt < fu92) → (0 ≤ x.toInt) → (x.toInt ≤ 32) → ((if xf_lk_go fu92 X m v22 y v77 z x = 0 then 100 * k + y else xf_wyc fu49 fu12 X m v22 v67 v77 (y + 1) k) = xf_wrong X m) → xx_W G o d0 X E D H → va_S (xx_F o d0) sQ.heap H locs → ∀ ls : Array Slot, lv_has ls 9 [(8, .int x), (7, .int z), (5, .int v77), (4, .int v67), (6, .int y), (3, va_rf (xx_o D v22)), (2, .int k), (0, .ref o), (1, .int m)] → W pQ lQ eQ (wm_rm 4) sQ mQ ([Value.ref o, .int m] : List Value).toArray belowQ methQ cQ H locs 0 0 (MQ belowQ (wm_Q (fun vQ HQ => vQ = some (.int (xf_wrong X m)) ∧ xx_W G o d0 X E D HQ) (xx_F o d0)) ([Value.ref o, .int m] : List Value).toArray sQ 0 0 (xx_F o d0)) (F0 mQ 92 ls []) := by
                      intro fu92
                      induction fu92 with
                      | zero =>
                        intro z x H locs hm92 l092 l192 hgo92 hW hS ls hl
                        exact absurd hm92 (by omega)
                      | succ fu92 ih92 =>
                        intro z x H locs hm92 l092 l192 hgo92 hW hS ls hl
                        refine lv_iload hx hb dX0_wrong_92 (lv_at hl 0 rfl) ?_
                        refine lv_iload hx hb dX0_wrong_94 (lv_at hl 2 rfl) ?_
                        refine pp_calli (As := [.int v77]) (rest := [.int x]) (n := 1) ⟨hx, hb, hml, hown, hts⟩ (xc_most lQ v77) (lw_S q869 q870 q84 q871) (by decide +kernel) rfl ⟨Nat.le_of_ble_eq_true rfl, Nat.le_of_ble_eq_true rfl⟩ hl.1 rfl (Nat.le_of_ble_eq_true rfl) dX0_wrong_96 ⟨Nat.le_of_ble_eq_true rfl, Nat.le_of_ble_eq_true rfl⟩ (fun v96 e96 => ?_)
                        refine lv_icmp_gt (tgt := 129) hx hb dX0_wrong_99 (by decide) (fun c99 => ?_) (fun c99 => ?_)
                        · have t99 : (v96).toInt < (x).toInt := ww_lt c99
                          rw [e96] at c99
                          simp only [xf_lk_go, if_pos c99] at hgo92
                          refine lv_iload hx hb dX0_wrong_129 (lv_at hl 1 rfl) ?_
                          refine lv_if_ne (tgt := 142) hx hb dX0_wrong_131 (by decide) (fun c131 => ?_) (fun c131 => ?_)
                          · skip
                            obtain ⟨v142, e142⟩ : ∃ yQ : Int32, yQ = y + 1 := ⟨_, rfl⟩
                            refine lv_iinc (v := v142) (lv' := [(6, .int v142), (8, .int x), (7, .int z), (5, .int v77), (4, .int v67), (3, va_rf (xx_o D v22)), (2, .int k), (0, .ref o), (1, .int m)]) hx hb dX0_wrong_142 hl (k := 4) rfl (by rw [e142]; rfl) (by decide) rfl (fun ls hl => ?_)
                            refine lv_goto (tgt := 49) hx hb dX0_wrong_145 (by decide) ?_
                            have tb2 : v142.toInt = y.toInt + 1 := by rw [e142]; exact ww_inc' (by omega)
                            exact ih49 v67 v77 v142 H locs (by omega) (by omega) (by omega) (by subst e67 e77 e87 e96 e142; exact (by rw [if_neg c131] at hgo92; exact hgo92)) hW hS ls (lv_sub hl [0, 3, 4, 5, 6, 7, 8] rfl)
                          · skip
                            refine lv_bipush (v := 100) hx hb dX0_wrong_134 (by decide) ?_
                            refine lv_iload_n hx hb dX0_wrong_136 rfl (lv_at hl 6 rfl) ?_
                            refine nv_imul hx hb dX0_wrong_137 (fun v137 e137 => ?_)
                            refine lv_iload hx hb dX0_wrong_138 (lv_at hl 4 rfl) ?_
                            refine nv_iadd hx hb dX0_wrong_140 (fun v140 e140 => ?_)
                            refine xw_iret hx hb hr hlocks hW hS ?_ dX0_wrong_141
                            subst e67 e77 e87 e96 e137 e140; rw [if_pos c131] at hgo92; exact ⟨by rw [← hgo92], rfl, rfl⟩
                        · have t99 : (x).toInt ≤ (v96).toInt := ww_nlt c99
                          have tz := xf_most_t v77
                          have tw : x.toInt ≤ 31 := by rw [e96] at t99; omega
                          have hyi : vp_in y 61 := ww_in (by omega) (by omega)
                          refine lv_iload hx hb dX0_wrong_102 (lv_at hl 1 rfl) ?_
                          refine lv_aload_n hx hb dX0_wrong_104 rfl (lv_at hl 7 rfl) ?_
                          refine lv_iload_n hx hb dX0_wrong_105 rfl (lv_at hl 8 rfl) ?_
                          refine lv_iload hx hb dX0_wrong_106 (lv_at hl 0 rfl) ?_
                          refine lv_iload hx hb dX0_wrong_108 (lv_at hl 4 rfl) ?_
                          refine xl_aload_n hx hb dX0_wrong_110 rfl (lv_at hl 5 rfl) ?_
                          refine xl_top (show xh_in X v22 from by rw [e22]; exact hi50).1.1 ?_
                          refine xb_getN hx hb hts hown hK hW (show xh_in X v22 from by rw [e22]; exact hi50).1 (k := 7) (xf_hole (show xh_in X v22 from by rw [e22]; exact hi50).2 (k := 7) (by decide)) (hN.nf q530) rfl (xb_va (j := 2) (xf_hole (show xh_in X v22 from by rw [e22]; exact hi50).2 (k := 7) (by decide)) (by decide)) dX0_wrong_111 ?_
                          refine lv_iload hx hb dX0_wrong_114 (lv_at hl 4 rfl) ?_
                          refine xh_iald hx hb hK hW (show xh_in X v22 from by rw [e22]; exact hi50) 1 (by decide) 65 rfl hyi dX0_wrong_116 ?_
                          refine xw_p (xw_rV (As := [.int m, .int x, .int y, .int (ra_ X 65 v22 y)]) (rest := [.int z]) (n := 4) ⟨hx, hb, hml, hown, hts⟩ hK hN hW (xc_isLike lQ G o d0 X E D m x y (ra_ X 65 v22 y) m0 m1 hO (xf_oldAt_in m0 m1 (by omega) (by omega) (by omega) (by omega))) (lw_V q895 q897 qs8 q84 q898) (xr_main hK hW) (by decide +kernel) rfl ⟨Nat.le_of_ble_eq_true rfl, Nat.le_of_ble_eq_true rfl⟩ hl.1 rfl (Nat.le_of_ble_eq_true rfl) dX0_wrong_117 ⟨Nat.le_of_ble_eq_true rfl, Nat.le_of_ble_eq_true rfl⟩) hS (fun v117 H locs e117 hW hS => ?_)
                          refine nv_ior hx hb dX0_wrong_120 (fun v120 e120 => ?_)
                          refine lv_istore (lv' := [(7, .int v120), (8, .int x), (5, .int v77), (4, .int v67), (6, .int y), (3, va_rf (xx_o D v22)), (2, .int k), (0, .ref o), (1, .int m)]) hx hb dX0_wrong_121 hl (by decide) rfl (fun ls hl => ?_)
                          obtain ⟨v123, e123⟩ : ∃ yQ : Int32, yQ = x + 1 := ⟨_, rfl⟩
                          refine lv_iinc (v := v123) (lv' := [(8, .int v123), (7, .int v120), (5, .int v77), (4, .int v67), (6, .int y), (3, va_rf (xx_o D v22)), (2, .int k), (0, .ref o), (1, .int m)]) hx hb dX0_wrong_123 hl (k := 1) rfl (by rw [e123]; rfl) (by decide) rfl (fun ls hl => ?_)
                          refine lv_goto (tgt := 92) hx hb dX0_wrong_126 (by decide) ?_
                          have tz := xf_most_t v77
                          have tw : x.toInt ≤ 31 := by rw [e96] at t99; omega
                          have tb3 : v123.toInt = x.toInt + 1 := by rw [e123]; exact ww_inc' (by omega)
                          exact ih92 v120 v123 H locs (by omega) (by omega) (by omega) (by subst e96 e117 e120 e123; simp only [xf_lk_go, if_neg c99] at hgo92; exact hgo92) hW hS ls (lv_sub hl [0, 1, 2, 3, 4, 5, 6, 7, 8] rfl)
                    exact L92 33 0 v87 H locs (by rw [e87]; have := xf_least_t v67; omega) (by rw [e87]; exact (xf_least_t v67).1) (by rw [e87]; have := xf_least_t v67; omega) (by subst e67 e77 e87; rw [xf_wyc_s c50 c59 hy0] at hgo49; exact hgo49) hW hS ls (lv_sub hl [0, 1, 2, 3, 4, 5, 6, 7, 8] rfl)
            exact L49 61 w40 w40 1 H locs (by decide) (by decide) (by decide) (by subst e22 ew40; rw [xf_wr_s, if_neg c17] at hgo12; exact hgo12) hW hS ls (lv_sub hl [0, 1, 2, 3, 4, 5, 6] rfl)
          refine xl_aload_n hx hb dX0_wrong_26 rfl (lv_at hl 0 rfl) ?_
          refine xl_ifnonnull (tgt := 34) hx hb dX0_wrong_27 (by decide) (fun c27 => ?_) (fun c27 => ?_)
          · have t27 : 0 ≤ (v22).toInt := ww_nl0 c27
            have hi27 : xh_in X (xf_holeOf X k) := xf_holeOf_q (xv_W hW) (by rw [← e22]; exact c27)
            refine lv_iconst (v := 4) hx hb dX0_wrong_34 (by decide) ?_
            refine xl_aload_n hx hb dX0_wrong_35 rfl (lv_at hl 0 rfl) ?_
            refine xl_top (show xh_in X v22 from by rw [e22]; exact hi27).1.1 ?_
            refine xb_getN hx hb hts hown hK hW (show xh_in X v22 from by rw [e22]; exact hi27).1 (k := 3) (xf_hole (show xh_in X v22 from by rw [e22]; exact hi27).2 (k := 3) (by decide)) (hN.nf q522) rfl (xb_vi (f := 61) (xf_hole (show xh_in X v22 from by rw [e22]; exact hi27).2 (k := 3) (by decide)) (by decide)) dX0_wrong_36 ?_
            refine nv_imul hx hb dX0_wrong_39 (fun v39 e39 => ?_)
            exact J40 _ (by subst e22 e39; simp only [if_neg c17, if_neg c27, xf_wc])
          · have t27 : (v22).toInt < 0 := ww_l0 c27
            refine lv_iconst (v := 0) hx hb dX0_wrong_30 (by decide) ?_
            refine lv_goto (tgt := 40) hx hb dX0_wrong_31 (by decide) ?_
            exact J40 _ (by subst e22; simp only [if_neg c17, if_pos c27, xf_wc])
    exact L12 121 0 H locs (by have := (xv_W hW).2; show _ - 0 < _; omega) (by decide) (xv_W hW).1 (by subst e2; simp only [xf_wrong, if_neg c5]) hW hS ls (lv_sub hl [0, 1, 2] rfl)
  · skip
    refine lv_iconst (v := (-1)) hx hb dX0_wrong_8 (by decide) ?_
    refine xw_iret hx hb hr hlocks hW hS ?_ dX0_wrong_9
    have hres : xf_wrong X m = (-1) := by subst e2; simp only [xf_wrong, if_pos c5]
    exact ⟨by rw [hres], rfl, rfl⟩

set_option maxHeartbeats 4000000 in
theorem xc_known (lQ : Launch) (G : wm_G) (o d0 : Nat) (X : mm_S) (E : mm_E) (D : xg) (w : Int32) (hM : xv_M X) (hO : xv_O X) (hT : xv_T X) : xw_Met lQ G o d0 yX0_known (ws_ yX0_known cX0_known 9 (some .int)) 5 X E D [Value.ref o, .int w] (some (.int (xf_known X w))) X E := by
  refine xw_start (own := RX0) (by decide +kernel) (Nat.le_of_ble_eq_true rfl) rfl (fun pQ eQ sQ mQ belowQ methQ cQ hx hb hml hr hlocks hts hown hK hN H hW hS ls hl => ?_)
  have hl : lv_has ls 9 [(0, .ref o), (1, .int w)] := hl
  generalize hlc : ([] : List Loc) = locs at hS ⊢
  refine lv_iload_n hx hb dX0_known_0 rfl (lv_at hl 1 rfl) ?_
  refine lv_i2l (v := (w).toInt64) hx hb dX0_known_1 rfl ?_
  refine lv_lconst (v := 0) hx hb dX0_known_2 (by decide) ?_
  refine lv_ldc2 (v := 5) hx hb hown (hts _ q515) dX0_known_3 ?_
  refine xx_within (rest := []) w 0 5 ⟨hx, hb, hml, hown, hts⟩ rfl (by decide) (by decide) q459 hl.1 rfl rfl (Nat.le_of_ble_eq_true rfl) rfl rfl ⟨Nat.le_of_ble_eq_true rfl, Nat.le_of_ble_eq_true rfl⟩ dX0_known_6 (fun v6 e6 => ?_)
  refine lv_if_ne (tgt := 14) hx hb dX0_known_9 (by decide) (fun c9 => ?_) (fun c9 => ?_)
  · skip
    refine lv_bipush (v := 32) hx hb dX0_known_14 (by decide) ?_
    refine lv_istore_n (lv' := [(2, .int 32), (0, .ref o), (1, .int w)]) hx hb dX0_known_16 rfl hl (by decide) rfl (fun ls hl => ?_)
    refine lv_iconst (v := (-1)) hx hb dX0_known_17 (by decide) ?_
    refine lv_istore_n (lv' := [(3, .int (-1)), (2, .int 32), (0, .ref o), (1, .int w)]) hx hb dX0_known_18 rfl hl (by decide) rfl (fun ls hl => ?_)
    refine lv_bipush (v := 61) hx hb dX0_known_19 (by decide) ?_
    refine lv_istore (lv' := [(4, .int 61), (3, .int (-1)), (2, .int 32), (0, .ref o), (1, .int w)]) hx hb dX0_known_21 hl (by decide) rfl (fun ls hl => ?_)
    refine lv_iconst (v := (-1)) hx hb dX0_known_23 (by decide) ?_
    refine lv_istore (lv' := [(5, .int (-1)), (4, .int 61), (3, .int (-1)), (2, .int 32), (0, .ref o), (1, .int w)]) hx hb dX0_known_24 hl (by decide) rfl (fun ls hl => ?_)
    refine lv_iconst (v := (-1)) hx hb dX0_known_26 (by decide) ?_
    refine lv_istore (lv' := [(6, .int (-1)), (5, .int (-1)), (4, .int 61), (3, .int (-1)), (2, .int 32), (0, .ref o), (1, .int w)]) hx hb dX0_known_27 hl (by decide) rfl (fun ls hl => ?_)
    refine lv_bipush (v := 32) hx hb dX0_known_29 (by decide) ?_
    refine lv_istore (lv' := [(7, .int 32), (6, .int (-1)), (5, .int (-1)), (4, .int 61), (3, .int (-1)), (2, .int 32), (0, .ref o), (1, .int w)]) hx hb dX0_known_31 hl (by decide) rfl (fun ls hl => ?_)
    refine lv_iconst (v := 0) hx hb dX0_known_33 (by decide) ?_
    refine lv_istore (lv' := [(8, .int 0), (7, .int 32), (6, .int (-1)), (5, .int (-1)), (4, .int 61), (3, .int (-1)), (2, .int 32), (0, .ref o), (1, .int w)]) hx hb dX0_known_34 hl (by decide) rfl (fun ls hl => ?_)
    have L36 : ∀ (fu36 : Nat) (a : Int32) (b : Int32) (c : Int32) (d : Int32) (f : Int32) (t : Int32) (m : Int32) (H : Heap) (locs : List Loc), ((fd_ X 18).toInt - m.toInt < fu36) → (0 ≤ m.toInt) → (m.toInt ≤ (fd_ X 18).toInt) → (xf_kn_go fu36 X w a b c d f t m = xf_known X w) → xx_W G o d0 X E D H → va_S (xx_F o d0) sQ.heap H locs → ∀ ls : Array Slot, lv_has ls 9 [(8, .int m), (7, .int t), (6, .int f), (5, .int d), (4, .int c), (3, .int b), (2, .int a), (0, .ref o), (1, .int w)] → W pQ lQ eQ (wm_rm 5) sQ mQ ([Value.ref o, .int w] : List Value).toArray belowQ methQ cQ H locs 0 0 (MQ belowQ (wm_Q (fun vQ HQ => vQ = some (.int (xf_known X w)) ∧ xx_W G o d0 X E D HQ) (xx_F o d0)) ([Value.ref o, .int w] : List Value).toArray sQ 0 0 (xx_F o d0)) (F0 mQ 36 ls []) := by
      intro fu36
      induction fu36 with
      | zero =>
        intro a b c d f t m H locs hm36 i036 i136 hgo36 hW hS ls hl
        exact absurd hm36 (by omega)
      | succ fu36 ih36 =>
        intro a b c d f t m H locs hm36 i036 i136 hgo36 hW hS ls hl
        have qm := hM.2
        refine lv_iload hx hb dX0_known_36 (lv_at hl 0 rfl) ?_
        refine lv_aload_n hx hb dX0_known_38 rfl (lv_at hl 7 rfl) ?_
        refine xx_geti hx hb hts hown hK hW 18 rfl rfl (by decide) (by decide) q288 dX0_known_39 ?_
        refine lv_icmp_ge (tgt := 145) hx hb dX0_known_42 (by decide) (fun c42 => ?_) (fun c42 => ?_)
        · have t42 : ((fd_ X 18)).toInt ≤ (m).toInt := ww_le c42
          refine lv_iload_n hx hb dX0_known_145 rfl (lv_at hl 5 rfl) ?_
          refine lv_iconst (v := (-1)) hx hb dX0_known_146 (by decide) ?_
          refine lv_icmp_eq (tgt := 169) hx hb dX0_known_147 (by decide) (fun c147 => ?_) (fun c147 => ?_)
          · skip
            refine lv_bipush (v := (-2)) hx hb dX0_known_169 (by decide) ?_
            refine xw_iret hx hb hr hlocks hW hS ?_ dX0_known_171
            have hres : xf_known X w = (-2) := by rw [← hgo36]; simp only [xf_kn_go, xf_kn_ret, xf_kn_fin, if_pos c42, if_pos c147]
            exact ⟨by rw [hres], rfl, rfl⟩
          · skip
            refine lv_iload_n hx hb dX0_known_150 rfl (lv_at hl 8 rfl) ?_
            refine lv_iconst (v := 3) hx hb dX0_known_151 (by decide) ?_
            refine lv_icmp_le (tgt := 172) hx hb dX0_known_152 (by decide) (fun c152 => ?_) (fun c152 => ?_)
            · have t152 : (w).toInt ≤ 3 := ww_le c152
              refine lv_iload_n hx hb dX0_known_172 rfl (lv_at hl 8 rfl) ?_
              by_cases k173_0 : w = 0
              · skip
                refine lv_tableIn (off := 35) (tgt := 208) hx hb dX0_known_173 (by rw [k173_0]; decide) (by rw [k173_0]; decide) (by rw [k173_0]; rfl) (by decide) ?_
                refine lv_iload_n hx hb dX0_known_208 rfl (lv_at hl 6 rfl) ?_
                refine xw_iret hx hb hr hlocks hW hS ?_ dX0_known_209
                have hres : xf_known X w = a := by rw [← hgo36]; simp only [xf_kn_go, xf_kn_ret, xf_kn_fin, if_pos c42, if_neg c147, if_pos c152, if_pos k173_0]
                exact ⟨by rw [hres], rfl, rfl⟩
              · skip
                by_cases k173_1 : w = 1
                · skip
                  refine lv_tableIn (off := 37) (tgt := 210) hx hb dX0_known_173 (by rw [k173_1]; decide) (by rw [k173_1]; decide) (by rw [k173_1]; rfl) (by decide) ?_
                  refine lv_iload_n hx hb dX0_known_210 rfl (lv_at hl 5 rfl) ?_
                  refine xw_iret hx hb hr hlocks hW hS ?_ dX0_known_211
                  have hres : xf_known X w = b := by rw [← hgo36]; simp only [xf_kn_go, xf_kn_ret, xf_kn_fin, if_pos c42, if_neg c147, if_pos c152, if_neg k173_0, if_pos k173_1]
                  exact ⟨by rw [hres], rfl, rfl⟩
                · skip
                  by_cases k173_2 : w = 2
                  · skip
                    refine lv_tableIn (off := 39) (tgt := 212) hx hb dX0_known_173 (by rw [k173_2]; decide) (by rw [k173_2]; decide) (by rw [k173_2]; rfl) (by decide) ?_
                    refine lv_iload hx hb dX0_known_212 (lv_at hl 4 rfl) ?_
                    refine xw_iret hx hb hr hlocks hW hS ?_ dX0_known_214
                    have hres : xf_known X w = c := by rw [← hgo36]; simp only [xf_kn_go, xf_kn_ret, xf_kn_fin, if_pos c42, if_neg c147, if_pos c152, if_neg k173_0, if_neg k173_1, if_pos k173_2]
                    exact ⟨by rw [hres], rfl, rfl⟩
                  · skip
                    by_cases k173_3 : w = 3
                    · skip
                      refine lv_tableIn (off := 42) (tgt := 215) hx hb dX0_known_173 (by rw [k173_3]; decide) (by rw [k173_3]; decide) (by rw [k173_3]; rfl) (by decide) ?_
                      refine lv_iload hx hb dX0_known_215 (lv_at hl 3 rfl) ?_
                      refine xw_iret hx hb hr hlocks hW hS ?_ dX0_known_217
                      have hres : xf_known X w = d := by rw [← hgo36]; simp only [xf_kn_go, xf_kn_ret, xf_kn_fin, if_pos c42, if_neg c147, if_pos c152, if_neg k173_0, if_neg k173_1, if_neg k173_2, if_pos k173_3]
                      exact ⟨by rw [hres], rfl, rfl⟩
                    · skip
                      by_cases k173_4 : w = 4
                      · skip
                        refine lv_tableIn (off := 45) (tgt := 218) hx hb dX0_known_173 (by rw [k173_4]; decide) (by rw [k173_4]; decide) (by rw [k173_4]; rfl) (by decide) ?_
                        refine lv_iload hx hb dX0_known_218 (lv_at hl 2 rfl) ?_
                        refine xw_iret hx hb hr hlocks hW hS ?_ dX0_known_220
                        have hres : xf_known X w = f := by rw [← hgo36]; simp only [xf_kn_go, xf_kn_ret, xf_kn_fin, if_pos c42, if_neg c147, if_pos c152, if_neg k173_0, if_neg k173_1, if_neg k173_2, if_neg k173_3, if_pos k173_4]
                        exact ⟨by rw [hres], rfl, rfl⟩
                      · skip
                        refine lv_tableOut (tgt := 221) hx hb dX0_known_173 (by have hk173_0 : (w).toInt ≠ 0 := ww_ne k173_0; have hk173_1 : (w).toInt ≠ 1 := ww_ne k173_1; have hk173_2 : (w).toInt ≠ 2 := ww_ne k173_2; have hk173_3 : (w).toInt ≠ 3 := ww_ne k173_3; have hk173_4 : (w).toInt ≠ 4 := ww_ne k173_4; omega) (by decide) ?_
                        refine lv_iload hx hb dX0_known_221 (lv_at hl 1 rfl) ?_
                        refine xw_iret hx hb hr hlocks hW hS ?_ dX0_known_223
                        have hres : xf_known X w = t := by rw [← hgo36]; simp only [xf_kn_go, xf_kn_ret, xf_kn_fin, if_pos c42, if_neg c147, if_pos c152, if_neg k173_0, if_neg k173_1, if_neg k173_2, if_neg k173_3, if_neg k173_4]
                        exact ⟨by rw [hres], rfl, rfl⟩
            · have t152 : 3 < (w).toInt := ww_nle c152
              refine lv_iload hx hb dX0_known_155 (lv_at hl 2 rfl) ?_
              refine lv_iload hx hb dX0_known_157 (lv_at hl 1 rfl) ?_
              refine lv_icmp_gt (tgt := 169) hx hb dX0_known_159 (by decide) (fun c159 => ?_) (fun c159 => ?_)
              · have t159 : (t).toInt < (f).toInt := ww_lt c159
                refine lv_bipush (v := (-2)) hx hb dX0_known_169 (by decide) ?_
                refine xw_iret hx hb hr hlocks hW hS ?_ dX0_known_171
                have hres : xf_known X w = (-2) := by rw [← hgo36]; simp only [xf_kn_go, xf_kn_ret, xf_kn_fin, if_pos c42, if_neg c147, if_neg c152, if_pos c159]
                exact ⟨by rw [hres], rfl, rfl⟩
              · have t159 : (f).toInt ≤ (t).toInt := ww_nlt c159
                refine lv_iload hx hb dX0_known_162 (lv_at hl 4 rfl) ?_
                refine lv_iload hx hb dX0_known_164 (lv_at hl 3 rfl) ?_
                refine lv_icmp_eq (tgt := 172) hx hb dX0_known_166 (by decide) (fun c166 => ?_) (fun c166 => ?_)
                · skip
                  refine lv_iload_n hx hb dX0_known_172 rfl (lv_at hl 8 rfl) ?_
                  by_cases k173_0 : w = 0
                  · skip
                    refine lv_tableIn (off := 35) (tgt := 208) hx hb dX0_known_173 (by rw [k173_0]; decide) (by rw [k173_0]; decide) (by rw [k173_0]; rfl) (by decide) ?_
                    refine lv_iload_n hx hb dX0_known_208 rfl (lv_at hl 6 rfl) ?_
                    refine xw_iret hx hb hr hlocks hW hS ?_ dX0_known_209
                    have hres : xf_known X w = a := by rw [← hgo36]; simp only [xf_kn_go, xf_kn_ret, xf_kn_fin, if_pos c42, if_neg c147, if_neg c152, if_neg c159, if_pos c166, if_pos k173_0]
                    exact ⟨by rw [hres], rfl, rfl⟩
                  · skip
                    by_cases k173_1 : w = 1
                    · skip
                      refine lv_tableIn (off := 37) (tgt := 210) hx hb dX0_known_173 (by rw [k173_1]; decide) (by rw [k173_1]; decide) (by rw [k173_1]; rfl) (by decide) ?_
                      refine lv_iload_n hx hb dX0_known_210 rfl (lv_at hl 5 rfl) ?_
                      refine xw_iret hx hb hr hlocks hW hS ?_ dX0_known_211
                      have hres : xf_known X w = b := by rw [← hgo36]; simp only [xf_kn_go, xf_kn_ret, xf_kn_fin, if_pos c42, if_neg c147, if_neg c152, if_neg c159, if_pos c166, if_neg k173_0, if_pos k173_1]
                      exact ⟨by rw [hres], rfl, rfl⟩
                    · skip
                      by_cases k173_2 : w = 2
                      · skip
                        refine lv_tableIn (off := 39) (tgt := 212) hx hb dX0_known_173 (by rw [k173_2]; decide) (by rw [k173_2]; decide) (by rw [k173_2]; rfl) (by decide) ?_
                        refine lv_iload hx hb dX0_known_212 (lv_at hl 4 rfl) ?_
                        refine xw_iret hx hb hr hlocks hW hS ?_ dX0_known_214
                        have hres : xf_known X w = c := by rw [← hgo36]; simp only [xf_kn_go, xf_kn_ret, xf_kn_fin, if_pos c42, if_neg c147, if_neg c152, if_neg c159, if_pos c166, if_neg k173_0, if_neg k173_1, if_pos k173_2]
                        exact ⟨by rw [hres], rfl, rfl⟩
                      · skip
                        by_cases k173_3 : w = 3
                        · skip
                          refine lv_tableIn (off := 42) (tgt := 215) hx hb dX0_known_173 (by rw [k173_3]; decide) (by rw [k173_3]; decide) (by rw [k173_3]; rfl) (by decide) ?_
                          refine lv_iload hx hb dX0_known_215 (lv_at hl 3 rfl) ?_
                          refine xw_iret hx hb hr hlocks hW hS ?_ dX0_known_217
                          have hres : xf_known X w = d := by rw [← hgo36]; simp only [xf_kn_go, xf_kn_ret, xf_kn_fin, if_pos c42, if_neg c147, if_neg c152, if_neg c159, if_pos c166, if_neg k173_0, if_neg k173_1, if_neg k173_2, if_pos k173_3]
                          exact ⟨by rw [hres], rfl, rfl⟩
                        · skip
                          by_cases k173_4 : w = 4
                          · skip
                            refine lv_tableIn (off := 45) (tgt := 218) hx hb dX0_known_173 (by rw [k173_4]; decide) (by rw [k173_4]; decide) (by rw [k173_4]; rfl) (by decide) ?_
                            refine lv_iload hx hb dX0_known_218 (lv_at hl 2 rfl) ?_
                            refine xw_iret hx hb hr hlocks hW hS ?_ dX0_known_220
                            have hres : xf_known X w = f := by rw [← hgo36]; simp only [xf_kn_go, xf_kn_ret, xf_kn_fin, if_pos c42, if_neg c147, if_neg c152, if_neg c159, if_pos c166, if_neg k173_0, if_neg k173_1, if_neg k173_2, if_neg k173_3, if_pos k173_4]
                            exact ⟨by rw [hres], rfl, rfl⟩
                          · skip
                            refine lv_tableOut (tgt := 221) hx hb dX0_known_173 (by have hk173_0 : (w).toInt ≠ 0 := ww_ne k173_0; have hk173_1 : (w).toInt ≠ 1 := ww_ne k173_1; have hk173_2 : (w).toInt ≠ 2 := ww_ne k173_2; have hk173_3 : (w).toInt ≠ 3 := ww_ne k173_3; have hk173_4 : (w).toInt ≠ 4 := ww_ne k173_4; omega) (by decide) ?_
                            refine lv_iload hx hb dX0_known_221 (lv_at hl 1 rfl) ?_
                            refine xw_iret hx hb hr hlocks hW hS ?_ dX0_known_223
                            have hres : xf_known X w = t := by rw [← hgo36]; simp only [xf_kn_go, xf_kn_ret, xf_kn_fin, if_pos c42, if_neg c147, if_neg c152, if_neg c159, if_pos c166, if_neg k173_0, if_neg k173_1, if_neg k173_2, if_neg k173_3, if_neg k173_4]
                            exact ⟨by rw [hres], rfl, rfl⟩
                · skip
                  refine lv_bipush (v := (-2)) hx hb dX0_known_169 (by decide) ?_
                  refine xw_iret hx hb hr hlocks hW hS ?_ dX0_known_171
                  have hres : xf_known X w = (-2) := by rw [← hgo36]; simp only [xf_kn_go, xf_kn_ret, xf_kn_fin, if_pos c42, if_neg c147, if_neg c152, if_neg c159, if_neg c166]
                  exact ⟨by rw [hres], rfl, rfl⟩
        · have t42 : (m).toInt < ((fd_ X 18)).toInt := ww_nle c42
          refine lv_aload_n hx hb dX0_known_45 rfl (lv_at hl 7 rfl) ?_
          refine lv_iload hx hb dX0_known_46 (lv_at hl 0 rfl) ?_
          refine xw_p (xw_rV (As := [.int m]) (rest := []) (n := 1) ⟨hx, hb, hml, hown, hts⟩ hK hN hW (xc_wrong lQ G o d0 X E D m hM hO hT) (lw_V q907 q892 q893 q84 q894) (xr_main hK hW) (by decide +kernel) rfl ⟨Nat.le_of_ble_eq_true rfl, Nat.le_of_ble_eq_true rfl⟩ hl.1 rfl (Nat.le_of_ble_eq_true rfl) dX0_known_48 ⟨Nat.le_of_ble_eq_true rfl, Nat.le_of_ble_eq_true rfl⟩) hS (fun v48 H locs e48 hW hS => ?_)
          refine lv_bipush (v := (-2)) hx hb dX0_known_51 (by decide) ?_
          refine lv_icmp_eq (tgt := 59) hx hb dX0_known_53 (by decide) (fun c53 => ?_) (fun c53 => ?_)
          · skip
            refine lv_iload_n hx hb dX0_known_59 rfl (lv_at hl 6 rfl) ?_
            refine lv_aload_n hx hb dX0_known_60 rfl (lv_at hl 7 rfl) ?_
            refine xx_geta hx hb hts hown hK hW 13 rfl q283 dX0_known_61 ?_
            refine lv_iload hx hb dX0_known_64 (lv_at hl 0 rfl) ?_
            refine xx_iald hx hb hK hW 13 rfl (ww_in (by omega) (by omega)) dX0_known_66 ?_
            refine pp_calli (As := [.int a, .int (rd_ X 13 m)]) (rest := []) (n := 2) ⟨hx, hb, hml, hown, hts⟩ (xc_min lQ a (rd_ X 13 m)) (lw_S q863 q864 q101 q865) (by decide +kernel) rfl ⟨Nat.le_of_ble_eq_true rfl, Nat.le_of_ble_eq_true rfl⟩ hl.1 rfl (Nat.le_of_ble_eq_true rfl) dX0_known_67 ⟨Nat.le_of_ble_eq_true rfl, Nat.le_of_ble_eq_true rfl⟩ (fun v67 e67 => ?_)
            refine lv_istore_n (lv' := [(2, .int v67), (8, .int m), (7, .int t), (6, .int f), (5, .int d), (4, .int c), (3, .int b), (0, .ref o), (1, .int w)]) hx hb dX0_known_70 rfl hl (by decide) rfl (fun ls hl => ?_)
            refine lv_iload_n hx hb dX0_known_71 rfl (lv_at hl 6 rfl) ?_
            refine lv_aload_n hx hb dX0_known_72 rfl (lv_at hl 7 rfl) ?_
            refine xx_geta hx hb hts hown hK hW 14 rfl q284 dX0_known_73 ?_
            refine lv_iload hx hb dX0_known_76 (lv_at hl 1 rfl) ?_
            refine xx_iald hx hb hK hW 14 rfl (ww_in (by omega) (by omega)) dX0_known_78 ?_
            refine pp_calli (As := [.int b, .int (rd_ X 14 m)]) (rest := []) (n := 2) ⟨hx, hb, hml, hown, hts⟩ (xc_max lQ b (rd_ X 14 m)) (lw_S q866 q867 q101 q868) (by decide +kernel) rfl ⟨Nat.le_of_ble_eq_true rfl, Nat.le_of_ble_eq_true rfl⟩ hl.1 rfl (Nat.le_of_ble_eq_true rfl) dX0_known_79 ⟨Nat.le_of_ble_eq_true rfl, Nat.le_of_ble_eq_true rfl⟩ (fun v79 e79 => ?_)
            refine lv_istore_n (lv' := [(3, .int v79), (2, .int v67), (8, .int m), (7, .int t), (6, .int f), (5, .int d), (4, .int c), (0, .ref o), (1, .int w)]) hx hb dX0_known_82 rfl hl (by decide) rfl (fun ls hl => ?_)
            refine lv_iload hx hb dX0_known_83 (lv_at hl 6 rfl) ?_
            refine lv_aload_n hx hb dX0_known_85 rfl (lv_at hl 7 rfl) ?_
            refine xx_geta hx hb hts hown hK hW 15 rfl q285 dX0_known_86 ?_
            refine lv_iload hx hb dX0_known_89 (lv_at hl 2 rfl) ?_
            refine xx_iald hx hb hK hW 15 rfl (ww_in (by omega) (by omega)) dX0_known_91 ?_
            refine pp_calli (As := [.int c, .int (rd_ X 15 m)]) (rest := []) (n := 2) ⟨hx, hb, hml, hown, hts⟩ (xc_min lQ c (rd_ X 15 m)) (lw_S q863 q864 q101 q865) (by decide +kernel) rfl ⟨Nat.le_of_ble_eq_true rfl, Nat.le_of_ble_eq_true rfl⟩ hl.1 rfl (Nat.le_of_ble_eq_true rfl) dX0_known_92 ⟨Nat.le_of_ble_eq_true rfl, Nat.le_of_ble_eq_true rfl⟩ (fun v92 e92 => ?_)
            refine lv_istore (lv' := [(4, .int v92), (3, .int v79), (2, .int v67), (8, .int m), (7, .int t), (6, .int f), (5, .int d), (0, .ref o), (1, .int w)]) hx hb dX0_known_95 hl (by decide) rfl (fun ls hl => ?_)
            refine lv_iload hx hb dX0_known_97 (lv_at hl 6 rfl) ?_
            refine lv_aload_n hx hb dX0_known_99 rfl (lv_at hl 7 rfl) ?_
            refine xx_geta hx hb hts hown hK hW 15 rfl q285 dX0_known_100 ?_
            refine lv_iload hx hb dX0_known_103 (lv_at hl 3 rfl) ?_
            refine xx_iald hx hb hK hW 15 rfl (ww_in (by omega) (by omega)) dX0_known_105 ?_
            refine pp_calli (As := [.int d, .int (rd_ X 15 m)]) (rest := []) (n := 2) ⟨hx, hb, hml, hown, hts⟩ (xc_max lQ d (rd_ X 15 m)) (lw_S q866 q867 q101 q868) (by decide +kernel) rfl ⟨Nat.le_of_ble_eq_true rfl, Nat.le_of_ble_eq_true rfl⟩ hl.1 rfl (Nat.le_of_ble_eq_true rfl) dX0_known_106 ⟨Nat.le_of_ble_eq_true rfl, Nat.le_of_ble_eq_true rfl⟩ (fun v106 e106 => ?_)
            refine lv_istore (lv' := [(5, .int v106), (4, .int v92), (3, .int v79), (2, .int v67), (8, .int m), (7, .int t), (6, .int f), (0, .ref o), (1, .int w)]) hx hb dX0_known_109 hl (by decide) rfl (fun ls hl => ?_)
            refine lv_iload hx hb dX0_known_111 (lv_at hl 6 rfl) ?_
            refine lv_aload_n hx hb dX0_known_113 rfl (lv_at hl 7 rfl) ?_
            refine xx_geta hx hb hts hown hK hW 13 rfl q283 dX0_known_114 ?_
            refine lv_iload hx hb dX0_known_117 (lv_at hl 4 rfl) ?_
            refine xx_iald hx hb hK hW 13 rfl (ww_in (by omega) (by omega)) dX0_known_119 ?_
            refine pp_calli (As := [.int f, .int (rd_ X 13 m)]) (rest := []) (n := 2) ⟨hx, hb, hml, hown, hts⟩ (xc_max lQ f (rd_ X 13 m)) (lw_S q866 q867 q101 q868) (by decide +kernel) rfl ⟨Nat.le_of_ble_eq_true rfl, Nat.le_of_ble_eq_true rfl⟩ hl.1 rfl (Nat.le_of_ble_eq_true rfl) dX0_known_120 ⟨Nat.le_of_ble_eq_true rfl, Nat.le_of_ble_eq_true rfl⟩ (fun v120 e120 => ?_)
            refine lv_istore (lv' := [(6, .int v120), (5, .int v106), (4, .int v92), (3, .int v79), (2, .int v67), (8, .int m), (7, .int t), (0, .ref o), (1, .int w)]) hx hb dX0_known_123 hl (by decide) rfl (fun ls hl => ?_)
            refine lv_iload hx hb dX0_known_125 (lv_at hl 6 rfl) ?_
            refine lv_aload_n hx hb dX0_known_127 rfl (lv_at hl 7 rfl) ?_
            refine xx_geta hx hb hts hown hK hW 14 rfl q284 dX0_known_128 ?_
            refine lv_iload hx hb dX0_known_131 (lv_at hl 5 rfl) ?_
            refine xx_iald hx hb hK hW 14 rfl (ww_in (by omega) (by omega)) dX0_known_133 ?_
            refine pp_calli (As := [.int t, .int (rd_ X 14 m)]) (rest := []) (n := 2) ⟨hx, hb, hml, hown, hts⟩ (xc_min lQ t (rd_ X 14 m)) (lw_S q863 q864 q101 q865) (by decide +kernel) rfl ⟨Nat.le_of_ble_eq_true rfl, Nat.le_of_ble_eq_true rfl⟩ hl.1 rfl (Nat.le_of_ble_eq_true rfl) dX0_known_134 ⟨Nat.le_of_ble_eq_true rfl, Nat.le_of_ble_eq_true rfl⟩ (fun v134 e134 => ?_)
            refine lv_istore (lv' := [(7, .int v134), (6, .int v120), (5, .int v106), (4, .int v92), (3, .int v79), (2, .int v67), (8, .int m), (0, .ref o), (1, .int w)]) hx hb dX0_known_137 hl (by decide) rfl (fun ls hl => ?_)
            obtain ⟨v139, e139⟩ : ∃ yQ : Int32, yQ = m + 1 := ⟨_, rfl⟩
            refine lv_iinc (v := v139) (lv' := [(8, .int v139), (7, .int v134), (6, .int v120), (5, .int v106), (4, .int v92), (3, .int v79), (2, .int v67), (0, .ref o), (1, .int w)]) hx hb dX0_known_139 hl (k := 6) rfl (by rw [e139]; rfl) (by decide) rfl (fun ls hl => ?_)
            refine lv_goto (tgt := 36) hx hb dX0_known_142 (by decide) ?_
            have tb : v139.toInt = m.toInt + 1 := by rw [e139]; exact ww_inc t42
            exact ih36 v67 v79 v92 v106 v120 v134 v139 H locs (by omega) (by omega) (by omega) (by subst e48 e67 e79 e92 e106 e120 e134 e139; simp only [xf_kn_go, xf_kn_ret, xf_kn_fin, if_neg c42, if_pos c53] at hgo36; exact hgo36) hW hS ls (lv_sub hl [0, 1, 2, 3, 4, 5, 6, 7, 8] rfl)
          · skip
            refine lv_goto (tgt := 139) hx hb dX0_known_56 (by decide) ?_
            obtain ⟨v139, e139⟩ : ∃ yQ : Int32, yQ = m + 1 := ⟨_, rfl⟩
            refine lv_iinc (v := v139) (lv' := [(8, .int v139), (7, .int t), (6, .int f), (5, .int d), (4, .int c), (3, .int b), (2, .int a), (0, .ref o), (1, .int w)]) hx hb dX0_known_139 hl (k := 0) rfl (by rw [e139]; rfl) (by decide) rfl (fun ls hl => ?_)
            refine lv_goto (tgt := 36) hx hb dX0_known_142 (by decide) ?_
            have tb : v139.toInt = m.toInt + 1 := by rw [e139]; exact ww_inc t42
            exact ih36 a b c d f t v139 H locs (by omega) (by omega) (by omega) (by subst e48 e139; simp only [xf_kn_go, xf_kn_ret, xf_kn_fin, if_neg c42, if_neg c53] at hgo36; exact hgo36) hW hS ls (lv_sub hl [0, 1, 2, 3, 4, 5, 6, 7, 8] rfl)
    exact L36 9 32 (-1) 61 (-1) (-1) 32 0 H locs (by have := hM.2; show _ - 0 < _; omega) (by decide) hM.1 (by subst e6; simp only [xf_known, if_neg c9]) hW hS ls (lv_sub hl [0, 1, 2, 3, 4, 5, 6, 7, 8] rfl)
  · skip
    refine lv_iconst (v := (-1)) hx hb dX0_known_12 (by decide) ?_
    refine xw_iret hx hb hr hlocks hW hS ?_ dX0_known_13
    have hres : xf_known X w = (-1) := by subst e6; simp only [xf_known, if_pos c9]
    exact ⟨by rw [hres], rfl, rfl⟩

set_option maxHeartbeats 4000000 in
theorem xc_bore (lQ : Launch) (G : wm_G) (o d0 : Nat) (X : mm_S) (E : mm_E) (D : xg) (b : Int32) (hi : xh_in X b) (sp : Int32) (hT : xv_T X) (hJ : xj_s X) : xw_Met lQ G o d0 yX8_bore (ws_ yX8_bore cX8_bore 6 none) 2 X E D [Value.ref (xb_ D b), .int sp] (none) (xf_bore 62 X b sp) E := by
  refine xw_start (own := RX8) (by decide +kernel) (Nat.le_of_ble_eq_true rfl) rfl (fun pQ eQ sQ mQ belowQ methQ cQ hx hb hml hr hlocks hts hown hK hN H hW hS ls hl => ?_)
  have hl : lv_has ls 6 [(0, .ref (xb_ D b)), (1, .int sp)] := hl
  generalize hlc : ([] : List Loc) = locs at hS ⊢
  refine lv_iconst (v := 1) hx hb dX8_bore_0 (by decide) ?_
  refine lv_istore_n (lv' := [(2, .int 1), (0, .ref (xb_ D b)), (1, .int sp)]) hx hb dX8_bore_1 rfl hl (by decide) rfl (fun ls hl => ?_)
  have L2 : ∀ (fu2 : Nat) (z : Int32) (Y0 : mm_S) (H : Heap) (locs : List Loc), ((rd_ Y0 64 b).toInt - (rd_ Y0 66 b).toInt + (if z = 0 then (0 : Int) else 1) < fu2) → (xv_T Y0) → (xj_s Y0) → (xh_in Y0 b) → ((if z = 0 then Y0 else xf_bore fu2 Y0 b sp) = xf_bore 62 X b sp) → xx_W G o d0 Y0 E D H → va_S (xx_F o d0) sQ.heap H locs → ∀ ls : Array Slot, lv_has ls 6 [(2, .int z), (0, .ref (xb_ D b)), (1, .int sp)] → W pQ lQ eQ (wm_rm 2) sQ mQ ([Value.ref (xb_ D b), .int sp] : List Value).toArray belowQ methQ cQ H locs 0 0 (MQ belowQ (wm_Q (fun vQ HQ => vQ = none ∧ xx_W G o d0 (xf_bore 62 X b sp) E D HQ) (xx_F o d0)) ([Value.ref (xb_ D b), .int sp] : List Value).toArray sQ 0 0 (xx_F o d0)) (F0 mQ 2 ls []) := by
    intro fu2
    induction fu2 with
    | zero =>
      intro z Y0 H locs hm2 iT2 iJ2 hi2 hgo2 hW hS ls hl
      obtain ⟨q1, q2, q3⟩ := iT2 b (xb_120 (xv_W hW) hi2.1).1 (xb_120 (xv_W hW) hi2.1).2
      have hz : (0 : Int) ≤ (if z = 0 then (0 : Int) else 1) := by split <;> decide
      exact absurd hm2 (by omega)
    | succ fu2 ih2 =>
      intro z Y0 H locs hm2 iT2 iJ2 hi2 hgo2 hW hS ls hl
      have hb0 := hi2.1.1
      obtain ⟨q1, q2, q3⟩ := iT2 b (xb_120 (xv_W hW) hi2.1).1 (xb_120 (xv_W hW) hi2.1).2
      refine lv_iload_n hx hb dX8_bore_2 rfl (lv_at hl 0 rfl) ?_
      refine lv_if_eq (tgt := 209) hx hb dX8_bore_3 (by decide) (fun c3 => ?_) (fun c3 => ?_)
      · skip
        refine xw_vret hx hb hr hlocks hW hS ?_ dX8_bore_209
        have hres : xf_bore 62 X b sp = Y0 := by rw [← hgo2]; simp only [xf_bore, if_pos c3]
        exact ⟨hres.symm, rfl⟩
      · skip
        refine lv_aload_n hx hb dX8_bore_6 rfl (lv_at hl 1 rfl) ?_
        refine xb_get hx hb hts hown hK hW hi2.1 (k := 8) (xf_hole hi2.2 (k := 8) (by decide)) q531 rfl (xb_vi (f := 66) (xf_hole hi2.2 (k := 8) (by decide)) (by decide)) dX8_bore_7 ?_
        refine lv_aload_n hx hb dX8_bore_10 rfl (lv_at hl 1 rfl) ?_
        refine xb_get hx hb hts hown hK hW hi2.1 (k := 6) (xf_hole hi2.2 (k := 6) (by decide)) q527 rfl (xb_vi (f := 64) (xf_hole hi2.2 (k := 6) (by decide)) (by decide)) dX8_bore_11 ?_
        refine lv_icmp_ge (tgt := 209) hx hb dX8_bore_14 (by decide) (fun c14 => ?_) (fun c14 => ?_)
        · have t14 : ((rd_ Y0 64 b)).toInt ≤ ((rd_ Y0 66 b)).toInt := ww_le c14
          refine xw_vret hx hb hr hlocks hW hS ?_ dX8_bore_209
          have hres : xf_bore 62 X b sp = Y0 := by rw [← hgo2]; simp only [xf_bore, if_neg c3, if_pos c14]
          exact ⟨hres.symm, rfl⟩
        · have t14 : ((rd_ Y0 66 b)).toInt < ((rd_ Y0 64 b)).toInt := ww_nle c14
          refine lv_aload_n hx hb dX8_bore_17 rfl (lv_at hl 1 rfl) ?_
          refine xw_p (xd_isThrough_X8 (rest := []) lQ ⟨hx, hb, hml, hown, hts⟩ hK hN hW hi2 ⟨Nat.le_of_ble_eq_true rfl, Nat.le_of_ble_eq_true rfl⟩ hl.1 rfl (Nat.le_of_ble_eq_true rfl) dX8_bore_18 ⟨Nat.le_of_ble_eq_true rfl, Nat.le_of_ble_eq_true rfl⟩) hS (fun v18 H locs e18 hW hS => ?_)
          refine lv_if_ne (tgt := 209) hx hb dX8_bore_21 (by decide) (fun c21 => ?_) (fun c21 => ?_)
          · skip
            refine xw_vret hx hb hr hlocks hW hS ?_ dX8_bore_209
            have hres : xf_bore 62 X b sp = Y0 := by rw [← hgo2]; subst e18; simp only [xf_bore, if_neg c3, if_neg c14, if_neg c21]
            exact ⟨hres.symm, rfl⟩
          · skip
            refine lv_aload_n hx hb dX8_bore_24 rfl (lv_at hl 1 rfl) ?_
            refine xb_get hx hb hts hown hK hW hi2.1 (k := 9) (xf_hole hi2.2 (k := 9) (by decide)) q533 rfl (xb_vi (f := 67) (xf_hole hi2.2 (k := 9) (by decide)) (by decide)) dX8_bore_25 ?_
            refine lv_aload_n hx hb dX8_bore_28 rfl (lv_at hl 1 rfl) ?_
            refine xb_get hx hb hts hown hK hW hi2.1 (k := 5) (xf_hole hi2.2 (k := 5) (by decide)) q525 rfl (xb_va (j := 1) (xf_hole hi2.2 (k := 5) (by decide)) (by decide)) dX8_bore_29 ?_
            refine lv_aload_n hx hb dX8_bore_32 rfl (lv_at hl 1 rfl) ?_
            refine xb_get hx hb hts hown hK hW hi2.1 (k := 8) (xf_hole hi2.2 (k := 8) (by decide)) q531 rfl (xb_vi (f := 66) (xf_hole hi2.2 (k := 8) (by decide)) (by decide)) dX8_bore_33 ?_
            refine lv_iconst (v := 1) hx hb dX8_bore_36 (by decide) ?_
            refine nv_iadd hx hb dX8_bore_37 (fun v37 e37 => ?_)
            refine xh_iald hx hb hK hW hi2 0 (by decide) 63 rfl (by have ty0 : v37.toInt = (rd_ Y0 66 b).toInt + 1 := (by rw [e37]; exact ww_inc t14); exact ww_in (by omega) (by omega)) dX8_bore_38 ?_
            refine nv_iadd hx hb dX8_bore_39 (fun v39 e39 => ?_)
            refine lv_iconst (v := 0) hx hb dX8_bore_40 (by decide) ?_
            refine lv_bipush (v := 31) hx hb dX8_bore_41 (by decide) ?_
            refine pp_calliN (As := [.int v39, .int 0, .int 31]) (rest := []) (n := 3) ⟨hx, hb, hml, hown, hts⟩ (xc_held lQ v39 0 31 (by decide)) (lw_meth q862) (hN.nm q1192) q84 q861 (by decide +kernel) rfl ⟨Nat.le_of_ble_eq_true rfl, Nat.le_of_ble_eq_true rfl⟩ hl.1 rfl (Nat.le_of_ble_eq_true rfl) dX8_bore_43 ⟨Nat.le_of_ble_eq_true rfl, Nat.le_of_ble_eq_true rfl⟩ (fun v43 e43 => ?_)
            refine lv_istore_n (lv' := [(3, .int v43), (2, .int z), (0, .ref (xb_ D b)), (1, .int sp)]) hx hb dX8_bore_46 rfl hl (by decide) rfl (fun ls hl => ?_)
            have n43 : v43 = xo_x Y0 b := by rw [e43, e39, e37]; rfl
            have tx : 0 ≤ v43.toInt ∧ v43.toInt ≤ 31 := by rw [e43]; exact ff_held_t _ (a := 0) (b := 31) (by decide)
            refine lv_aload_n hx hb dX8_bore_47 rfl (lv_at hl 2 rfl) ?_
            refine xb_get hx hb hts hown hK hW hi2.1 (k := 8) (xf_hole hi2.2 (k := 8) (by decide)) q531 rfl (xb_vi (f := 66) (xf_hole hi2.2 (k := 8) (by decide)) (by decide)) dX8_bore_48 ?_
            refine lv_iconst (v := 1) hx hb dX8_bore_51 (by decide) ?_
            refine nv_iadd hx hb dX8_bore_52 (fun v52 e52 => ?_)
            refine lv_istore (lv' := [(4, .int v52), (3, .int v43), (2, .int z), (0, .ref (xb_ D b)), (1, .int sp)]) hx hb dX8_bore_53 hl (by decide) rfl (fun ls hl => ?_)
            have n52 : v52 = xo_y Y0 b := e52
            have ty : v52.toInt = (rd_ Y0 66 b).toInt + 1 := by rw [e52]; exact ww_inc t14
            refine lv_aload_n hx hb dX8_bore_55 rfl (lv_at hl 3 rfl) ?_
            refine xb_get hx hb hts hown hK hW hi2.1 (k := 14) (xf_hole hi2.2 (k := 14) (by decide)) q543 rfl (xb_vo (xf_hole hi2.2 (k := 14) (by decide)) (by decide)) dX8_bore_56 ?_
            refine xx_getaN hx hb hts hown hK hW 2 rfl (hN.nf q269) dX8_bore_59 ?_
            refine lv_iload_n hx hb dX8_bore_62 rfl (lv_at hl 1 rfl) ?_
            refine lv_iload hx hb dX8_bore_63 (lv_at hl 0 rfl) ?_
            refine pp_calliN (As := [.int v43, .int v52]) (rest := [.ref (o + 2)]) (n := 2) ⟨hx, hb, hml, hown, hts⟩ (xc_at lQ v43 v52) (lw_meth q468) (hN.nm q1193) q84 q467 (by decide +kernel) rfl ⟨Nat.le_of_ble_eq_true rfl, Nat.le_of_ble_eq_true rfl⟩ hl.1 rfl (Nat.le_of_ble_eq_true rfl) dX8_bore_65 ⟨Nat.le_of_ble_eq_true rfl, Nat.le_of_ble_eq_true rfl⟩ (fun v65 e65 => ?_)
            have n65 : v65 = xo_c Y0 b := by rw [e65, n43, n52]; rfl
            refine xx_zald hx hb hK hW 2 rfl (by rw [e65]; exact ix_m61 tx.1 tx.2 (by omega) (by omega)) dX8_bore_68 ?_
            refine wm_join (P := fun w92 : Int32 => w92 = (if rd_ Y0 2 v65 = 0 then sp * rd_ Y0 1 v65 else 0)) (j := 92) (rest := []) (ls := ls) (fun w92 ew92 => ?_) (fun J92 => ?_)
            · skip
              refine lv_istore (lv' := [(5, .int w92), (4, .int v52), (3, .int v43), (2, .int z), (0, .ref (xb_ D b)), (1, .int sp)]) hx hb dX8_bore_92 hl (by decide) rfl (fun ls hl => ?_)
              have n92 : w92 = xo_t Y0 b sp := by rw [ew92, n65]; rfl
              refine lv_iload hx hb dX8_bore_94 (lv_at hl 0 rfl) ?_
              refine lv_aload_n hx hb dX8_bore_96 rfl (lv_at hl 4 rfl) ?_
              refine xb_get hx hb hts hown hK hW hi2.1 (k := 10) (xf_hole hi2.2 (k := 10) (by decide)) q535 rfl (xb_vi (f := 68) (xf_hole hi2.2 (k := 10) (by decide)) (by decide)) dX8_bore_97 ?_
              refine wm_join (P := fun w108 : Int32 => w108 = (if rd_ Y0 68 b < w92 then 0 else 1)) (j := 108) (rest := []) (ls := ls) (fun w108 ew108 => ?_) (fun J108 => ?_)
              · skip
                refine lv_istore_n (lv' := [(2, .int w108), (5, .int w92), (4, .int v52), (3, .int v43), (0, .ref (xb_ D b)), (1, .int sp)]) hx hb dX8_bore_108 rfl hl (by decide) rfl (fun ls hl => ?_)
                refine lv_iload_n hx hb dX8_bore_109 rfl (lv_at hl 0 rfl) ?_
                refine lv_if_ne (tgt := 116) hx hb dX8_bore_110 (by decide) (fun c110 => ?_) (fun c110 => ?_)
                · skip
                  have hge : ¬ rd_ Y0 68 b < xo_t Y0 b sp := by
                    rw [← n92]
                    exact fun q => c110 (by rw [ew108, if_pos q])
                  refine lv_aload_n hx hb dX8_bore_116 rfl (lv_at hl 4 rfl) ?_
                  refine lv_dup hx hb dX8_bore_117 rfl ?_
                  refine xb_get hx hb hts hown hK hW hi2.1 (k := 10) (xf_hole hi2.2 (k := 10) (by decide)) q535 rfl (xb_vi (f := 68) (xf_hole hi2.2 (k := 10) (by decide)) (by decide)) dX8_bore_118 ?_
                  refine lv_iload hx hb dX8_bore_121 (lv_at hl 1 rfl) ?_
                  refine nv_isub hx hb dX8_bore_123 (fun v123 e123 => ?_)
                  refine xb_put hx hb hts hown hK hW hS hi2.1 (k := 10) (f := 68) (xf_hole hi2.2 (k := 10) (by decide)) (xf_hnm _ hi2.2 10 (by decide) (by decide)) (by decide) rfl rfl rfl q535 rfl dX8_bore_124 (fun X124 H locs f124 hW hS => ?_)
                  have hi2 : xh_in X124 b := by rw [f124]; exact xh_wr hi2 (by decide) (by decide)
                  refine lv_aload_n hx hb dX8_bore_127 rfl (lv_at hl 4 rfl) ?_
                  refine lv_iload_n hx hb dX8_bore_128 rfl (lv_at hl 3 rfl) ?_
                  refine xb_put hx hb hts hown hK hW hS hi2.1 (k := 9) (f := 67) (xf_hole hi2.2 (k := 9) (by decide)) (xf_hnm _ hi2.2 9 (by decide) (by decide)) (by decide) rfl rfl rfl q533 rfl dX8_bore_129 (fun X129 H locs f129 hW hS => ?_)
                  have hi2 : xh_in X129 b := by rw [f129]; exact xh_wr hi2 (by decide) (by decide)
                  refine lv_aload_n hx hb dX8_bore_132 rfl (lv_at hl 4 rfl) ?_
                  refine lv_iload hx hb dX8_bore_133 (lv_at hl 2 rfl) ?_
                  refine xb_put hx hb hts hown hK hW hS hi2.1 (k := 8) (f := 66) (xf_hole hi2.2 (k := 8) (by decide)) (xf_hnm _ hi2.2 8 (by decide) (by decide)) (by decide) rfl rfl rfl q531 rfl dX8_bore_135 (fun X135 H locs f135 hW hS => ?_)
                  have hi2 : xh_in X135 b := by rw [f135]; exact xh_wr hi2 (by decide) (by decide)
                  have nS1 : X135 = xo_1 Y0 b sp := by rw [f135, f129, f124, e123, n92, n52, n43]; rfl
                  have jS1 : xj_s X135 := by rw [nS1]; exact xj_s_eq (xo_1_e Y0 b sp).1 (xo_1_e Y0 b sp).2 iJ2
                  refine lv_aload_n hx hb dX8_bore_138 rfl (lv_at hl 4 rfl) ?_
                  refine xb_get hx hb hts hown hK hW hi2.1 (k := 7) (xf_hole hi2.2 (k := 7) (by decide)) q529 rfl (xb_va (j := 2) (xf_hole hi2.2 (k := 7) (by decide)) (by decide)) dX8_bore_139 ?_
                  refine lv_iload hx hb dX8_bore_142 (lv_at hl 2 rfl) ?_
                  refine lv_aload_n hx hb dX8_bore_144 rfl (lv_at hl 4 rfl) ?_
                  refine xb_get hx hb hts hown hK hW hi2.1 (k := 14) (xf_hole hi2.2 (k := 14) (by decide)) q543 rfl (xb_vo (xf_hole hi2.2 (k := 14) (by decide)) (by decide)) dX8_bore_145 ?_
                  refine lv_iload_n hx hb dX8_bore_148 rfl (lv_at hl 3 rfl) ?_
                  refine lv_iload hx hb dX8_bore_149 (lv_at hl 2 rfl) ?_
                  refine xw_p (xw_rVN (As := [.int v43, .int v52]) (rest := [.int v52, .ref (xb_ D b + 2)]) (n := 2) ⟨hx, hb, hml, hown, hts⟩ hK hN hW (xc_isShelterAt lQ G o d0 X135 E D v43 v52 jS1) (lw_meth q1197) (hN.nm q1194) q84 q1196 qs27 (xr_main hK hW) (by decide +kernel) rfl ⟨Nat.le_of_ble_eq_true rfl, Nat.le_of_ble_eq_true rfl⟩ hl.1 rfl (Nat.le_of_ble_eq_true rfl) dX8_bore_151 ⟨Nat.le_of_ble_eq_true rfl, Nat.le_of_ble_eq_true rfl⟩) hS (fun v151 H locs e151 hW hS => ?_)
                  refine wm_join (P := fun w183 : Int32 => w183 = (if v151 = 0 then (if rd_ X135 2 (v43 * 61 + v52) = 0 then 0 else 1) else 2)) (j := 183) (rest := [.int v52, .ref (xb_ D b + 2)]) (ls := ls) (fun w183 ew183 => ?_) (fun J183 => ?_)
                  · skip
                    have n183 : w183 = xo_m (xo_1 Y0 b sp) (xo_x Y0 b) (xo_y Y0 b) (xo_c Y0 b) := by rw [ew183, e151, nS1, n43, n52]; rfl
                    refine xh_iast hx hb hK hW hS hi2 1 (by decide) 65 rfl (ww_in (by omega) (by omega)) dX8_bore_183 (fun X183 H locs f183 hW hS => ?_)
                    have hi2 : xh_in X183 b := by rw [f183]; exact xh_wa hi2 (by decide) (by decide)
                    have nS2 : X183 = xo_2 Y0 b sp := by rw [f183, n183, nS1, n52]; rfl
                    refine lv_aload_n hx hb dX8_bore_184 rfl (lv_at hl 4 rfl) ?_
                    refine xb_get hx hb hts hown hK hW hi2.1 (k := 7) (xf_hole hi2.2 (k := 7) (by decide)) q529 rfl (xb_va (j := 2) (xf_hole hi2.2 (k := 7) (by decide)) (by decide)) dX8_bore_185 ?_
                    refine lv_iload hx hb dX8_bore_188 (lv_at hl 2 rfl) ?_
                    refine xh_iald hx hb hK hW hi2 1 (by decide) 65 rfl (ww_in (by omega) (by omega)) dX8_bore_190 ?_
                    refine lv_iconst (v := 2) hx hb dX8_bore_191 (by decide) ?_
                    refine lv_icmp_ne (tgt := 206) hx hb dX8_bore_192 (by decide) (fun c192 => ?_) (fun c192 => ?_)
                    · skip
                      have hs3 : X183 = xo_3 Y0 b sp := by
                        unfold xo_3
                        rw [if_neg (by rw [← nS2, ← n52]; exact c192)]
                        exact nS2
                      refine lv_goto (tgt := 2) hx hb dX8_bore_206 (by decide) ?_
                      have hm := hm2
                      rw [if_neg c3] at hm
                      have h18 : xf_isThrough Y0 b = 0 := by rw [← e18]; exact c21
                      exact ih2 w108 X183 H locs (by first | (rw [if_pos c110]; omega) | (have hs := hs3; rw [if_neg c110, hs, xo_3_64, xo_3_66, if_pos rfl, xo_y_t t14]; omega)) (by first | exact iT2 | (rw [hs3]; exact xo_xv sp iT2 t14 hb0)) (by first | exact iJ2 | (rw [hs3]; exact xj_s_eq ⟨xo_3_k (by decide) (by decide) (by decide) (by decide) (by decide), xo_3_k (by decide) (by decide) (by decide) (by decide) (by decide)⟩ (xo_3_k (by decide) (by decide) (by decide) (by decide) (by decide)) iJ2)) hi2 (by first | (rw [if_pos c110]; simp only [xf_bore, if_neg c3, if_neg c14, if_pos h18, if_pos hlt] at hgo2; exact hgo2) | (rw [if_neg c110, hs3]; simp only [xf_bore, if_neg c3, if_neg c14, if_pos h18, if_neg hge] at hgo2; exact hgo2)) hW hS ls (lv_sub hl [0, 4, 5] rfl)
                    · skip
                      refine lv_aload_n hx hb dX8_bore_195 rfl (lv_at hl 4 rfl) ?_
                      refine lv_aload_n hx hb dX8_bore_196 rfl (lv_at hl 4 rfl) ?_
                      refine xb_get hx hb hts hown hK hW hi2.1 (k := 14) (xf_hole hi2.2 (k := 14) (by decide)) q543 rfl (xb_vo (xf_hole hi2.2 (k := 14) (by decide)) (by decide)) dX8_bore_197 ?_
                      refine xx_getiN hx hb hts hown hK hW 0 rfl rfl (by decide) (by decide) (hN.nf q264) dX8_bore_200 ?_
                      refine xb_put hx hb hts hown hK hW hS hi2.1 (k := 11) (f := 69) (xf_hole hi2.2 (k := 11) (by decide)) (xf_hnm _ hi2.2 11 (by decide) (by decide)) (by decide) rfl rfl rfl q537 rfl dX8_bore_203 (fun X203 H locs f203 hW hS => ?_)
                      have hi2 : xh_in X203 b := by rw [f203]; exact xh_wr hi2 (by decide) (by decide)
                      have hs3 : X203 = xo_3 Y0 b sp := by
                        unfold xo_3
                        rw [if_pos (by rw [← nS2, ← n52]; exact c192), ← nS2]
                        exact f203
                      refine lv_goto (tgt := 2) hx hb dX8_bore_206 (by decide) ?_
                      have hm := hm2
                      rw [if_neg c3] at hm
                      have h18 : xf_isThrough Y0 b = 0 := by rw [← e18]; exact c21
                      exact ih2 w108 X203 H locs (by first | (rw [if_pos c110]; omega) | (have hs := hs3; rw [if_neg c110, hs, xo_3_64, xo_3_66, if_pos rfl, xo_y_t t14]; omega)) (by first | exact iT2 | (rw [hs3]; exact xo_xv sp iT2 t14 hb0)) (by first | exact iJ2 | (rw [hs3]; exact xj_s_eq ⟨xo_3_k (by decide) (by decide) (by decide) (by decide) (by decide), xo_3_k (by decide) (by decide) (by decide) (by decide) (by decide)⟩ (xo_3_k (by decide) (by decide) (by decide) (by decide) (by decide)) iJ2)) hi2 (by first | (rw [if_pos c110]; simp only [xf_bore, if_neg c3, if_neg c14, if_pos h18, if_pos hlt] at hgo2; exact hgo2) | (rw [if_neg c110, hs3]; simp only [xf_bore, if_neg c3, if_neg c14, if_pos h18, if_neg hge] at hgo2; exact hgo2)) hW hS ls (lv_sub hl [0, 4, 5] rfl)
                  refine lv_if_eq (tgt := 161) hx hb dX8_bore_154 (by decide) (fun c154 => ?_) (fun c154 => ?_)
                  · skip
                    refine lv_aload_n hx hb dX8_bore_161 rfl (lv_at hl 4 rfl) ?_
                    refine xb_get hx hb hts hown hK hW hi2.1 (k := 14) (xf_hole hi2.2 (k := 14) (by decide)) q543 rfl (xb_vo (xf_hole hi2.2 (k := 14) (by decide)) (by decide)) dX8_bore_162 ?_
                    refine xx_getaN hx hb hts hown hK hW 2 rfl (hN.nf q269) dX8_bore_165 ?_
                    refine lv_iload_n hx hb dX8_bore_168 rfl (lv_at hl 3 rfl) ?_
                    refine lv_iload hx hb dX8_bore_169 (lv_at hl 2 rfl) ?_
                    refine pp_calliN (As := [.int v43, .int v52]) (rest := [.ref (o + 2), .int v52, .ref (xb_ D b + 2)]) (n := 2) ⟨hx, hb, hml, hown, hts⟩ (xc_at lQ v43 v52) (lw_meth q468) (hN.nm q1193) q84 q467 (by decide +kernel) rfl ⟨Nat.le_of_ble_eq_true rfl, Nat.le_of_ble_eq_true rfl⟩ hl.1 rfl (Nat.le_of_ble_eq_true rfl) dX8_bore_171 ⟨Nat.le_of_ble_eq_true rfl, Nat.le_of_ble_eq_true rfl⟩ (fun v171 e171 => ?_)
                    refine xx_zald hx hb hK hW 2 rfl (by rw [e171]; exact ix_m61 tx.1 tx.2 (by omega) (by omega)) dX8_bore_174 ?_
                    refine lv_if_eq (tgt := 182) hx hb dX8_bore_175 (by decide) (fun c175 => ?_) (fun c175 => ?_)
                    · skip
                      refine lv_iconst (v := 0) hx hb dX8_bore_182 (by decide) ?_
                      exact J183 _ (by subst e18 e37 e39 e43 e52 e65 ew92 ew108 e123 f124 f129 f135 e151 e171; simp only [if_neg c3, if_neg c14, if_pos c21, if_neg c110, if_pos c154, if_pos c175])
                    · skip
                      refine lv_iconst (v := 1) hx hb dX8_bore_178 (by decide) ?_
                      refine lv_goto (tgt := 183) hx hb dX8_bore_179 (by decide) ?_
                      exact J183 _ (by subst e18 e37 e39 e43 e52 e65 ew92 ew108 e123 f124 f129 f135 e151 e171; simp only [if_neg c3, if_neg c14, if_pos c21, if_neg c110, if_pos c154, if_neg c175])
                  · skip
                    refine lv_iconst (v := 2) hx hb dX8_bore_157 (by decide) ?_
                    refine lv_goto (tgt := 183) hx hb dX8_bore_158 (by decide) ?_
                    exact J183 _ (by subst e18 e37 e39 e43 e52 e65 ew92 ew108 e123 f124 f129 f135 e151; simp only [if_neg c3, if_neg c14, if_pos c21, if_neg c110, if_neg c154])
                · skip
                  have hlt : rd_ Y0 68 b < xo_t Y0 b sp := by
                    rw [← n92]
                    rcases Decidable.em (rd_ Y0 68 b < w92) with q | q
                    · exact q
                    · rw [if_neg q] at ew108
                      rw [ew108] at c110
                      exact absurd c110 (by decide)
                  refine lv_goto (tgt := 2) hx hb dX8_bore_113 (by decide) ?_
                  have hm := hm2
                  rw [if_neg c3] at hm
                  have h18 : xf_isThrough Y0 b = 0 := by rw [← e18]; exact c21
                  exact ih2 w108 Y0 H locs (by first | (rw [if_pos c110]; omega) | (have hs := hs3; rw [if_neg c110, hs, xo_3_64, xo_3_66, if_pos rfl, xo_y_t t14]; omega)) (by first | exact iT2 | (rw [hs3]; exact xo_xv sp iT2 t14 hb0)) (by first | exact iJ2 | (rw [hs3]; exact xj_s_eq ⟨xo_3_k (by decide) (by decide) (by decide) (by decide) (by decide), xo_3_k (by decide) (by decide) (by decide) (by decide) (by decide)⟩ (xo_3_k (by decide) (by decide) (by decide) (by decide) (by decide)) iJ2)) hi2 (by first | (rw [if_pos c110]; simp only [xf_bore, if_neg c3, if_neg c14, if_pos h18, if_pos hlt] at hgo2; exact hgo2) | (rw [if_neg c110, hs3]; simp only [xf_bore, if_neg c3, if_neg c14, if_pos h18, if_neg hge] at hgo2; exact hgo2)) hW hS ls (lv_sub hl [0, 4, 5] rfl)
              refine lv_icmp_gt (tgt := 107) hx hb dX8_bore_100 (by decide) (fun c100 => ?_) (fun c100 => ?_)
              · have t100 : ((rd_ Y0 68 b)).toInt < (w92).toInt := ww_lt c100
                refine lv_iconst (v := 0) hx hb dX8_bore_107 (by decide) ?_
                exact J108 _ (by subst e18 e37 e39 e43 e52 e65 ew92; simp only [if_neg c3, if_neg c14, if_pos c21, if_pos c100])
              · have t100 : (w92).toInt ≤ ((rd_ Y0 68 b)).toInt := ww_nlt c100
                refine lv_iconst (v := 1) hx hb dX8_bore_103 (by decide) ?_
                refine lv_goto (tgt := 108) hx hb dX8_bore_104 (by decide) ?_
                exact J108 _ (by subst e18 e37 e39 e43 e52 e65 ew92; simp only [if_neg c3, if_neg c14, if_pos c21, if_neg c100])
            refine lv_if_eq (tgt := 76) hx hb dX8_bore_69 (by decide) (fun c69 => ?_) (fun c69 => ?_)
            · skip
              refine lv_iload_n hx hb dX8_bore_76 rfl (lv_at hl 4 rfl) ?_
              refine lv_aload_n hx hb dX8_bore_77 rfl (lv_at hl 3 rfl) ?_
              refine xb_get hx hb hts hown hK hW hi2.1 (k := 14) (xf_hole hi2.2 (k := 14) (by decide)) q543 rfl (xb_vo (xf_hole hi2.2 (k := 14) (by decide)) (by decide)) dX8_bore_78 ?_
              refine xx_getaN hx hb hts hown hK hW 1 rfl (hN.nf q267) dX8_bore_81 ?_
              refine lv_iload_n hx hb dX8_bore_84 rfl (lv_at hl 1 rfl) ?_
              refine lv_iload hx hb dX8_bore_85 (lv_at hl 0 rfl) ?_
              refine pp_calliN (As := [.int v43, .int v52]) (rest := [.ref (o + 1), .int sp]) (n := 2) ⟨hx, hb, hml, hown, hts⟩ (xc_at lQ v43 v52) (lw_meth q468) (hN.nm q1193) q84 q467 (by decide +kernel) rfl ⟨Nat.le_of_ble_eq_true rfl, Nat.le_of_ble_eq_true rfl⟩ hl.1 rfl (Nat.le_of_ble_eq_true rfl) dX8_bore_87 ⟨Nat.le_of_ble_eq_true rfl, Nat.le_of_ble_eq_true rfl⟩ (fun v87 e87 => ?_)
              refine xx_iald hx hb hK hW 1 rfl (by rw [e87]; exact ix_m61 tx.1 tx.2 (by omega) (by omega)) dX8_bore_90 ?_
              refine nv_imul hx hb dX8_bore_91 (fun v91 e91 => ?_)
              exact J92 _ (by subst e18 e37 e39 e43 e52 e65 e87 e91; simp only [if_neg c3, if_neg c14, if_pos c21, if_pos c69])
            · skip
              refine lv_iconst (v := 0) hx hb dX8_bore_72 (by decide) ?_
              refine lv_goto (tgt := 92) hx hb dX8_bore_73 (by decide) ?_
              exact J92 _ (by subst e18 e37 e39 e43 e52 e65; simp only [if_neg c3, if_neg c14, if_pos c21, if_neg c69])
  exact L2 62 1 X H locs (by obtain ⟨q1, q2, q3⟩ := hT b (xb_120 (xv_W hW) hi.1).1 (xb_120 (xv_W hW) hi.1).2; rw [if_neg (by decide)]; show _ < (62 : Int); omega) hT hJ hi (rfl) hW hS ls (lv_sub hl [0, 1, 2] rfl)
