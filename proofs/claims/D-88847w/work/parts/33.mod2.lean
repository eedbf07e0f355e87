set_option maxHeartbeats 4000000 in
theorem mc_speed (lQ : Launch) (G : wm_G) (o : Nat) (S : mm_S) (E : mm_E) (m : Int32) (v : Int32) : mm_Met lQ G o yX5_speed (ws_ yX5_speed cX5_speed 4 (some .int)) 2 S E [.int m, .int v] (some (.int (ff_speed S m v).1)) (ff_speed S m v).2 E := by
  refine mm_start (by decide +kernel) (Nat.le_of_ble_eq_true rfl) rfl (fun pQ eQ sQ mQ belowQ methQ cQ hx hb hml hr hlocks hts hown hK H hW hS ls hl => ?_)
  have hl : lv_has ls 4 [(0, .ref o), (1, .int m), (2, .int v)] := hl
  generalize hlc : ([] : List Loc) = locs at hS ⊢
  refine lv_iload_n hx hb dX5_speed_0 rfl (lv_at hl 1 rfl) ?_
  refine pp_calli (As := [.int m]) (rest := []) (n := 1) ⟨hx, hb, hml, hown, hts⟩ (mc_isMachine lQ m) (lw_S q2044 q2045 q92 q2046) (by decide +kernel) rfl ⟨Nat.le_of_ble_eq_true rfl, Nat.le_of_ble_eq_true rfl⟩ hl.1 rfl (Nat.le_of_ble_eq_true rfl) dX5_speed_1 ⟨Nat.le_of_ble_eq_true rfl, Nat.le_of_ble_eq_true rfl⟩ (fun v1 e1 => ?_)
  refine lv_if_eq (tgt := 18) hx hb dX5_speed_4 (by decide) (fun c4 => ?_) (fun c4 => ?_)
  · skip
    refine lv_iconst (v := (-1)) hx hb dX5_speed_18 (by decide) ?_
    refine mm_iret hx hb hr hlocks hW hS ?_ dX5_speed_19
    have hres : ff_speed S m v = ((-1), S) := by subst e1; simp only [ff_speed, if_pos c4]
    exact ⟨by rw [hres], by rw [hres], rfl⟩
  · skip
    refine lv_iload_n hx hb dX5_speed_7 rfl (lv_at hl 2 rfl) ?_
    refine lv_bipush (v := 10) hx hb dX5_speed_8 (by decide) ?_
    refine lv_bipush (v := 60) hx hb dX5_speed_10 (by decide) ?_
    refine pp_calli (As := [.int v, .int 10, .int 60]) (rest := []) (n := 3) ⟨hx, hb, hml, hown, hts⟩ (mc_in lQ v 10 60) (lw_S q1979 q1980 q92 q1981) (by decide +kernel) rfl ⟨Nat.le_of_ble_eq_true rfl, Nat.le_of_ble_eq_true rfl⟩ hl.1 rfl (Nat.le_of_ble_eq_true rfl) dX5_speed_12 ⟨Nat.le_of_ble_eq_true rfl, Nat.le_of_ble_eq_true rfl⟩ (fun v12 e12 => ?_)
    refine lv_if_ne (tgt := 20) hx hb dX5_speed_15 (by decide) (fun c15 => ?_) (fun c15 => ?_)
    · skip
      refine lv_aload_n hx hb dX5_speed_20 rfl (lv_at hl 0 rfl) ?_
      refine mm_geta hx hb hts hown hK hW 26 rfl q1711 dX5_speed_21 ?_
      refine lv_iload_n hx hb dX5_speed_24 rfl (lv_at hl 1 rfl) ?_
      refine mm_iald hx hb hK hW 26 rfl (by have t := ff_isMachine_t (by rw [← e1]; exact c4); exact ww_in (by omega) (by omega)) dX5_speed_25 ?_
      refine lv_istore_n (lv' := [(3, .int (rd_ S 26 m)), (0, .ref o), (1, .int m), (2, .int v)]) hx hb dX5_speed_26 rfl hl (by decide) rfl (fun ls hl => ?_)
      refine lv_aload_n hx hb dX5_speed_27 rfl (lv_at hl 1 rfl) ?_
      refine mm_geta hx hb hts hown hK hW 26 rfl q1711 dX5_speed_28 ?_
      refine lv_iload_n hx hb dX5_speed_31 rfl (lv_at hl 2 rfl) ?_
      refine lv_iload_n hx hb dX5_speed_32 rfl (lv_at hl 3 rfl) ?_
      refine mm_iast hx hb hK hW hS 26 rfl (by have t := ff_isMachine_t (by rw [← e1]; exact c4); exact ww_in (by omega) (by omega)) dX5_speed_33 (fun S33 H locs f33 hW hS => ?_)
      refine lv_iload_n hx hb dX5_speed_34 rfl (lv_at hl 0 rfl) ?_
      refine mm_iret hx hb hr hlocks hW hS ?_ dX5_speed_35
      have hres : ff_speed S m v = ((rd_ S 26 m), S33) := by subst e1 e12 f33; simp only [ff_speed, if_neg c4, if_neg c15]
      exact ⟨by rw [hres], by rw [hres], rfl⟩
    · skip
      refine lv_iconst (v := (-1)) hx hb dX5_speed_18 (by decide) ?_
      refine mm_iret hx hb hr hlocks hW hS ?_ dX5_speed_19
      have hres : ff_speed S m v = ((-1), S) := by subst e1 e12; simp only [ff_speed, if_neg c4, if_pos c15]
      exact ⟨by rw [hres], by rw [hres], rfl⟩

set_option maxHeartbeats 4000000 in
theorem mc_set (lQ : Launch) (G : wm_G) (o : Nat) (S : mm_S) (E : mm_E) (m : Int32) (h : Int32) (hB : iv_B S) : mm_Met lQ G o yX5_set (ws_ yX5_set cX5_set 4 (some .int)) 3 S E [.int m, .int h] (some (.int (ff_set S m h).1)) (ff_set S m h).2 E := by
  refine mm_start (by decide +kernel) (Nat.le_of_ble_eq_true rfl) rfl (fun pQ eQ sQ mQ belowQ methQ cQ hx hb hml hr hlocks hts hown hK H hW hS ls hl => ?_)
  have hl : lv_has ls 4 [(0, .ref o), (1, .int m), (2, .int h)] := hl
  generalize hlc : ([] : List Loc) = locs at hS ⊢
  refine lv_iload_n hx hb dX5_set_0 rfl (lv_at hl 1 rfl) ?_
  refine pp_calli (As := [.int m]) (rest := []) (n := 1) ⟨hx, hb, hml, hown, hts⟩ (mc_isMachine lQ m) (lw_S q2044 q2045 q92 q2046) (by decide +kernel) rfl ⟨Nat.le_of_ble_eq_true rfl, Nat.le_of_ble_eq_true rfl⟩ hl.1 rfl (Nat.le_of_ble_eq_true rfl) dX5_set_1 ⟨Nat.le_of_ble_eq_true rfl, Nat.le_of_ble_eq_true rfl⟩ (fun v1 e1 => ?_)
  refine lv_if_eq (tgt := 20) hx hb dX5_set_4 (by decide) (fun c4 => ?_) (fun c4 => ?_)
  · skip
    refine lv_ldcw (v := (-2000000000)) hx hb hown (hts _ q2024) dX5_set_20 ?_
    refine mm_iret hx hb hr hlocks hW hS ?_ dX5_set_23
    have hres : ff_set S m h = ((-2000000000), S) := by subst e1; simp only [ff_set, if_pos c4]
    exact ⟨by rw [hres], by rw [hres], rfl⟩
  · skip
    refine lv_iload_n hx hb dX5_set_7 rfl (lv_at hl 2 rfl) ?_
    refine lv_iconst (v := (-1)) hx hb dX5_set_8 (by decide) ?_
    refine lv_icmp_eq (tgt := 24) hx hb dX5_set_9 (by decide) (fun c9 => ?_) (fun c9 => ?_)
    · skip
      refine lv_iconst (v := 0) hx hb dX5_set_24 (by decide) ?_
      refine lv_istore_n (lv' := [(3, .int 0), (0, .ref o), (1, .int m), (2, .int h)]) hx hb dX5_set_25 rfl hl (by decide) rfl (fun ls hl => ?_)
      have L26 : ∀ (fu26 : Nat) (k : Int32), (3 - k.toInt < fu26) → (0 ≤ k.toInt) → (k.toInt ≤ 3) → (ff_set_go fu26 S m h k = ff_set S m h) → ∀ ls : Array Slot, lv_has ls 4 [(3, .int k), (0, .ref o), (1, .int m), (2, .int h)] → W pQ lQ eQ (wm_rm 3) sQ mQ (Value.ref o :: [.int m, .int h]).toArray belowQ methQ cQ H locs 0 0 (MQ belowQ (wm_Q (fun vQ HQ => vQ = some (.int (ff_set S m h).1) ∧ mm_W G o (ff_set S m h).2 E HQ) (mm_F o)) (Value.ref o :: [.int m, .int h]).toArray sQ 0 0 (mm_F o)) (F0 mQ 26 ls []) := by
        intro fu26
        induction fu26 with
        | zero =>
          intro k hm26 i026 i126 hgo26 ls hl
          exact absurd hm26 (by omega)
        | succ fu26 ih26 =>
          intro k hm26 i026 i126 hgo26 ls hl
          refine lv_iload_n hx hb dX5_set_26 rfl (lv_at hl 0 rfl) ?_
          refine lv_iconst (v := 3) hx hb dX5_set_27 (by decide) ?_
          refine lv_icmp_ge (tgt := 60) hx hb dX5_set_28 (by decide) (fun c28 => ?_) (fun c28 => ?_)
          · have t28 : 3 ≤ (k).toInt := ww_le c28
            refine lv_aload_n hx hb dX5_set_60 rfl (lv_at hl 1 rfl) ?_
            refine mm_geta hx hb hts hown hK hW 27 rfl q1712 dX5_set_61 ?_
            refine lv_iload_n hx hb dX5_set_64 rfl (lv_at hl 2 rfl) ?_
            refine mm_iald hx hb hK hW 27 rfl (by have t := ff_isMachine_t (by rw [← e1]; exact c4); exact ww_in (by omega) (by omega)) dX5_set_65 ?_
            refine lv_istore_n (lv' := [(3, .int (rd_ S 27 m)), (0, .ref o), (1, .int m), (2, .int h)]) hx hb dX5_set_66 rfl hl (by decide) rfl (fun ls hl => ?_)
            refine lv_aload_n hx hb dX5_set_67 rfl (lv_at hl 1 rfl) ?_
            refine mm_geta hx hb hts hown hK hW 27 rfl q1712 dX5_set_68 ?_
            refine lv_iload_n hx hb dX5_set_71 rfl (lv_at hl 2 rfl) ?_
            refine lv_iload_n hx hb dX5_set_72 rfl (lv_at hl 3 rfl) ?_
            refine mm_iast hx hb hK hW hS 27 rfl (by have t := ff_isMachine_t (by rw [← e1]; exact c4); exact ww_in (by omega) (by omega)) dX5_set_73 (fun S73 H locs f73 hW hS => ?_)
            refine lv_iload_n hx hb dX5_set_74 rfl (lv_at hl 0 rfl) ?_
            refine mm_iret hx hb hr hlocks hW hS ?_ dX5_set_75
            have hres : ff_set S m h = ((rd_ S 27 m), S73) := by rw [← hgo26]; subst f73; simp only [ff_set_go, if_pos c28]
            exact ⟨by rw [hres], by rw [hres], rfl⟩
          · have t28 : (k).toInt < 3 := ww_nle c28
            refine lv_iload_n hx hb dX5_set_31 rfl (lv_at hl 0 rfl) ?_
            refine lv_iload_n hx hb dX5_set_32 rfl (lv_at hl 2 rfl) ?_
            refine lv_icmp_eq (tgt := 54) hx hb dX5_set_33 (by decide) (fun c33 => ?_) (fun c33 => ?_)
            · skip
              obtain ⟨v54, e54⟩ : ∃ yQ : Int32, yQ = k + 1 := ⟨_, rfl⟩
              refine lv_iinc (v := v54) (lv' := [(3, .int v54), (0, .ref o), (1, .int m), (2, .int h)]) hx hb dX5_set_54 hl (k := 0) rfl (by rw [e54]; rfl) (by decide) rfl (fun ls hl => ?_)
              refine lv_goto (tgt := 26) hx hb dX5_set_57 (by decide) ?_
              have tb : v54.toInt = k.toInt + 1 := by rw [e54]; exact ww_inc (b := 3) t28
              exact ih26 v54 (by omega) (by omega) (by omega) (by subst e54; simp only [ff_set_go, if_neg c28, if_pos c33] at hgo26; exact hgo26) ls (lv_sub hl [0, 1, 2, 3] rfl)
            · skip
              refine lv_iload_n hx hb dX5_set_36 rfl (lv_at hl 3 rfl) ?_
              refine lv_if_lt (tgt := 54) hx hb dX5_set_37 (by decide) (fun c37 => ?_) (fun c37 => ?_)
              · have t37 : (h).toInt < 0 := ww_lt c37
                obtain ⟨v54, e54⟩ : ∃ yQ : Int32, yQ = k + 1 := ⟨_, rfl⟩
                refine lv_iinc (v := v54) (lv' := [(3, .int v54), (0, .ref o), (1, .int m), (2, .int h)]) hx hb dX5_set_54 hl (k := 0) rfl (by rw [e54]; rfl) (by decide) rfl (fun ls hl => ?_)
                refine lv_goto (tgt := 26) hx hb dX5_set_57 (by decide) ?_
                have tb : v54.toInt = k.toInt + 1 := by rw [e54]; exact ww_inc (b := 3) t28
                exact ih26 v54 (by omega) (by omega) (by omega) (by subst e54; simp only [ff_set_go, if_neg c28, if_neg c33, if_pos c37] at hgo26; exact hgo26) ls (lv_sub hl [0, 1, 2, 3] rfl)
              · have t37 : 0 ≤ (h).toInt := ww_nlt c37
                refine lv_aload_n hx hb dX5_set_40 rfl (lv_at hl 1 rfl) ?_
                refine mm_geta hx hb hts hown hK hW 27 rfl q1712 dX5_set_41 ?_
                refine lv_iload_n hx hb dX5_set_44 rfl (lv_at hl 0 rfl) ?_
                refine mm_iald hx hb hK hW 27 rfl (ww_in (by omega) (by omega)) dX5_set_45 ?_
                refine lv_iload_n hx hb dX5_set_46 rfl (lv_at hl 3 rfl) ?_
                refine lv_icmp_ne (tgt := 54) hx hb dX5_set_47 (by decide) (fun c47 => ?_) (fun c47 => ?_)
                · skip
                  obtain ⟨v54, e54⟩ : ∃ yQ : Int32, yQ = k + 1 := ⟨_, rfl⟩
                  refine lv_iinc (v := v54) (lv' := [(3, .int v54), (0, .ref o), (1, .int m), (2, .int h)]) hx hb dX5_set_54 hl (k := 0) rfl (by rw [e54]; rfl) (by decide) rfl (fun ls hl => ?_)
                  refine lv_goto (tgt := 26) hx hb dX5_set_57 (by decide) ?_
                  have tb : v54.toInt = k.toInt + 1 := by rw [e54]; exact ww_inc (b := 3) t28
                  exact ih26 v54 (by omega) (by omega) (by omega) (by subst e54; simp only [ff_set_go, if_neg c28, if_neg c33, if_neg c37, if_neg c47] at hgo26; exact hgo26) ls (lv_sub hl [0, 1, 2, 3] rfl)
                · skip
                  refine lv_ldcw (v := (-2000000000)) hx hb hown (hts _ q2024) dX5_set_50 ?_
                  refine mm_iret hx hb hr hlocks hW hS ?_ dX5_set_53
                  have hres : ff_set S m h = ((-2000000000), S) := by rw [← hgo26]; simp only [ff_set_go, if_neg c28, if_neg c33, if_neg c37, if_pos c47]
                  exact ⟨by rw [hres], by rw [hres], rfl⟩
      exact L26 4 0 (by decide) (by decide) (by decide) (by subst e1; simp only [ff_set, if_neg c4, if_pos c9]) ls (lv_sub hl [0, 1, 2, 3] rfl)
    · skip
      refine lv_aload_n hx hb dX5_set_12 rfl (lv_at hl 0 rfl) ?_
      refine lv_iload_n hx hb dX5_set_13 rfl (lv_at hl 2 rfl) ?_
      refine mm_callp (As := [.int h]) (rest := []) (n := 1) ⟨hx, hb, hml, hown, hts⟩ hK (mc_isHole lQ G o S E h hB) (lw_V q2025 q2027 qs39 q92 q2028) (by decide +kernel) rfl ⟨Nat.le_of_ble_eq_true rfl, Nat.le_of_ble_eq_true rfl⟩ hW hS hl.1 rfl (Nat.le_of_ble_eq_true rfl) dX5_set_14 ⟨Nat.le_of_ble_eq_true rfl, Nat.le_of_ble_eq_true rfl⟩ (fun v14 H locs e14 hW hS => ?_)
      refine lv_if_ne (tgt := 24) hx hb dX5_set_17 (by decide) (fun c17 => ?_) (fun c17 => ?_)
      · skip
        refine lv_iconst (v := 0) hx hb dX5_set_24 (by decide) ?_
        refine lv_istore_n (lv' := [(3, .int 0), (0, .ref o), (1, .int m), (2, .int h)]) hx hb dX5_set_25 rfl hl (by decide) rfl (fun ls hl => ?_)
        have L26 : ∀ (fu26 : Nat) (k : Int32), (3 - k.toInt < fu26) → (0 ≤ k.toInt) → (k.toInt ≤ 3) → (ff_set_go fu26 S m h k = ff_set S m h) → ∀ ls : Array Slot, lv_has ls 4 [(3, .int k), (0, .ref o), (1, .int m), (2, .int h)] → W pQ lQ eQ (wm_rm 3) sQ mQ (Value.ref o :: [.int m, .int h]).toArray belowQ methQ cQ H locs 0 0 (MQ belowQ (wm_Q (fun vQ HQ => vQ = some (.int (ff_set S m h).1) ∧ mm_W G o (ff_set S m h).2 E HQ) (mm_F o)) (Value.ref o :: [.int m, .int h]).toArray sQ 0 0 (mm_F o)) (F0 mQ 26 ls []) := by
          intro fu26
          induction fu26 with
          | zero =>
            intro k hm26 i026 i126 hgo26 ls hl
            exact absurd hm26 (by omega)
          | succ fu26 ih26 =>
            intro k hm26 i026 i126 hgo26 ls hl
            refine lv_iload_n hx hb dX5_set_26 rfl (lv_at hl 0 rfl) ?_
            refine lv_iconst (v := 3) hx hb dX5_set_27 (by decide) ?_
            refine lv_icmp_ge (tgt := 60) hx hb dX5_set_28 (by decide) (fun c28 => ?_) (fun c28 => ?_)
            · have t28 : 3 ≤ (k).toInt := ww_le c28
              refine lv_aload_n hx hb dX5_set_60 rfl (lv_at hl 1 rfl) ?_
              refine mm_geta hx hb hts hown hK hW 27 rfl q1712 dX5_set_61 ?_
              refine lv_iload_n hx hb dX5_set_64 rfl (lv_at hl 2 rfl) ?_
              refine mm_iald hx hb hK hW 27 rfl (by have t := ff_isMachine_t (by rw [← e1]; exact c4); exact ww_in (by omega) (by omega)) dX5_set_65 ?_
              refine lv_istore_n (lv' := [(3, .int (rd_ S 27 m)), (0, .ref o), (1, .int m), (2, .int h)]) hx hb dX5_set_66 rfl hl (by decide) rfl (fun ls hl => ?_)
              refine lv_aload_n hx hb dX5_set_67 rfl (lv_at hl 1 rfl) ?_
              refine mm_geta hx hb hts hown hK hW 27 rfl q1712 dX5_set_68 ?_
              refine lv_iload_n hx hb dX5_set_71 rfl (lv_at hl 2 rfl) ?_
              refine lv_iload_n hx hb dX5_set_72 rfl (lv_at hl 3 rfl) ?_
              refine mm_iast hx hb hK hW hS 27 rfl (by have t := ff_isMachine_t (by rw [← e1]; exact c4); exact ww_in (by omega) (by omega)) dX5_set_73 (fun S73 H locs f73 hW hS => ?_)
              refine lv_iload_n hx hb dX5_set_74 rfl (lv_at hl 0 rfl) ?_
              refine mm_iret hx hb hr hlocks hW hS ?_ dX5_set_75
              have hres : ff_set S m h = ((rd_ S 27 m), S73) := by rw [← hgo26]; subst f73; simp only [ff_set_go, if_pos c28]
              exact ⟨by rw [hres], by rw [hres], rfl⟩
            · have t28 : (k).toInt < 3 := ww_nle c28
              refine lv_iload_n hx hb dX5_set_31 rfl (lv_at hl 0 rfl) ?_
              refine lv_iload_n hx hb dX5_set_32 rfl (lv_at hl 2 rfl) ?_
              refine lv_icmp_eq (tgt := 54) hx hb dX5_set_33 (by decide) (fun c33 => ?_) (fun c33 => ?_)
              · skip
                obtain ⟨v54, e54⟩ : ∃ yQ : Int32, yQ = k + 1 := ⟨_, rfl⟩
                refine lv_iinc (v := v54) (lv' := [(3, .int v54), (0, .ref o), (1, .int m), (2, .int h)]) hx hb dX5_set_54 hl (k := 0) rfl (by rw [e54]; rfl) (by decide) rfl (fun ls hl => ?_)
                refine lv_goto (tgt := 26) hx hb dX5_set_57 (by decide) ?_
                have tb : v54.toInt = k.toInt + 1 := by rw [e54]; exact ww_inc (b := 3) t28
                exact ih26 v54 (by omega) (by omega) (by omega) (by subst e54; simp only [ff_set_go, if_neg c28, if_pos c33] at hgo26; exact hgo26) ls (lv_sub hl [0, 1, 2, 3] rfl)
              · skip
                refine lv_iload_n hx hb dX5_set_36 rfl (lv_at hl 3 rfl) ?_
                refine lv_if_lt (tgt := 54) hx hb dX5_set_37 (by decide) (fun c37 => ?_) (fun c37 => ?_)
                · have t37 : (h).toInt < 0 := ww_lt c37
                  obtain ⟨v54, e54⟩ : ∃ yQ : Int32, yQ = k + 1 := ⟨_, rfl⟩
                  refine lv_iinc (v := v54) (lv' := [(3, .int v54), (0, .ref o), (1, .int m), (2, .int h)]) hx hb dX5_set_54 hl (k := 0) rfl (by rw [e54]; rfl) (by decide) rfl (fun ls hl => ?_)
                  refine lv_goto (tgt := 26) hx hb dX5_set_57 (by decide) ?_
                  have tb : v54.toInt = k.toInt + 1 := by rw [e54]; exact ww_inc (b := 3) t28
                  exact ih26 v54 (by omega) (by omega) (by omega) (by subst e54; simp only [ff_set_go, if_neg c28, if_neg c33, if_pos c37] at hgo26; exact hgo26) ls (lv_sub hl [0, 1, 2, 3] rfl)
                · have t37 : 0 ≤ (h).toInt := ww_nlt c37
                  refine lv_aload_n hx hb dX5_set_40 rfl (lv_at hl 1 rfl) ?_
                  refine mm_geta hx hb hts hown hK hW 27 rfl q1712 dX5_set_41 ?_
                  refine lv_iload_n hx hb dX5_set_44 rfl (lv_at hl 0 rfl) ?_
                  refine mm_iald hx hb hK hW 27 rfl (ww_in (by omega) (by omega)) dX5_set_45 ?_
                  refine lv_iload_n hx hb dX5_set_46 rfl (lv_at hl 3 rfl) ?_
                  refine lv_icmp_ne (tgt := 54) hx hb dX5_set_47 (by decide) (fun c47 => ?_) (fun c47 => ?_)
                  · skip
                    obtain ⟨v54, e54⟩ : ∃ yQ : Int32, yQ = k + 1 := ⟨_, rfl⟩
                    refine lv_iinc (v := v54) (lv' := [(3, .int v54), (0, .ref o), (1, .int m), (2, .int h)]) hx hb dX5_set_54 hl (k := 0) rfl (by rw [e54]; rfl) (by decide) rfl (fun ls hl => ?_)
                    refine lv_goto (tgt := 26) hx hb dX5_set_57 (by decide) ?_
                    have tb : v54.toInt = k.toInt + 1 := by rw [e54]; exact ww_inc (b := 3) t28
                    exact ih26 v54 (by omega) (by omega) (by omega) (by subst e54; simp only [ff_set_go, if_neg c28, if_neg c33, if_neg c37, if_neg c47] at hgo26; exact hgo26) ls (lv_sub hl [0, 1, 2, 3] rfl)
                  · skip
                    refine lv_ldcw (v := (-2000000000)) hx hb hown (hts _ q2024) dX5_set_50 ?_
                    refine mm_iret hx hb hr hlocks hW hS ?_ dX5_set_53
                    have hres : ff_set S m h = ((-2000000000), S) := by rw [← hgo26]; simp only [ff_set_go, if_neg c28, if_neg c33, if_neg c37, if_pos c47]
                    exact ⟨by rw [hres], by rw [hres], rfl⟩
        exact L26 4 0 (by decide) (by decide) (by decide) (by subst e1 e14; simp only [ff_set, if_neg c4, if_neg c9, if_neg c17]) ls (lv_sub hl [0, 1, 2, 3] rfl)
      · skip
        refine lv_ldcw (v := (-2000000000)) hx hb hown (hts _ q2024) dX5_set_20 ?_
        refine mm_iret hx hb hr hlocks hW hS ?_ dX5_set_23
        have hres : ff_set S m h = ((-2000000000), S) := by subst e1 e14; simp only [ff_set, if_neg c4, if_neg c9, if_pos c17]
        exact ⟨by rw [hres], by rw [hres], rfl⟩

set_option maxHeartbeats 4000000 in
theorem mc_breaks (lQ : Launch) (G : wm_G) (o : Nat) (S : mm_S) (E : mm_E) (m : Int32) (t : Int32) : mm_Met lQ G o yX5_breaks (ws_ yX5_breaks cX5_breaks 3 (some .int)) 2 S E [.int m, .int t] (some (.int (ff_breaks S m t).1)) (ff_breaks S m t).2 E := by
  refine mm_start (by decide +kernel) (Nat.le_of_ble_eq_true rfl) rfl (fun pQ eQ sQ mQ belowQ methQ cQ hx hb hml hr hlocks hts hown hK H hW hS ls hl => ?_)
  have hl : lv_has ls 3 [(0, .ref o), (1, .int m), (2, .int t)] := hl
  generalize hlc : ([] : List Loc) = locs at hS ⊢
  refine lv_iload_n hx hb dX5_breaks_0 rfl (lv_at hl 1 rfl) ?_
  refine pp_calli (As := [.int m]) (rest := []) (n := 1) ⟨hx, hb, hml, hown, hts⟩ (mc_isMachine lQ m) (lw_S q2044 q2045 q92 q2046) (by decide +kernel) rfl ⟨Nat.le_of_ble_eq_true rfl, Nat.le_of_ble_eq_true rfl⟩ hl.1 rfl (Nat.le_of_ble_eq_true rfl) dX5_breaks_1 ⟨Nat.le_of_ble_eq_true rfl, Nat.le_of_ble_eq_true rfl⟩ (fun v1 e1 => ?_)
  refine lv_if_eq (tgt := 21) hx hb dX5_breaks_4 (by decide) (fun c4 => ?_) (fun c4 => ?_)
  · skip
    refine lv_iconst (v := (-1)) hx hb dX5_breaks_21 (by decide) ?_
    refine mm_iret hx hb hr hlocks hW hS ?_ dX5_breaks_22
    have hres : ff_breaks S m t = ((-1), S) := by subst e1; simp only [ff_breaks, if_pos c4]
    exact ⟨by rw [hres], by rw [hres], rfl⟩
  · skip
    refine lv_iload_n hx hb dX5_breaks_7 rfl (lv_at hl 2 rfl) ?_
    refine lv_aload_n hx hb dX5_breaks_8 rfl (lv_at hl 0 rfl) ?_
    refine mm_geti hx hb hts hown hK hW 1 rfl (by decide) q1686 dX5_breaks_9 ?_
    refine lv_sipush (v := 1699) hx hb dX5_breaks_12 (by decide) ?_
    refine pp_calli (As := [.int t, .int (fd_ S 1), .int 1699]) (rest := []) (n := 3) ⟨hx, hb, hml, hown, hts⟩ (mc_in lQ t (fd_ S 1) 1699) (lw_S q1979 q1980 q92 q1981) (by decide +kernel) rfl ⟨Nat.le_of_ble_eq_true rfl, Nat.le_of_ble_eq_true rfl⟩ hl.1 rfl (Nat.le_of_ble_eq_true rfl) dX5_breaks_15 ⟨Nat.le_of_ble_eq_true rfl, Nat.le_of_ble_eq_true rfl⟩ (fun v15 e15 => ?_)
    refine lv_if_ne (tgt := 23) hx hb dX5_breaks_18 (by decide) (fun c18 => ?_) (fun c18 => ?_)
    · skip
      refine lv_aload_n hx hb dX5_breaks_23 rfl (lv_at hl 0 rfl) ?_
      refine mm_geta hx hb hts hown hK hW 28 rfl q1713 dX5_breaks_24 ?_
      refine lv_iload_n hx hb dX5_breaks_27 rfl (lv_at hl 1 rfl) ?_
      refine lv_iload_n hx hb dX5_breaks_28 rfl (lv_at hl 2 rfl) ?_
      refine mm_iast hx hb hK hW hS 28 rfl (by have t := ff_isMachine_t (by rw [← e1]; exact c4); exact ww_in (by omega) (by omega)) dX5_breaks_29 (fun S29 H locs f29 hW hS => ?_)
      refine lv_iconst (v := 1) hx hb dX5_breaks_30 (by decide) ?_
      refine mm_iret hx hb hr hlocks hW hS ?_ dX5_breaks_31
      have hres : ff_breaks S m t = (1, S29) := by subst e1 e15 f29; simp only [ff_breaks, if_neg c4, if_neg c18]
      exact ⟨by rw [hres], by rw [hres], rfl⟩
    · skip
      refine lv_iconst (v := (-1)) hx hb dX5_breaks_21 (by decide) ?_
      refine mm_iret hx hb hr hlocks hW hS ?_ dX5_breaks_22
      have hres : ff_breaks S m t = ((-1), S) := by subst e1 e15; simp only [ff_breaks, if_neg c4, if_pos c18]
      exact ⟨by rw [hres], by rw [hres], rfl⟩

set_option maxHeartbeats 4000000 in
theorem mc_yard (lQ : Launch) (G : wm_G) (o : Nat) (S : mm_S) (E : mm_E) (h : Int32) (v : Int32) (hB : iv_B S) (hT : iv_T S) : mm_Met lQ G o yX5_yard (ws_ yX5_yard cX5_yard 3 (some .int)) 3 S E [.int h, .int v] (some (.int (ff_yard S h v).1)) (ff_yard S h v).2 E := by
  refine mm_start (by decide +kernel) (Nat.le_of_ble_eq_true rfl) rfl (fun pQ eQ sQ mQ belowQ methQ cQ hx hb hml hr hlocks hts hown hK H hW hS ls hl => ?_)
  have hl : lv_has ls 3 [(0, .ref o), (1, .int h), (2, .int v)] := hl
  generalize hlc : ([] : List Loc) = locs at hS ⊢
  refine lv_aload_n hx hb dX5_yard_0 rfl (lv_at hl 0 rfl) ?_
  refine lv_iload_n hx hb dX5_yard_1 rfl (lv_at hl 1 rfl) ?_
  refine mm_callp (As := [.int h]) (rest := []) (n := 1) ⟨hx, hb, hml, hown, hts⟩ hK (mc_isHole lQ G o S E h hB) (lw_V q2025 q2027 qs39 q92 q2028) (by decide +kernel) rfl ⟨Nat.le_of_ble_eq_true rfl, Nat.le_of_ble_eq_true rfl⟩ hW hS hl.1 rfl (Nat.le_of_ble_eq_true rfl) dX5_yard_2 ⟨Nat.le_of_ble_eq_true rfl, Nat.le_of_ble_eq_true rfl⟩ (fun v2 H locs e2 hW hS => ?_)
  refine lv_if_eq (tgt := 18) hx hb dX5_yard_5 (by decide) (fun c5 => ?_) (fun c5 => ?_)
  · skip
    refine lv_iconst (v := (-1)) hx hb dX5_yard_18 (by decide) ?_
    refine mm_iret hx hb hr hlocks hW hS ?_ dX5_yard_19
    have hres : ff_yard S h v = ((-1), S) := by subst e2; simp only [ff_yard, if_pos c5]
    exact ⟨by rw [hres], by rw [hres], rfl⟩
  · skip
    obtain ⟨h0, hb1, h1⟩ := ff_isHole_t hB (by rw [← e2]; exact c5)
    refine lv_iload_n hx hb dX5_yard_8 rfl (lv_at hl 2 rfl) ?_
    refine lv_bipush (v := (-2)) hx hb dX5_yard_9 (by decide) ?_
    refine lv_iconst (v := 2) hx hb dX5_yard_11 (by decide) ?_
    refine pp_calli (As := [.int v, .int (-2), .int 2]) (rest := []) (n := 3) ⟨hx, hb, hml, hown, hts⟩ (mc_in lQ v (-2) 2) (lw_S q1979 q1980 q92 q1981) (by decide +kernel) rfl ⟨Nat.le_of_ble_eq_true rfl, Nat.le_of_ble_eq_true rfl⟩ hl.1 rfl (Nat.le_of_ble_eq_true rfl) dX5_yard_12 ⟨Nat.le_of_ble_eq_true rfl, Nat.le_of_ble_eq_true rfl⟩ (fun v12 e12 => ?_)
    refine lv_if_ne (tgt := 20) hx hb dX5_yard_15 (by decide) (fun c15 => ?_) (fun c15 => ?_)
    · skip
      refine lv_aload_n hx hb dX5_yard_20 rfl (lv_at hl 0 rfl) ?_
      refine mm_geta hx hb hts hown hK hW 12 rfl q1697 dX5_yard_21 ?_
      refine lv_iload_n hx hb dX5_yard_24 rfl (lv_at hl 1 rfl) ?_
      refine mm_iald hx hb hK hW 12 rfl (ww_in h0 h1) dX5_yard_25 ?_
      refine lv_if_le (tgt := 32) hx hb dX5_yard_26 (by decide) (fun c26 => ?_) (fun c26 => ?_)
      · have t26 : ((rd_ S 12 h)).toInt ≤ 0 := ww_le c26
        refine lv_aload_n hx hb dX5_yard_32 rfl (lv_at hl 0 rfl) ?_
        refine mm_geta hx hb hts hown hK hW 9 rfl q1694 dX5_yard_33 ?_
        refine lv_iload_n hx hb dX5_yard_36 rfl (lv_at hl 1 rfl) ?_
        refine mm_iald hx hb hK hW 9 rfl (ww_in h0 h1) dX5_yard_37 ?_
        refine lv_bipush (v := 60) hx hb dX5_yard_38 (by decide) ?_
        refine lv_icmp_ne (tgt := 46) hx hb dX5_yard_40 (by decide) (fun c40 => ?_) (fun c40 => ?_)
        · skip
          obtain ⟨q1, q2, q3⟩ := hT h h0 h1
          have q4 : (rd_ S 9 h).toInt ≠ 60 := ww_ne c40
          have q5 : (rd_ S 9 h + 1).toInt = (rd_ S 9 h).toInt + 1 := ww_inc' (by omega)
          refine lv_aload_n hx hb dX5_yard_46 rfl (lv_at hl 0 rfl) ?_
          refine mm_geta hx hb hts hown hK hW 9 rfl q1694 dX5_yard_47 ?_
          refine lv_iload_n hx hb dX5_yard_50 rfl (lv_at hl 1 rfl) ?_
          refine lv_dup2_11 hx hb dX5_yard_51 rfl rfl ?_
          refine mm_iald hx hb hK hW 9 rfl (ww_in h0 h1) dX5_yard_52 ?_
          refine lv_iconst (v := 1) hx hb dX5_yard_53 (by decide) ?_
          refine nv_iadd hx hb dX5_yard_54 (fun v54 e54 => ?_)
          refine mm_iast hx hb hK hW hS 9 rfl (ww_in h0 h1) dX5_yard_55 (fun S55 H locs f55 hW hS => ?_)
          refine lv_aload_n hx hb dX5_yard_56 rfl (lv_at hl 0 rfl) ?_
          refine mm_geta hx hb hts hown hK hW 13 rfl q1698 dX5_yard_57 ?_
          refine lv_bipush (v := 61) hx hb dX5_yard_60 (by decide) ?_
          refine lv_iload_n hx hb dX5_yard_62 rfl (lv_at hl 1 rfl) ?_
          refine nv_imul hx hb dX5_yard_63 (fun v63 e63 => ?_)
          refine lv_aload_n hx hb dX5_yard_64 rfl (lv_at hl 0 rfl) ?_
          refine mm_geta hx hb hts hown hK hW 9 rfl q1694 dX5_yard_65 ?_
          refine lv_iload_n hx hb dX5_yard_68 rfl (lv_at hl 1 rfl) ?_
          refine mm_iald hx hb hK hW 9 rfl (ww_in h0 h1) dX5_yard_69 ?_
          refine nv_iadd hx hb dX5_yard_70 (fun v70 e70 => ?_)
          refine lv_iload_n hx hb dX5_yard_71 rfl (lv_at hl 2 rfl) ?_
          refine mm_iast hx hb hK hW hS 13 rfl (by rw [e70, e63, f55, rd_ws, e54]; exact ix_61 h0 h1 (by omega) (by omega)) dX5_yard_72 (fun S72 H locs f72 hW hS => ?_)
          refine lv_aload_n hx hb dX5_yard_73 rfl (lv_at hl 0 rfl) ?_
          refine mm_geta hx hb hts hown hK hW 9 rfl q1694 dX5_yard_74 ?_
          refine lv_iload_n hx hb dX5_yard_77 rfl (lv_at hl 1 rfl) ?_
          refine mm_iald hx hb hK hW 9 rfl (ww_in h0 h1) dX5_yard_78 ?_
          refine mm_iret hx hb hr hlocks hW hS ?_ dX5_yard_79
          have hres : ff_yard S h v = ((rd_ S72 9 h), S72) := by subst e2 e12 e54 f55 e63 e70 f72; simp only [ff_yard, if_neg c5, if_neg c15, if_pos c26, if_neg c40]
          exact ⟨by rw [hres], by rw [hres], rfl⟩
        · skip
          refine lv_bipush (v := (-3)) hx hb dX5_yard_43 (by decide) ?_
          refine mm_iret hx hb hr hlocks hW hS ?_ dX5_yard_45
          have hres : ff_yard S h v = ((-3), S) := by subst e2 e12; simp only [ff_yard, if_neg c5, if_neg c15, if_pos c26, if_pos c40]
          exact ⟨by rw [hres], by rw [hres], rfl⟩
      · have t26 : 0 < ((rd_ S 12 h)).toInt := ww_nle c26
        refine lv_bipush (v := (-2)) hx hb dX5_yard_29 (by decide) ?_
        refine mm_iret hx hb hr hlocks hW hS ?_ dX5_yard_31
        have hres : ff_yard S h v = ((-2), S) := by subst e2 e12; simp only [ff_yard, if_neg c5, if_neg c15, if_neg c26]
        exact ⟨by rw [hres], by rw [hres], rfl⟩
    · skip
      refine lv_iconst (v := (-1)) hx hb dX5_yard_18 (by decide) ?_
      refine mm_iret hx hb hr hlocks hW hS ?_ dX5_yard_19
      have hres : ff_yard S h v = ((-1), S) := by subst e2 e12; simp only [ff_yard, if_neg c5, if_pos c15]
      exact ⟨by rw [hres], by rw [hres], rfl⟩

set_option maxHeartbeats 4000000 in
theorem mc_met (lQ : Launch) (G : wm_G) (o : Nat) (S : mm_S) (E : mm_E) (h : Int32) (y : Int32) (hB : iv_B S) (hT : iv_T S) : mm_Met lQ G o yX5_met (ws_ yX5_met cX5_met 3 (some .int)) 3 S E [.int h, .int y] (some (.int (ff_met S h y))) S E := by
  refine mm_start (by decide +kernel) (Nat.le_of_ble_eq_true rfl) rfl (fun pQ eQ sQ mQ belowQ methQ cQ hx hb hml hr hlocks hts hown hK H hW hS ls hl => ?_)
  have hl : lv_has ls 3 [(0, .ref o), (1, .int h), (2, .int y)] := hl
  generalize hlc : ([] : List Loc) = locs at hS ⊢
  refine lv_aload_n hx hb dX5_met_0 rfl (lv_at hl 0 rfl) ?_
  refine lv_iload_n hx hb dX5_met_1 rfl (lv_at hl 1 rfl) ?_
  refine mm_callp (As := [.int h]) (rest := []) (n := 1) ⟨hx, hb, hml, hown, hts⟩ hK (mc_isHole lQ G o S E h hB) (lw_V q2025 q2027 qs39 q92 q2028) (by decide +kernel) rfl ⟨Nat.le_of_ble_eq_true rfl, Nat.le_of_ble_eq_true rfl⟩ hW hS hl.1 rfl (Nat.le_of_ble_eq_true rfl) dX5_met_2 ⟨Nat.le_of_ble_eq_true rfl, Nat.le_of_ble_eq_true rfl⟩ (fun v2 H locs e2 hW hS => ?_)
  refine lv_if_eq (tgt := 36) hx hb dX5_met_5 (by decide) (fun c5 => ?_) (fun c5 => ?_)
  · skip
    refine lv_iconst (v := (-1)) hx hb dX5_met_36 (by decide) ?_
    refine mm_iret hx hb hr hlocks hW hS ?_ dX5_met_37
    have hres : ff_met S h y = (-1) := by subst e2; simp only [ff_met, if_pos c5]
    exact ⟨by rw [hres], rfl, rfl⟩
  · skip
    obtain ⟨h0, hb1, h1⟩ := ff_isHole_t hB (by rw [← e2]; exact c5)
    refine lv_iload_n hx hb dX5_met_8 rfl (lv_at hl 2 rfl) ?_
    refine lv_iconst (v := 1) hx hb dX5_met_9 (by decide) ?_
    refine lv_aload_n hx hb dX5_met_10 rfl (lv_at hl 0 rfl) ?_
    refine mm_geta hx hb hts hown hK hW 10 rfl q1695 dX5_met_11 ?_
    refine lv_iload_n hx hb dX5_met_14 rfl (lv_at hl 1 rfl) ?_
    refine mm_iald hx hb hK hW 10 rfl (ww_in h0 h1) dX5_met_15 ?_
    refine pp_calli (As := [.int y, .int 1, .int (rd_ S 10 h)]) (rest := []) (n := 3) ⟨hx, hb, hml, hown, hts⟩ (mc_in lQ y 1 (rd_ S 10 h)) (lw_S q1979 q1980 q92 q1981) (by decide +kernel) rfl ⟨Nat.le_of_ble_eq_true rfl, Nat.le_of_ble_eq_true rfl⟩ hl.1 rfl (Nat.le_of_ble_eq_true rfl) dX5_met_16 ⟨Nat.le_of_ble_eq_true rfl, Nat.le_of_ble_eq_true rfl⟩ (fun v16 e16 => ?_)
    refine lv_if_eq (tgt := 36) hx hb dX5_met_19 (by decide) (fun c19 => ?_) (fun c19 => ?_)
    · skip
      refine lv_iconst (v := (-1)) hx hb dX5_met_36 (by decide) ?_
      refine mm_iret hx hb hr hlocks hW hS ?_ dX5_met_37
      have hres : ff_met S h y = (-1) := by subst e2 e16; simp only [ff_met, if_neg c5, if_pos c19]
      exact ⟨by rw [hres], rfl, rfl⟩
    · skip
      obtain ⟨q1, q2, q3⟩ := hT h h0 h1
      obtain ⟨q4, q5⟩ := ff_in_t (v := y) (a := 1) (b := rd_ S 10 h) (by rw [← e16]; exact c19)
      have q6 : 1 ≤ y.toInt := q4
      refine lv_aload_n hx hb dX5_met_22 rfl (lv_at hl 0 rfl) ?_
      refine mm_geta hx hb hts hown hK hW 14 rfl q1699 dX5_met_23 ?_
      refine lv_bipush (v := 61) hx hb dX5_met_26 (by decide) ?_
      refine lv_iload_n hx hb dX5_met_28 rfl (lv_at hl 1 rfl) ?_
      refine nv_imul hx hb dX5_met_29 (fun v29 e29 => ?_)
      refine lv_iload_n hx hb dX5_met_30 rfl (lv_at hl 2 rfl) ?_
      refine nv_iadd hx hb dX5_met_31 (fun v31 e31 => ?_)
      refine mm_iald hx hb hK hW 14 rfl (by rw [e31, e29]; exact ix_61 h0 h1 (by omega) (by omega)) dX5_met_32 ?_
      refine lv_goto (tgt := 37) hx hb dX5_met_33 (by decide) ?_
      refine mm_iret hx hb hr hlocks hW hS ?_ dX5_met_37
      have hres : ff_met S h y = (rd_ S 14 v31) := by subst e2 e16 e29 e31; simp only [ff_met, if_neg c5, if_neg c19]
      exact ⟨by rw [hres], rfl, rfl⟩

set_option maxHeartbeats 4000000 in
theorem mc_firstThrough (lQ : Launch) (G : wm_G) (o : Nat) (S : mm_S) (E : mm_E) (hB : iv_B S) : mm_Met lQ G o yX5_firstThrough (ws_ yX5_firstThrough cX5_firstThrough 3 (some .int)) 0 S E [] (some (.int (ff_firstThrough S))) S E := by
  refine mm_start (by decide +kernel) (Nat.le_of_ble_eq_true rfl) rfl (fun pQ eQ sQ mQ belowQ methQ cQ hx hb hml hr hlocks hts hown hK H hW hS ls hl => ?_)
  have hl : lv_has ls 3 [(0, .ref o)] := hl
  generalize hlc : ([] : List Loc) = locs at hS ⊢
  refine lv_sipush (v := 1700) hx hb dX5_firstThrough_0 (by decide) ?_
  refine lv_istore_n (lv' := [(1, .int 1700), (0, .ref o)]) hx hb dX5_firstThrough_3 rfl hl (by decide) rfl (fun ls hl => ?_)
  refine lv_iconst (v := 0) hx hb dX5_firstThrough_4 (by decide) ?_
  refine lv_istore_n (lv' := [(2, .int 0), (1, .int 1700), (0, .ref o)]) hx hb dX5_firstThrough_5 rfl hl (by decide) rfl (fun ls hl => ?_)
  have L6 : ∀ (fu6 : Nat) (f : Int32) (b : Int32), ((fd_ S 4).toInt - b.toInt < fu6) → (0 ≤ b.toInt) → (b.toInt ≤ (fd_ S 4).toInt) → (ff_firstThrough_go fu6 S f b = ff_firstThrough S) → ∀ ls : Array Slot, lv_has ls 3 [(2, .int b), (1, .int f), (0, .ref o)] → W pQ lQ eQ (wm_rm 0) sQ mQ (Value.ref o :: []).toArray belowQ methQ cQ H locs 0 0 (MQ belowQ (wm_Q (fun vQ HQ => vQ = some (.int (ff_firstThrough S)) ∧ mm_W G o S E HQ) (mm_F o)) (Value.ref o :: []).toArray sQ 0 0 (mm_F o)) (F0 mQ 6 ls []) := by
    intro fu6
    induction fu6 with
    | zero =>
      intro f b hm6 i06 i16 hgo6 ls hl
      exact absurd hm6 (by omega)
    | succ fu6 ih6 =>
      intro f b hm6 i06 i16 hgo6 ls hl
      refine lv_iload_n hx hb dX5_firstThrough_6 rfl (lv_at hl 0 rfl) ?_
      refine lv_aload_n hx hb dX5_firstThrough_7 rfl (lv_at hl 2 rfl) ?_
      refine mm_geti hx hb hts hown hK hW 4 rfl (by decide) q1689 dX5_firstThrough_8 ?_
      refine lv_icmp_ge (tgt := 50) hx hb dX5_firstThrough_11 (by decide) (fun c11 => ?_) (fun c11 => ?_)
      · have t11 : ((fd_ S 4)).toInt ≤ (b).toInt := ww_le c11
        refine lv_iload_n hx hb dX5_firstThrough_50 rfl (lv_at hl 1 rfl) ?_
        refine mm_iret hx hb hr hlocks hW hS ?_ dX5_firstThrough_51
        have hres : ff_firstThrough S = f := by rw [← hgo6]; simp only [ff_firstThrough_go, if_pos c11]
        exact ⟨by rw [hres], rfl, rfl⟩
      · have t11 : (b).toInt < ((fd_ S 4)).toInt := ww_nle c11
        refine lv_aload_n hx hb dX5_firstThrough_14 rfl (lv_at hl 2 rfl) ?_
        refine mm_geta hx hb hts hown hK hW 12 rfl q1697 dX5_firstThrough_15 ?_
        refine lv_iload_n hx hb dX5_firstThrough_18 rfl (lv_at hl 0 rfl) ?_
        refine mm_iald hx hb hK hW 12 rfl (by have := hB.2; exact ww_in (by omega) (by omega)) dX5_firstThrough_19 ?_
        refine lv_if_le (tgt := 44) hx hb dX5_firstThrough_20 (by decide) (fun c20 => ?_) (fun c20 => ?_)
        · have t20 : ((rd_ S 12 b)).toInt ≤ 0 := ww_le c20
          obtain ⟨v44, e44⟩ : ∃ yQ : Int32, yQ = b + 1 := ⟨_, rfl⟩
          refine lv_iinc (v := v44) (lv' := [(2, .int v44), (1, .int f), (0, .ref o)]) hx hb dX5_firstThrough_44 hl (k := 0) rfl (by rw [e44]; rfl) (by decide) rfl (fun ls hl => ?_)
          refine lv_goto (tgt := 6) hx hb dX5_firstThrough_47 (by decide) ?_
          have tb : v44.toInt = b.toInt + 1 := by rw [e44]; exact ww_inc t11
          exact ih6 f v44 (by omega) (by omega) (by omega) (by subst e44; simp only [ff_firstThrough_go, if_neg c11, if_pos c20] at hgo6; exact hgo6) ls (lv_sub hl [0, 1, 2] rfl)
        · have t20 : 0 < ((rd_ S 12 b)).toInt := ww_nle c20
          refine lv_aload_n hx hb dX5_firstThrough_23 rfl (lv_at hl 2 rfl) ?_
          refine mm_geta hx hb hts hown hK hW 12 rfl q1697 dX5_firstThrough_24 ?_
          refine lv_iload_n hx hb dX5_firstThrough_27 rfl (lv_at hl 0 rfl) ?_
          refine mm_iald hx hb hK hW 12 rfl (by have := hB.2; exact ww_in (by omega) (by omega)) dX5_firstThrough_28 ?_
          refine lv_iconst (v := 1) hx hb dX5_firstThrough_29 (by decide) ?_
          refine nv_isub hx hb dX5_firstThrough_30 (fun v30 e30 => ?_)
          refine lv_iload_n hx hb dX5_firstThrough_31 rfl (lv_at hl 1 rfl) ?_
          refine lv_icmp_ge (tgt := 44) hx hb dX5_firstThrough_32 (by decide) (fun c32 => ?_) (fun c32 => ?_)
          · have t32 : (f).toInt ≤ (v30).toInt := ww_le c32
            obtain ⟨v44, e44⟩ : ∃ yQ : Int32, yQ = b + 1 := ⟨_, rfl⟩
            refine lv_iinc (v := v44) (lv' := [(2, .int v44), (1, .int f), (0, .ref o)]) hx hb dX5_firstThrough_44 hl (k := 0) rfl (by rw [e44]; rfl) (by decide) rfl (fun ls hl => ?_)
            refine lv_goto (tgt := 6) hx hb dX5_firstThrough_47 (by decide) ?_
            have tb : v44.toInt = b.toInt + 1 := by rw [e44]; exact ww_inc t11
            exact ih6 f v44 (by omega) (by omega) (by omega) (by subst e30 e44; simp only [ff_firstThrough_go, if_neg c11, if_neg c20, if_pos c32] at hgo6; exact hgo6) ls (lv_sub hl [0, 1, 2] rfl)
          · have t32 : (v30).toInt < (f).toInt := ww_nle c32
            refine lv_aload_n hx hb dX5_firstThrough_35 rfl (lv_at hl 2 rfl) ?_
            refine mm_geta hx hb hts hown hK hW 12 rfl q1697 dX5_firstThrough_36 ?_
            refine lv_iload_n hx hb dX5_firstThrough_39 rfl (lv_at hl 0 rfl) ?_
            refine mm_iald hx hb hK hW 12 rfl (by have := hB.2; exact ww_in (by omega) (by omega)) dX5_firstThrough_40 ?_
            refine lv_iconst (v := 1) hx hb dX5_firstThrough_41 (by decide) ?_
            refine nv_isub hx hb dX5_firstThrough_42 (fun v42 e42 => ?_)
            refine lv_istore_n (lv' := [(1, .int v42), (2, .int b), (0, .ref o)]) hx hb dX5_firstThrough_43 rfl hl (by decide) rfl (fun ls hl => ?_)
            obtain ⟨v44, e44⟩ : ∃ yQ : Int32, yQ = b + 1 := ⟨_, rfl⟩
            refine lv_iinc (v := v44) (lv' := [(2, .int v44), (1, .int v42), (0, .ref o)]) hx hb dX5_firstThrough_44 hl (k := 1) rfl (by rw [e44]; rfl) (by decide) rfl (fun ls hl => ?_)
            refine lv_goto (tgt := 6) hx hb dX5_firstThrough_47 (by decide) ?_
            have tb : v44.toInt = b.toInt + 1 := by rw [e44]; exact ww_inc t11
            exact ih6 v42 v44 (by omega) (by omega) (by omega) (by subst e30 e42 e44; simp only [ff_firstThrough_go, if_neg c11, if_neg c20, if_neg c32] at hgo6; exact hgo6) ls (lv_sub hl [0, 1, 2] rfl)
  exact L6 121 1700 0 (by have := hB.2; show _ - 0 < _; omega) (by decide) hB.1 (by simp only [ff_firstThrough]) ls (lv_sub hl [0, 1, 2] rfl)

set_option maxHeartbeats 4000000 in
theorem mc_bore (lQ : Launch) (G : wm_G) (o : Nat) (S : mm_S) (E : mm_E) (h : Int32) (sp : Int32) (h0 : 0 ≤ h.toInt) (h1 : h.toInt < 120) (hT : iv_T S) : mm_Met lQ G o yX5_bore (ws_ yX5_bore cX5_bore 8 none) 1 S E [.int h, .int sp] (none) (ff_bore 61 S h sp) E := by
  refine mm_start (by decide +kernel) (Nat.le_of_ble_eq_true rfl) rfl (fun pQ eQ sQ mQ belowQ methQ cQ hx hb hml hr hlocks hts hown hK H hW hS ls hl => ?_)
  have hl : lv_has ls 8 [(0, .ref o), (1, .int h), (2, .int sp)] := hl
  generalize hlc : ([] : List Loc) = locs at hS ⊢
  have L0 : ∀ (fu0 : Nat) (S0 : mm_S) (H : Heap) (locs : List Loc), ((rd_ S0 9 h).toInt - (rd_ S0 10 h).toInt < fu0) → (iv_T S0) → (ff_bore fu0 S0 h sp = ff_bore 61 S h sp) → mm_W G o S0 E H → va_S (mm_F o) sQ.heap H locs → ∀ ls : Array Slot, lv_has ls 8 [(0, .ref o), (1, .int h), (2, .int sp)] → W pQ lQ eQ (wm_rm 1) sQ mQ (Value.ref o :: [.int h, .int sp]).toArray belowQ methQ cQ H locs 0 0 (MQ belowQ (wm_Q (fun vQ HQ => vQ = none ∧ mm_W G o (ff_bore 61 S h sp) E HQ) (mm_F o)) (Value.ref o :: [.int h, .int sp]).toArray sQ 0 0 (mm_F o)) (F0 mQ 0 ls []) := by
    intro fu0
    induction fu0 with
    | zero =>
      intro S0 H locs hm0 iT0 hgo0 hW hS ls hl
      obtain ⟨q1, q2, q3⟩ := iT0 h h0 h1
      exact absurd hm0 (by omega)
    | succ fu0 ih0 =>
      intro S0 H locs hm0 iT0 hgo0 hW hS ls hl
      obtain ⟨q1, q2, q3⟩ := iT0 h h0 h1
      refine lv_aload_n hx hb dX5_bore_0 rfl (lv_at hl 0 rfl) ?_
      refine mm_geta hx hb hts hown hK hW 10 rfl q1695 dX5_bore_1 ?_
      refine lv_iload_n hx hb dX5_bore_4 rfl (lv_at hl 1 rfl) ?_
      refine mm_iald hx hb hK hW 10 rfl (ww_in h0 h1) dX5_bore_5 ?_
      refine lv_aload_n hx hb dX5_bore_6 rfl (lv_at hl 0 rfl) ?_
      refine mm_geta hx hb hts hown hK hW 9 rfl q1694 dX5_bore_7 ?_
      refine lv_iload_n hx hb dX5_bore_10 rfl (lv_at hl 1 rfl) ?_
      refine mm_iald hx hb hK hW 9 rfl (ww_in h0 h1) dX5_bore_11 ?_
      refine lv_icmp_ge (tgt := 226) hx hb dX5_bore_12 (by decide) (fun c12 => ?_) (fun c12 => ?_)
      · have t12 : ((rd_ S0 9 h)).toInt ≤ ((rd_ S0 10 h)).toInt := ww_le c12
        refine mm_vret hx hb hr hlocks hW hS ?_ dX5_bore_226
        have hres : ff_bore 61 S h sp = S0 := by rw [← hgo0]; simp only [ff_bore, if_pos c12]
        exact ⟨hres.symm, rfl⟩
      · have t12 : ((rd_ S0 10 h)).toInt < ((rd_ S0 9 h)).toInt := ww_nle c12
        refine lv_aload_n hx hb dX5_bore_15 rfl (lv_at hl 0 rfl) ?_
        refine mm_geta hx hb hts hown hK hW 12 rfl q1697 dX5_bore_16 ?_
        refine lv_iload_n hx hb dX5_bore_19 rfl (lv_at hl 1 rfl) ?_
        refine mm_iald hx hb hK hW 12 rfl (ww_in h0 h1) dX5_bore_20 ?_
        refine lv_if_ne (tgt := 226) hx hb dX5_bore_21 (by decide) (fun c21 => ?_) (fun c21 => ?_)
        · skip
          refine mm_vret hx hb hr hlocks hW hS ?_ dX5_bore_226
          have hres : ff_bore 61 S h sp = S0 := by rw [← hgo0]; simp only [ff_bore, if_neg c12, if_neg c21]
          exact ⟨hres.symm, rfl⟩
        · skip
          have ty : (rd_ S0 10 h + 1).toInt = (rd_ S0 10 h).toInt + 1 := ww_inc t12
          refine lv_aload_n hx hb dX5_bore_24 rfl (lv_at hl 0 rfl) ?_
          refine mm_geta hx hb hts hown hK hW 10 rfl q1695 dX5_bore_25 ?_
          refine lv_iload_n hx hb dX5_bore_28 rfl (lv_at hl 1 rfl) ?_
          refine mm_iald hx hb hK hW 10 rfl (ww_in h0 h1) dX5_bore_29 ?_
          refine lv_iconst (v := 1) hx hb dX5_bore_30 (by decide) ?_
          refine nv_iadd hx hb dX5_bore_31 (fun v31 e31 => ?_)
          have n31 : v31 = fb_y S0 h := e31
          have ty1 : v31.toInt = (rd_ S0 10 h).toInt + 1 := by rw [e31]; exact ty
          refine lv_istore_n (lv' := [(3, .int v31), (0, .ref o), (1, .int h), (2, .int sp)]) hx hb dX5_bore_32 rfl hl (by decide) rfl (fun ls hl => ?_)
          refine lv_aload_n hx hb dX5_bore_33 rfl (lv_at hl 1 rfl) ?_
          refine mm_geta hx hb hts hown hK hW 8 rfl q1693 dX5_bore_34 ?_
          refine lv_iload_n hx hb dX5_bore_37 rfl (lv_at hl 2 rfl) ?_
          refine mm_iald hx hb hK hW 8 rfl (ww_in h0 h1) dX5_bore_38 ?_
          refine lv_aload_n hx hb dX5_bore_39 rfl (lv_at hl 1 rfl) ?_
          refine mm_geta hx hb hts hown hK hW 13 rfl q1698 dX5_bore_40 ?_
          refine lv_bipush (v := 61) hx hb dX5_bore_43 (by decide) ?_
          refine lv_iload_n hx hb dX5_bore_45 rfl (lv_at hl 2 rfl) ?_
          refine nv_imul hx hb dX5_bore_46 (fun v46 e46 => ?_)
          refine lv_iload_n hx hb dX5_bore_47 rfl (lv_at hl 0 rfl) ?_
          refine nv_iadd hx hb dX5_bore_48 (fun v48 e48 => ?_)
          refine mm_iald hx hb hK hW 13 rfl (by rw [e48, e46]; exact ix_61 h0 h1 (by omega) (by omega)) dX5_bore_49 ?_
          refine nv_iadd hx hb dX5_bore_50 (fun v50 e50 => ?_)
          refine lv_iconst (v := 0) hx hb dX5_bore_51 (by decide) ?_
          refine lv_bipush (v := 31) hx hb dX5_bore_52 (by decide) ?_
          refine pp_calli (As := [.int v50, .int 0, .int 31]) (rest := []) (n := 3) ⟨hx, hb, hml, hown, hts⟩ (mc_held lQ v50 0 31) (lw_S q2089 q2090 q92 q2091) (by decide +kernel) rfl ⟨Nat.le_of_ble_eq_true rfl, Nat.le_of_ble_eq_true rfl⟩ hl.1 rfl (Nat.le_of_ble_eq_true rfl) dX5_bore_54 ⟨Nat.le_of_ble_eq_true rfl, Nat.le_of_ble_eq_true rfl⟩ (fun v54 e54 => ?_)
          have n54 : v54 = fb_x S0 h := by rw [e54, e50, e48, e46, n31]; rfl
          obtain ⟨tx0, tx1⟩ : 0 ≤ v54.toInt ∧ v54.toInt ≤ 31 := by rw [n54]; exact fb_x_t S0 h
          refine lv_istore (lv' := [(4, .int v54), (3, .int v31), (0, .ref o), (1, .int h), (2, .int sp)]) hx hb dX5_bore_57 hl (by decide) rfl (fun ls hl => ?_)
          refine lv_bipush (v := 61) hx hb dX5_bore_59 (by decide) ?_
          refine lv_iload hx hb dX5_bore_61 (lv_at hl 0 rfl) ?_
          refine nv_imul hx hb dX5_bore_63 (fun v63 e63 => ?_)
          refine lv_iload_n hx hb dX5_bore_64 rfl (lv_at hl 1 rfl) ?_
          refine nv_iadd hx hb dX5_bore_65 (fun v65 e65 => ?_)
          have n65 : v65 = fb_c S0 h := by rw [e65, e63, n54, n31]; rfl
          refine lv_istore (lv' := [(5, .int v65), (4, .int v54), (3, .int v31), (0, .ref o), (1, .int h), (2, .int sp)]) hx hb dX5_bore_66 hl (by decide) rfl (fun ls hl => ?_)
          refine lv_aload_n hx hb dX5_bore_68 rfl (lv_at hl 3 rfl) ?_
          refine mm_geta hx hb hts hown hK hW 3 rfl q1688 dX5_bore_69 ?_
          refine lv_iload hx hb dX5_bore_72 (lv_at hl 0 rfl) ?_
          refine mm_zald hx hb hK hW 3 rfl (by rw [e65, e63]; exact ix_61c tx0 tx1 (by omega) (by omega)) dX5_bore_74 ?_
          refine wm_join (P := fun w93 : Int32 => w93 = (if rd_ S0 3 v65 = 0 then sp * (3 + rd_ S0 2 v65) else 0)) (j := 93) (rest := []) (ls := ls) (fun w93 ew93 => ?_) (fun J93 => ?_)
          · skip
            have n93 : w93 = fb_cost S0 h sp := by rw [ew93, n65]; rfl
            refine lv_istore (lv' := [(6, .int w93), (5, .int v65), (4, .int v54), (3, .int v31), (0, .ref o), (1, .int h), (2, .int sp)]) hx hb dX5_bore_93 hl (by decide) rfl (fun ls hl => ?_)
            refine lv_aload_n hx hb dX5_bore_95 rfl (lv_at hl 4 rfl) ?_
            refine mm_geta hx hb hts hown hK hW 11 rfl q1696 dX5_bore_96 ?_
            refine lv_iload_n hx hb dX5_bore_99 rfl (lv_at hl 5 rfl) ?_
            refine mm_iald hx hb hK hW 11 rfl (ww_in h0 h1) dX5_bore_100 ?_
            refine lv_iload hx hb dX5_bore_101 (lv_at hl 0 rfl) ?_
            refine lv_icmp_ge (tgt := 107) hx hb dX5_bore_103 (by decide) (fun c103 => ?_) (fun c103 => ?_)
            · have t103 : (w93).toInt ≤ ((rd_ S0 11 h)).toInt := ww_le c103
              refine lv_aload_n hx hb dX5_bore_107 rfl (lv_at hl 4 rfl) ?_
              refine mm_geta hx hb hts hown hK hW 11 rfl q1696 dX5_bore_108 ?_
              refine lv_iload_n hx hb dX5_bore_111 rfl (lv_at hl 5 rfl) ?_
              refine lv_dup2_11 hx hb dX5_bore_112 rfl rfl ?_
              refine mm_iald hx hb hK hW 11 rfl (ww_in h0 h1) dX5_bore_113 ?_
              refine lv_iload hx hb dX5_bore_114 (lv_at hl 0 rfl) ?_
              refine nv_isub hx hb dX5_bore_116 (fun v116 e116 => ?_)
              refine mm_iast hx hb hK hW hS 11 rfl (ww_in h0 h1) dX5_bore_117 (fun S117 H locs f117 hW hS => ?_)
              refine lv_aload_n hx hb dX5_bore_118 rfl (lv_at hl 4 rfl) ?_
              refine mm_geta hx hb hts hown hK hW 10 rfl q1695 dX5_bore_119 ?_
              refine lv_iload_n hx hb dX5_bore_122 rfl (lv_at hl 5 rfl) ?_
              refine lv_iload_n hx hb dX5_bore_123 rfl (lv_at hl 3 rfl) ?_
              refine mm_iast hx hb hK hW hS 10 rfl (ww_in h0 h1) dX5_bore_124 (fun S124 H locs f124 hW hS => ?_)
              refine lv_aload_n hx hb dX5_bore_125 rfl (lv_at hl 4 rfl) ?_
              refine mm_geta hx hb hts hown hK hW 8 rfl q1693 dX5_bore_126 ?_
              refine lv_iload_n hx hb dX5_bore_129 rfl (lv_at hl 5 rfl) ?_
              refine lv_iload hx hb dX5_bore_130 (lv_at hl 2 rfl) ?_
              refine mm_iast hx hb hK hW hS 8 rfl (ww_in h0 h1) dX5_bore_132 (fun S132 H locs f132 hW hS => ?_)
              have nS1 : S132 = fb_S1 S0 h sp := by rw [f132, f124, f117, e116, n93, n31, n54]; rfl
              refine lv_aload_n hx hb dX5_bore_133 rfl (lv_at hl 4 rfl) ?_
              refine mm_geti hx hb hts hown hK hW 21 rfl (by decide) q1706 dX5_bore_134 ?_
              refine wm_join (P := fun w169 : Int32 => w169 = fb_there S132 v54 v31) (j := 169) (rest := []) (ls := ls) (fun w169 ew169 => ?_) (fun J169 => ?_)
              · skip
                have n169 : w169 = fb_there (fb_S1 S0 h sp) (fb_x S0 h) (fb_y S0 h) := by rw [ew169, nS1, n54, n31]
                refine lv_istore (lv' := [(7, .int w169), (6, .int w93), (5, .int v65), (4, .int v54), (3, .int v31), (0, .ref o), (1, .int h), (2, .int sp)]) hx hb dX5_bore_169 hl (by decide) rfl (fun ls hl => ?_)
                refine lv_aload_n hx hb dX5_bore_171 rfl (lv_at hl 5 rfl) ?_
                refine mm_geta hx hb hts hown hK hW 14 rfl q1699 dX5_bore_172 ?_
                refine lv_bipush (v := 61) hx hb dX5_bore_175 (by decide) ?_
                refine lv_iload_n hx hb dX5_bore_177 rfl (lv_at hl 6 rfl) ?_
                refine nv_imul hx hb dX5_bore_178 (fun v178 e178 => ?_)
                refine lv_iload_n hx hb dX5_bore_179 rfl (lv_at hl 4 rfl) ?_
                refine nv_iadd hx hb dX5_bore_180 (fun v180 e180 => ?_)
                refine lv_iload hx hb dX5_bore_181 (lv_at hl 0 rfl) ?_
                refine wm_join (P := fun w205 : Int32 => w205 = fb_met S132 v65 w169) (j := 205) (rest := [.int v180, .ref (o + 12)]) (ls := ls) (fun w205 ew205 => ?_) (fun J205 => ?_)
                · skip
                  refine mm_iast hx hb hK hW hS 14 rfl (by rw [e180, e178]; exact ix_61 h0 h1 (by omega) (by omega)) dX5_bore_205 (fun S205 H locs f205 hW hS => ?_)
                  have nS2 : S205 = fb_S2 S0 h sp := by rw [f205, e180, e178, ew205, n169, nS1, n31, n65]; rfl
                  refine lv_iload hx hb dX5_bore_206 (lv_at hl 0 rfl) ?_
                  refine lv_if_eq (tgt := 223) hx hb dX5_bore_208 (by decide) (fun c208 => ?_) (fun c208 => ?_)
                  · skip
                    refine lv_goto (tgt := 0) hx hb dX5_bore_223 (by decide) ?_
                    have hs : S205 = fb_S3 S0 h sp := by
                      unfold fb_S3
                      first
                      | rw [if_pos (by rw [← n169]; exact c208)]; exact nS2
                      | rw [if_neg (by rw [← n169]; exact c208), f222, e221, nS2]
                    exact ih0 S205 H locs (by rw [hs, fb_S3_9, fb_S3_10, if_pos rfl, fb_y_t iT0 h0 h1 t12]; omega) (by rw [hs]; exact fb_iv sp iT0 h0 h1 t12) (by rw [hs]; simp only [ff_bore, if_neg c12, if_pos c21, if_pos (show fb_cost S0 h sp ≤ rd_ S0 11 h from by rw [← n93]; exact c103)] at hgo0; exact hgo0) hW hS ls (lv_sub hl [5, 6, 7] rfl)
                  · skip
                    refine lv_aload_n hx hb dX5_bore_211 rfl (lv_at hl 5 rfl) ?_
                    refine mm_geta hx hb hts hown hK hW 12 rfl q1697 dX5_bore_212 ?_
                    refine lv_iload_n hx hb dX5_bore_215 rfl (lv_at hl 6 rfl) ?_
                    refine lv_aload_n hx hb dX5_bore_216 rfl (lv_at hl 5 rfl) ?_
                    refine mm_geti hx hb hts hown hK hW 1 rfl (by decide) q1686 dX5_bore_217 ?_
                    refine lv_iconst (v := 1) hx hb dX5_bore_220 (by decide) ?_
                    refine nv_iadd hx hb dX5_bore_221 (fun v221 e221 => ?_)
                    refine mm_iast hx hb hK hW hS 12 rfl (ww_in h0 h1) dX5_bore_222 (fun S222 H locs f222 hW hS => ?_)
                    refine lv_goto (tgt := 0) hx hb dX5_bore_223 (by decide) ?_
                    have hs : S222 = fb_S3 S0 h sp := by
                      unfold fb_S3
                      first
                      | rw [if_pos (by rw [← n169]; exact c208)]; exact nS2
                      | rw [if_neg (by rw [← n169]; exact c208), f222, e221, nS2]
                    exact ih0 S222 H locs (by rw [hs, fb_S3_9, fb_S3_10, if_pos rfl, fb_y_t iT0 h0 h1 t12]; omega) (by rw [hs]; exact fb_iv sp iT0 h0 h1 t12) (by rw [hs]; simp only [ff_bore, if_neg c12, if_pos c21, if_pos (show fb_cost S0 h sp ≤ rd_ S0 11 h from by rw [← n93]; exact c103)] at hgo0; exact hgo0) hW hS ls (lv_sub hl [5, 6, 7] rfl)
                refine lv_if_eq (tgt := 190) hx hb dX5_bore_183 (by decide) (fun c183 => ?_) (fun c183 => ?_)
                · skip
                  refine lv_aload_n hx hb dX5_bore_190 rfl (lv_at hl 5 rfl) ?_
                  refine mm_geta hx hb hts hown hK hW 3 rfl q1688 dX5_bore_191 ?_
                  refine lv_iload hx hb dX5_bore_194 (lv_at hl 2 rfl) ?_
                  refine mm_zald hx hb hK hW 3 rfl (by rw [e65, e63]; exact ix_61c tx0 tx1 (by omega) (by omega)) dX5_bore_196 ?_
                  refine lv_if_eq (tgt := 204) hx hb dX5_bore_197 (by decide) (fun c197 => ?_) (fun c197 => ?_)
                  · skip
                    refine lv_iconst (v := 0) hx hb dX5_bore_204 (by decide) ?_
                    exact J205 _ (by simp only [if_neg c12, if_pos c21, if_pos c103, if_pos c183, if_pos c197, fb_met])
                  · skip
                    refine lv_iconst (v := 1) hx hb dX5_bore_200 (by decide) ?_
                    refine lv_goto (tgt := 205) hx hb dX5_bore_201 (by decide) ?_
                    exact J205 _ (by simp only [if_neg c12, if_pos c21, if_pos c103, if_pos c183, if_neg c197, fb_met])
                · skip
                  refine lv_iconst (v := 2) hx hb dX5_bore_186 (by decide) ?_
                  refine lv_goto (tgt := 205) hx hb dX5_bore_187 (by decide) ?_
                  exact J205 _ (by simp only [if_neg c12, if_pos c21, if_pos c103, if_neg c183, fb_met])
              refine lv_if_lt (tgt := 168) hx hb dX5_bore_137 (by decide) (fun c137 => ?_) (fun c137 => ?_)
              · have t137 : ((fd_ S132 21)).toInt < 0 := ww_lt c137
                refine lv_iconst (v := 0) hx hb dX5_bore_168 (by decide) ?_
                exact J169 _ (by subst e31 e46 e48 e50 e54 e63 e65 ew93 e116 f117 f124 f132; simp only [if_neg c12, if_pos c21, if_pos c103, if_pos c137, fb_there])
              · have t137 : 0 ≤ ((fd_ S132 21)).toInt := ww_nlt c137
                refine lv_iload_n hx hb dX5_bore_140 rfl (lv_at hl 3 rfl) ?_
                refine lv_aload_n hx hb dX5_bore_141 rfl (lv_at hl 4 rfl) ?_
                refine mm_geti hx hb hts hown hK hW 24 rfl (by decide) q1709 dX5_bore_142 ?_
                refine lv_icmp_ne (tgt := 168) hx hb dX5_bore_145 (by decide) (fun c145 => ?_) (fun c145 => ?_)
                · skip
                  refine lv_iconst (v := 0) hx hb dX5_bore_168 (by decide) ?_
                  exact J169 _ (by subst e31 e46 e48 e50 e54 e63 e65 ew93 e116 f117 f124 f132; simp only [if_neg c12, if_pos c21, if_pos c103, if_neg c137, if_neg c145, fb_there])
                · skip
                  refine lv_iload hx hb dX5_bore_148 (lv_at hl 2 rfl) ?_
                  refine lv_aload_n hx hb dX5_bore_150 rfl (lv_at hl 4 rfl) ?_
                  refine mm_geti hx hb hts hown hK hW 22 rfl (by decide) q1707 dX5_bore_151 ?_
                  refine lv_aload_n hx hb dX5_bore_154 rfl (lv_at hl 4 rfl) ?_
                  refine mm_geti hx hb hts hown hK hW 23 rfl (by decide) q1708 dX5_bore_155 ?_
                  refine pp_calli (As := [.int v54, .int (fd_ S132 22), .int (fd_ S132 23)]) (rest := []) (n := 3) ⟨hx, hb, hml, hown, hts⟩ (mc_in lQ v54 (fd_ S132 22) (fd_ S132 23)) (lw_S q1979 q1980 q92 q1981) (by decide +kernel) rfl ⟨Nat.le_of_ble_eq_true rfl, Nat.le_of_ble_eq_true rfl⟩ hl.1 rfl (Nat.le_of_ble_eq_true rfl) dX5_bore_158 ⟨Nat.le_of_ble_eq_true rfl, Nat.le_of_ble_eq_true rfl⟩ (fun v158 e158 => ?_)
                  refine lv_if_eq (tgt := 168) hx hb dX5_bore_161 (by decide) (fun c161 => ?_) (fun c161 => ?_)
                  · skip
                    refine lv_iconst (v := 0) hx hb dX5_bore_168 (by decide) ?_
                    exact J169 _ (by subst e31 e46 e48 e50 e54 e63 e65 ew93 e116 f117 f124 f132 e158; simp only [if_neg c12, if_pos c21, if_pos c103, if_neg c137, if_pos c145, if_pos c161, fb_there])
                  · skip
                    refine lv_iconst (v := 1) hx hb dX5_bore_164 (by decide) ?_
                    refine lv_goto (tgt := 169) hx hb dX5_bore_165 (by decide) ?_
                    exact J169 _ (by subst e31 e46 e48 e50 e54 e63 e65 ew93 e116 f117 f124 f132 e158; simp only [if_neg c12, if_pos c21, if_pos c103, if_neg c137, if_pos c145, if_neg c161, fb_there])
            · have t103 : ((rd_ S0 11 h)).toInt < (w93).toInt := ww_nle c103
              refine mm_vret hx hb hr hlocks hW hS ?_ dX5_bore_106
              have hres : ff_bore 61 S h sp = S0 := by rw [← hgo0]; simp only [ff_bore, if_neg c12, if_pos c21, if_neg (show ¬ fb_cost S0 h sp ≤ rd_ S0 11 h from by rw [← n93]; exact c103)]
              exact ⟨hres.symm, rfl⟩
          refine lv_if_eq (tgt := 82) hx hb dX5_bore_75 (by decide) (fun c75 => ?_) (fun c75 => ?_)
          · skip
            refine lv_iload_n hx hb dX5_bore_82 rfl (lv_at hl 5 rfl) ?_
            refine lv_iconst (v := 3) hx hb dX5_bore_83 (by decide) ?_
            refine lv_aload_n hx hb dX5_bore_84 rfl (lv_at hl 3 rfl) ?_
            refine mm_geta hx hb hts hown hK hW 2 rfl q1687 dX5_bore_85 ?_
            refine lv_iload hx hb dX5_bore_88 (lv_at hl 0 rfl) ?_
            refine mm_iald hx hb hK hW 2 rfl (by rw [e65, e63]; exact ix_61c tx0 tx1 (by omega) (by omega)) dX5_bore_90 ?_
            refine nv_iadd hx hb dX5_bore_91 (fun v91 e91 => ?_)
            refine nv_imul hx hb dX5_bore_92 (fun v92 e92 => ?_)
            exact J93 _ (by subst e31 e46 e48 e50 e54 e63 e65 e91 e92; simp only [if_neg c12, if_pos c21, if_pos c75])
          · skip
            refine lv_iconst (v := 0) hx hb dX5_bore_78 (by decide) ?_
            refine lv_goto (tgt := 93) hx hb dX5_bore_79 (by decide) ?_
            exact J93 _ (by subst e31 e46 e48 e50 e54 e63 e65; simp only [if_neg c12, if_pos c21, if_neg c75])
  exact L0 61 S H locs (by obtain ⟨q1, q2, q3⟩ := hT h h0 h1; omega) hT (rfl) hW hS ls (lv_sub hl [0, 1, 2] rfl)

set_option maxHeartbeats 4000000 in
theorem mc_spread (lQ : Launch) (G : wm_G) (o : Nat) (S : mm_S) (E : mm_E) (v : Int32) : mm_Met lQ G o yX5_spread (ws_ yX5_spread cX5_spread 3 (some .int)) 1 S E [.int v] (some (.int (ff_spread S v).1)) (ff_spread S v).2 E := by
  refine mm_start (by decide +kernel) (Nat.le_of_ble_eq_true rfl) rfl (fun pQ eQ sQ mQ belowQ methQ cQ hx hb hml hr hlocks hts hown hK H hW hS ls hl => ?_)
  have hl : lv_has ls 3 [(0, .ref o), (1, .int v)] := hl
  generalize hlc : ([] : List Loc) = locs at hS ⊢
  refine lv_iload_n hx hb dX5_spread_0 rfl (lv_at hl 1 rfl) ?_
  refine lv_iconst (v := 0) hx hb dX5_spread_1 (by decide) ?_
  refine lv_bipush (v := 8) hx hb dX5_spread_2 (by decide) ?_
  refine pp_calli (As := [.int v, .int 0, .int 8]) (rest := []) (n := 3) ⟨hx, hb, hml, hown, hts⟩ (mc_in lQ v 0 8) (lw_S q1979 q1980 q92 q1981) (by decide +kernel) rfl ⟨Nat.le_of_ble_eq_true rfl, Nat.le_of_ble_eq_true rfl⟩ hl.1 rfl (Nat.le_of_ble_eq_true rfl) dX5_spread_4 ⟨Nat.le_of_ble_eq_true rfl, Nat.le_of_ble_eq_true rfl⟩ (fun v4 e4 => ?_)
  refine lv_if_ne (tgt := 12) hx hb dX5_spread_7 (by decide) (fun c7 => ?_) (fun c7 => ?_)
  · skip
    refine lv_aload_n hx hb dX5_spread_12 rfl (lv_at hl 0 rfl) ?_
    refine mm_geti hx hb hts hown hK hW 29 rfl (by decide) q1714 dX5_spread_13 ?_
    refine lv_istore_n (lv' := [(2, .int (fd_ S 29)), (0, .ref o), (1, .int v)]) hx hb dX5_spread_16 rfl hl (by decide) rfl (fun ls hl => ?_)
    refine lv_aload_n hx hb dX5_spread_17 rfl (lv_at hl 1 rfl) ?_
    refine lv_iload_n hx hb dX5_spread_18 rfl (lv_at hl 2 rfl) ?_
    refine mm_puti hx hb hts hown hK hW hS 29 rfl (by decide) rfl rfl rfl q1714 dX5_spread_19 (fun S19 H locs f19 hW hS => ?_)
    refine lv_iload_n hx hb dX5_spread_22 rfl (lv_at hl 0 rfl) ?_
    refine mm_iret hx hb hr hlocks hW hS ?_ dX5_spread_23
    have hres : ff_spread S v = ((fd_ S 29), S19) := by subst e4 f19; simp only [ff_spread, if_neg c7]
    exact ⟨by rw [hres], by rw [hres], rfl⟩
  · skip
    refine lv_iconst (v := (-1)) hx hb dX5_spread_10 (by decide) ?_
    refine mm_iret hx hb hr hlocks hW hS ?_ dX5_spread_11
    have hres : ff_spread S v = ((-1), S) := by subst e4; simp only [ff_spread, if_pos c7]
    exact ⟨by rw [hres], by rw [hres], rfl⟩

set_option maxHeartbeats 4000000 in
theorem mc_down4 (lQ : Launch) (v : Int32) : pp_Met lQ yX5_down4 (ws_ yX5_down4 cX5_down4 1 (some .int)) 0 [.int v] (some (.int (ff_down4 v))) := by
  refine pp_start (own := RX5) (by decide +kernel) (Nat.le_of_ble_eq_true rfl) rfl (fun pQ eQ sQ mQ belowQ methQ cQ hx hb hml hr hlocks hts hown ls hl => ?_)
  have hl : lv_has ls 1 [(0, .int v)] := hl
  refine lv_iload_n hx hb dX5_down4_0 rfl (lv_at hl 0 rfl) ?_
  refine lv_if_lt (tgt := 10) hx hb dX5_down4_1 (by decide) (fun c1 => ?_) (fun c1 => ?_)
  · have t1 : (v).toInt < 0 := ww_lt c1
    refine lv_iconst (v := 3) hx hb dX5_down4_10 (by decide) ?_
    refine lv_iload_n hx hb dX5_down4_11 rfl (lv_at hl 0 rfl) ?_
    refine nv_isub hx hb dX5_down4_12 (fun v12 e12 => ?_)
    refine lv_iconst (v := 4) hx hb dX5_down4_13 (by decide) ?_
    refine nv_idiv hx hb dX5_down4_14 (by decide) (fun v14 e14 => ?_)
    refine nv_ineg hx hb dX5_down4_15 (fun v15 e15 => ?_)
    refine pp_iret hx hb hr hlocks ?_ dX5_down4_16
    have hres : ff_down4 v = v15 := by subst e12 e14 e15; simp only [ff_down4, if_pos c1]
    rw [hres]
  · have t1 : 0 ≤ (v).toInt := ww_nlt c1
    refine lv_iload_n hx hb dX5_down4_4 rfl (lv_at hl 0 rfl) ?_
    refine lv_iconst (v := 4) hx hb dX5_down4_5 (by decide) ?_
    refine nv_idiv hx hb dX5_down4_6 (by decide) (fun v6 e6 => ?_)
    refine lv_goto (tgt := 16) hx hb dX5_down4_7 (by decide) ?_
    refine pp_iret hx hb hr hlocks ?_ dX5_down4_16
    have hres : ff_down4 v = v6 := by subst e6; simp only [ff_down4, if_neg c1]
    rw [hres]

set_option maxHeartbeats 4000000 in
theorem mc_canBeAt (lQ : Launch) (G : wm_G) (o : Nat) (S : mm_S) (E : mm_E) (h : Int32) (y : Int32) (w : Int32) (h0 : 0 ≤ h.toInt) (h1 : h.toInt < 120) (y0 : 0 ≤ y.toInt) (y1 : y.toInt ≤ 60) : mm_Met lQ G o yX5_canBeAt (ws_ yX5_canBeAt cX5_canBeAt 7 (some .int)) 1 S E [.int h, .int y, .int w] (some (.int (ff_canBeAt S h y w))) S E := by
  refine mm_start (by decide +kernel) (Nat.le_of_ble_eq_true rfl) rfl (fun pQ eQ sQ mQ belowQ methQ cQ hx hb hml hr hlocks hts hown hK H hW hS ls hl => ?_)
  have hl : lv_has ls 7 [(0, .ref o), (1, .int h), (2, .int y), (3, .int w)] := hl
  generalize hlc : ([] : List Loc) = locs at hS ⊢
  refine lv_iconst (v := 4) hx hb dX5_canBeAt_0 (by decide) ?_
  refine lv_aload_n hx hb dX5_canBeAt_1 rfl (lv_at hl 0 rfl) ?_
  refine mm_geta hx hb hts hown hK hW 6 rfl q1691 dX5_canBeAt_2 ?_
  refine lv_iload_n hx hb dX5_canBeAt_5 rfl (lv_at hl 1 rfl) ?_
  refine mm_iald hx hb hK hW 6 rfl (ww_in h0 h1) dX5_canBeAt_6 ?_
  refine nv_imul hx hb dX5_canBeAt_7 (fun v7 e7 => ?_)
  refine lv_istore (lv' := [(4, .int v7), (0, .ref o), (1, .int h), (2, .int y), (3, .int w)]) hx hb dX5_canBeAt_8 hl (by decide) rfl (fun ls hl => ?_)
  refine lv_iconst (v := 1) hx hb dX5_canBeAt_10 (by decide) ?_
  refine lv_istore (lv' := [(5, .int 1), (4, .int v7), (0, .ref o), (1, .int h), (2, .int y), (3, .int w)]) hx hb dX5_canBeAt_11 hl (by decide) rfl (fun ls hl => ?_)
  have L13 : ∀ (fu13 : Nat) (s : Int32) (k : Int32), (y.toInt - k.toInt + 1 < fu13) → (1 ≤ k.toInt) → (k.toInt ≤ y.toInt + 1) → (ff_cb_go fu13 S h y w s k = ff_cb S h y w) → ∀ ls : Array Slot, lv_has ls 7 [(5, .int k), (4, .int s), (0, .ref o), (1, .int h), (2, .int y), (3, .int w)] → W pQ lQ eQ (wm_rm 1) sQ mQ (Value.ref o :: [.int h, .int y, .int w]).toArray belowQ methQ cQ H locs 0 0 (MQ belowQ (wm_Q (fun vQ HQ => vQ = some (.int (ff_canBeAt S h y w)) ∧ mm_W G o S E HQ) (mm_F o)) (Value.ref o :: [.int h, .int y, .int w]).toArray sQ 0 0 (mm_F o)) (F0 mQ 13 ls []) := by
    intro fu13
    induction fu13 with
    | zero =>
      intro s k hm13 i013 i113 hgo13 ls hl
      exact absurd hm13 (by omega)
    | succ fu13 ih13 =>
      intro s k hm13 i013 i113 hgo13 ls hl
      refine lv_iload hx hb dX5_canBeAt_13 (lv_at hl 0 rfl) ?_
      refine lv_iload_n hx hb dX5_canBeAt_15 rfl (lv_at hl 4 rfl) ?_
      refine lv_icmp_gt (tgt := 87) hx hb dX5_canBeAt_16 (by decide) (fun c16 => ?_) (fun c16 => ?_)
      · have t16 : (y).toInt < (k).toInt := ww_lt c16
        have hs : s = ff_cb S h y w := by simp only [ff_cb_go, if_pos c16] at hgo13; exact hgo13
        refine lv_iload_n hx hb dX5_canBeAt_87 rfl (lv_at hl 5 rfl) ?_
        refine lv_if_eq (tgt := 101) hx hb dX5_canBeAt_88 (by decide) (fun c88 => ?_) (fun c88 => ?_)
        · skip
          refine lv_iload hx hb dX5_canBeAt_101 (lv_at hl 1 rfl) ?_
          refine pp_calli (As := [.int s]) (rest := []) (n := 1) ⟨hx, hb, hml, hown, hts⟩ (mc_down4 lQ s) (lw_S q2086 q2087 q92 q2088) (by decide +kernel) rfl ⟨Nat.le_of_ble_eq_true rfl, Nat.le_of_ble_eq_true rfl⟩ hl.1 rfl (Nat.le_of_ble_eq_true rfl) dX5_canBeAt_103 ⟨Nat.le_of_ble_eq_true rfl, Nat.le_of_ble_eq_true rfl⟩ (fun v103 e103 => ?_)
          refine lv_iconst (v := 0) hx hb dX5_canBeAt_106 (by decide) ?_
          refine lv_bipush (v := 31) hx hb dX5_canBeAt_107 (by decide) ?_
          refine pp_calli (As := [.int v103, .int 0, .int 31]) (rest := []) (n := 3) ⟨hx, hb, hml, hown, hts⟩ (mc_held lQ v103 0 31) (lw_S q2089 q2090 q92 q2091) (by decide +kernel) rfl ⟨Nat.le_of_ble_eq_true rfl, Nat.le_of_ble_eq_true rfl⟩ hl.1 rfl (Nat.le_of_ble_eq_true rfl) dX5_canBeAt_109 ⟨Nat.le_of_ble_eq_true rfl, Nat.le_of_ble_eq_true rfl⟩ (fun v109 e109 => ?_)
          refine mm_iret hx hb hr hlocks hW hS ?_ dX5_canBeAt_112
          have hres : ff_canBeAt S h y w = v109 := by subst e7 hs e103 e109; simp only [ff_canBeAt, if_pos c16, if_pos c88]
          exact ⟨by rw [hres], rfl, rfl⟩
        · skip
          refine lv_iload hx hb dX5_canBeAt_91 (lv_at hl 1 rfl) ?_
          refine nv_ineg hx hb dX5_canBeAt_93 (fun v93 e93 => ?_)
          refine pp_calli (As := [.int v93]) (rest := []) (n := 1) ⟨hx, hb, hml, hown, hts⟩ (mc_down4 lQ v93) (lw_S q2086 q2087 q92 q2088) (by decide +kernel) rfl ⟨Nat.le_of_ble_eq_true rfl, Nat.le_of_ble_eq_true rfl⟩ hl.1 rfl (Nat.le_of_ble_eq_true rfl) dX5_canBeAt_94 ⟨Nat.le_of_ble_eq_true rfl, Nat.le_of_ble_eq_true rfl⟩ (fun v94 e94 => ?_)
          refine nv_ineg hx hb dX5_canBeAt_97 (fun v97 e97 => ?_)
          refine lv_goto (tgt := 106) hx hb dX5_canBeAt_98 (by decide) ?_
          refine lv_iconst (v := 0) hx hb dX5_canBeAt_106 (by decide) ?_
          refine lv_bipush (v := 31) hx hb dX5_canBeAt_107 (by decide) ?_
          refine pp_calli (As := [.int v97, .int 0, .int 31]) (rest := []) (n := 3) ⟨hx, hb, hml, hown, hts⟩ (mc_held lQ v97 0 31) (lw_S q2089 q2090 q92 q2091) (by decide +kernel) rfl ⟨Nat.le_of_ble_eq_true rfl, Nat.le_of_ble_eq_true rfl⟩ hl.1 rfl (Nat.le_of_ble_eq_true rfl) dX5_canBeAt_109 ⟨Nat.le_of_ble_eq_true rfl, Nat.le_of_ble_eq_true rfl⟩ (fun v109 e109 => ?_)
          refine mm_iret hx hb hr hlocks hW hS ?_ dX5_canBeAt_112
          have hres : ff_canBeAt S h y w = v109 := by subst e7 hs e93 e94 e97 e109; simp only [ff_canBeAt, if_pos c16, if_neg c88]
          exact ⟨by rw [hres], rfl, rfl⟩
      · have t16 : (k).toInt ≤ (y).toInt := ww_nlt c16
        refine lv_bipush (v := 61) hx hb dX5_canBeAt_19 (by decide) ?_
        refine lv_iload_n hx hb dX5_canBeAt_21 rfl (lv_at hl 3 rfl) ?_
        refine nv_imul hx hb dX5_canBeAt_22 (fun v22 e22 => ?_)
        refine lv_iload hx hb dX5_canBeAt_23 (lv_at hl 0 rfl) ?_
        refine nv_iadd hx hb dX5_canBeAt_25 (fun v25 e25 => ?_)
        refine lv_istore (lv' := [(6, .int v25), (5, .int k), (4, .int s), (0, .ref o), (1, .int h), (2, .int y), (3, .int w)]) hx hb dX5_canBeAt_26 hl (by decide) rfl (fun ls hl => ?_)
        refine lv_iload hx hb dX5_canBeAt_28 (lv_at hl 2 rfl) ?_
        refine lv_aload_n hx hb dX5_canBeAt_30 rfl (lv_at hl 3 rfl) ?_
        refine mm_geta hx hb hts hown hK hW 15 rfl q1700 dX5_canBeAt_31 ?_
        refine lv_iload hx hb dX5_canBeAt_34 (lv_at hl 0 rfl) ?_
        refine mm_zald hx hb hK hW 15 rfl (by rw [e25, e22]; exact ix_61 h0 h1 (by omega) (by omega)) dX5_canBeAt_36 ?_
        refine wm_join (P := fun w78 : Int32 => w78 = (if rd_ S 15 v25 = 0 then (if w = 0 then -8 else 8) else rd_ S 16 v25 + (if w = 0 then -(fd_ S 29) else fd_ S 29))) (j := 78) (rest := [.int s]) (ls := ls) (fun w78 ew78 => ?_) (fun J78 => ?_)
        · skip
          refine nv_iadd hx hb dX5_canBeAt_78 (fun v78 e78 => ?_)
          refine lv_istore (lv' := [(4, .int v78), (6, .int v25), (5, .int k), (0, .ref o), (1, .int h), (2, .int y), (3, .int w)]) hx hb dX5_canBeAt_79 hl (by decide) rfl (fun ls hl => ?_)
          obtain ⟨v81, e81⟩ : ∃ yQ : Int32, yQ = k + 1 := ⟨_, rfl⟩
          refine lv_iinc (v := v81) (lv' := [(5, .int v81), (4, .int v78), (6, .int v25), (0, .ref o), (1, .int h), (2, .int y), (3, .int w)]) hx hb dX5_canBeAt_81 hl (k := 2) rfl (by rw [e81]; rfl) (by decide) rfl (fun ls hl => ?_)
          refine lv_goto (tgt := 13) hx hb dX5_canBeAt_84 (by decide) ?_
          have tb : v81.toInt = k.toInt + 1 := by rw [e81]; exact ww_inc' (by omega)
          exact ih13 v78 v81 (by omega) (by omega) (by omega) (by subst e22 e25 ew78 e78 e81; simp only [ff_cb_go, if_neg c16] at hgo13; exact hgo13) ls (lv_sub hl [0, 1, 3, 4, 5, 6] rfl)
        refine lv_if_eq (tgt := 67) hx hb dX5_canBeAt_37 (by decide) (fun c37 => ?_) (fun c37 => ?_)
        · skip
          refine lv_iload_n hx hb dX5_canBeAt_67 rfl (lv_at hl 6 rfl) ?_
          refine lv_if_eq (tgt := 76) hx hb dX5_canBeAt_68 (by decide) (fun c68 => ?_) (fun c68 => ?_)
          · skip
            refine lv_bipush (v := (-8)) hx hb dX5_canBeAt_76 (by decide) ?_
            exact J78 _ (by subst e22 e25; simp only [if_neg c16, if_pos c37, if_pos c68])
          · skip
            refine lv_bipush (v := 8) hx hb dX5_canBeAt_71 (by decide) ?_
            refine lv_goto (tgt := 78) hx hb dX5_canBeAt_73 (by decide) ?_
            exact J78 _ (by subst e22 e25; simp only [if_neg c16, if_pos c37, if_neg c68])
        · skip
          refine lv_aload_n hx hb dX5_canBeAt_40 rfl (lv_at hl 3 rfl) ?_
          refine mm_geta hx hb hts hown hK hW 16 rfl q1701 dX5_canBeAt_41 ?_
          refine lv_iload hx hb dX5_canBeAt_44 (lv_at hl 0 rfl) ?_
          refine mm_iald hx hb hK hW 16 rfl (by rw [e25, e22]; exact ix_61 h0 h1 (by omega) (by omega)) dX5_canBeAt_46 ?_
          refine lv_iload_n hx hb dX5_canBeAt_47 rfl (lv_at hl 6 rfl) ?_
          refine wm_join (P := fun w63 : Int32 => w63 = (if w = 0 then -(fd_ S 29) else fd_ S 29)) (j := 63) (rest := [.int (rd_ S 16 v25), .int s]) (ls := ls) (fun w63 ew63 => ?_) (fun J63 => ?_)
          · skip
            refine nv_iadd hx hb dX5_canBeAt_63 (fun v63 e63 => ?_)
            refine lv_goto (tgt := 78) hx hb dX5_canBeAt_64 (by decide) ?_
            exact J78 _ (by subst e22 e25 ew63 e63; simp only [if_neg c16, if_neg c37])
          refine lv_if_eq (tgt := 58) hx hb dX5_canBeAt_48 (by decide) (fun c48 => ?_) (fun c48 => ?_)
          · skip
            refine lv_aload_n hx hb dX5_canBeAt_58 rfl (lv_at hl 3 rfl) ?_
            refine mm_geti hx hb hts hown hK hW 29 rfl (by decide) q1714 dX5_canBeAt_59 ?_
            refine nv_ineg hx hb dX5_canBeAt_62 (fun v62 e62 => ?_)
            exact J63 _ (by subst e22 e25 e62; simp only [if_neg c16, if_neg c37, if_pos c48])
          · skip
            refine lv_aload_n hx hb dX5_canBeAt_51 rfl (lv_at hl 3 rfl) ?_
            refine mm_geti hx hb hts hown hK hW 29 rfl (by decide) q1714 dX5_canBeAt_52 ?_
            refine lv_goto (tgt := 63) hx hb dX5_canBeAt_55 (by decide) ?_
            exact J63 _ (by subst e22 e25; simp only [if_neg c16, if_neg c37, if_neg c48])
  exact L13 61 v7 1 (by show _ - 1 + 1 < (61 : Int); omega) (by decide) (by show 1 ≤ _; omega) (by subst e7; simp only [ff_cb]) ls (lv_sub hl [0, 1, 2, 3, 4, 5] rfl)

set_option maxHeartbeats 4000000 in
theorem mc_canBe (lQ : Launch) (G : wm_G) (o : Nat) (S : mm_S) (E : mm_E) (h : Int32) (y : Int32) (w : Int32) (hB : iv_B S) (hT : iv_T S) : mm_Met lQ G o yX5_canBe (ws_ yX5_canBe cX5_canBe 4 (some .int)) 3 S E [.int h, .int y, .int w] (some (.int (ff_canBe S h y w))) S E := by
  refine mm_start (by decide +kernel) (Nat.le_of_ble_eq_true rfl) rfl (fun pQ eQ sQ mQ belowQ methQ cQ hx hb hml hr hlocks hts hown hK H hW hS ls hl => ?_)
  have hl : lv_has ls 4 [(0, .ref o), (1, .int h), (2, .int y), (3, .int w)] := hl
  generalize hlc : ([] : List Loc) = locs at hS ⊢
  refine lv_aload_n hx hb dX5_canBe_0 rfl (lv_at hl 0 rfl) ?_
  refine lv_iload_n hx hb dX5_canBe_1 rfl (lv_at hl 1 rfl) ?_
  refine mm_callp (As := [.int h]) (rest := []) (n := 1) ⟨hx, hb, hml, hown, hts⟩ hK (mc_isHole lQ G o S E h hB) (lw_V q2025 q2027 qs39 q92 q2028) (by decide +kernel) rfl ⟨Nat.le_of_ble_eq_true rfl, Nat.le_of_ble_eq_true rfl⟩ hW hS hl.1 rfl (Nat.le_of_ble_eq_true rfl) dX5_canBe_2 ⟨Nat.le_of_ble_eq_true rfl, Nat.le_of_ble_eq_true rfl⟩ (fun v2 H locs e2 hW hS => ?_)
  refine lv_if_eq (tgt := 50) hx hb dX5_canBe_5 (by decide) (fun c5 => ?_) (fun c5 => ?_)
  · skip
    refine lv_iconst (v := (-1)) hx hb dX5_canBe_50 (by decide) ?_
    refine mm_iret hx hb hr hlocks hW hS ?_ dX5_canBe_51
    have hres : ff_canBe S h y w = (-1) := by subst e2; simp only [ff_canBe, if_pos c5]
    exact ⟨by rw [hres], rfl, rfl⟩
  · skip
    obtain ⟨h0, hb1, h1⟩ := ff_isHole_t hB (by rw [← e2]; exact c5)
    refine lv_iload_n hx hb dX5_canBe_8 rfl (lv_at hl 2 rfl) ?_
    refine lv_iconst (v := 1) hx hb dX5_canBe_9 (by decide) ?_
    refine lv_aload_n hx hb dX5_canBe_10 rfl (lv_at hl 0 rfl) ?_
    refine mm_geta hx hb hts hown hK hW 10 rfl q1695 dX5_canBe_11 ?_
    refine lv_iload_n hx hb dX5_canBe_14 rfl (lv_at hl 1 rfl) ?_
    refine mm_iald hx hb hK hW 10 rfl (ww_in h0 h1) dX5_canBe_15 ?_
    refine pp_calli (As := [.int y, .int 1, .int (rd_ S 10 h)]) (rest := []) (n := 3) ⟨hx, hb, hml, hown, hts⟩ (mc_in lQ y 1 (rd_ S 10 h)) (lw_S q1979 q1980 q92 q1981) (by decide +kernel) rfl ⟨Nat.le_of_ble_eq_true rfl, Nat.le_of_ble_eq_true rfl⟩ hl.1 rfl (Nat.le_of_ble_eq_true rfl) dX5_canBe_16 ⟨Nat.le_of_ble_eq_true rfl, Nat.le_of_ble_eq_true rfl⟩ (fun v16 e16 => ?_)
    refine lv_if_eq (tgt := 50) hx hb dX5_canBe_19 (by decide) (fun c19 => ?_) (fun c19 => ?_)
    · skip
      refine lv_iconst (v := (-1)) hx hb dX5_canBe_50 (by decide) ?_
      refine mm_iret hx hb hr hlocks hW hS ?_ dX5_canBe_51
      have hres : ff_canBe S h y w = (-1) := by subst e2 e16; simp only [ff_canBe, if_neg c5, if_pos c19]
      exact ⟨by rw [hres], rfl, rfl⟩
    · skip
      obtain ⟨q1, q2, q3⟩ := hT h h0 h1
      obtain ⟨q4, q5⟩ := ff_in_t (v := y) (a := 1) (b := rd_ S 10 h) (by rw [← e16]; exact c19)
      have q6 : 1 ≤ y.toInt := q4
      refine lv_iload_n hx hb dX5_canBe_22 rfl (lv_at hl 3 rfl) ?_
      refine lv_iconst (v := 0) hx hb dX5_canBe_23 (by decide) ?_
      refine lv_iconst (v := 1) hx hb dX5_canBe_24 (by decide) ?_
      refine pp_calli (As := [.int w, .int 0, .int 1]) (rest := []) (n := 3) ⟨hx, hb, hml, hown, hts⟩ (mc_in lQ w 0 1) (lw_S q1979 q1980 q92 q1981) (by decide +kernel) rfl ⟨Nat.le_of_ble_eq_true rfl, Nat.le_of_ble_eq_true rfl⟩ hl.1 rfl (Nat.le_of_ble_eq_true rfl) dX5_canBe_25 ⟨Nat.le_of_ble_eq_true rfl, Nat.le_of_ble_eq_true rfl⟩ (fun v25 e25 => ?_)
      refine lv_if_eq (tgt := 50) hx hb dX5_canBe_28 (by decide) (fun c28 => ?_) (fun c28 => ?_)
      · skip
        refine lv_iconst (v := (-1)) hx hb dX5_canBe_50 (by decide) ?_
        refine mm_iret hx hb hr hlocks hW hS ?_ dX5_canBe_51
        have hres : ff_canBe S h y w = (-1) := by subst e2 e16 e25; simp only [ff_canBe, if_neg c5, if_neg c19, if_pos c28]
        exact ⟨by rw [hres], rfl, rfl⟩
      · skip
        refine lv_aload_n hx hb dX5_canBe_31 rfl (lv_at hl 0 rfl) ?_
        refine lv_iload_n hx hb dX5_canBe_32 rfl (lv_at hl 1 rfl) ?_
        refine lv_iload_n hx hb dX5_canBe_33 rfl (lv_at hl 2 rfl) ?_
        refine lv_iload_n hx hb dX5_canBe_34 rfl (lv_at hl 3 rfl) ?_
        refine lv_iconst (v := 1) hx hb dX5_canBe_35 (by decide) ?_
        refine wm_join (P := fun w44 : Int32 => w44 = (if w = 1 then 1 else 0)) (j := 44) (rest := [.int y, .int h, .ref o]) (ls := ls) (fun w44 ew44 => ?_) (fun J44 => ?_)
        · skip
          refine mm_callp (As := [.int h, .int y, .int w44]) (rest := []) (n := 3) ⟨hx, hb, hml, hown, hts⟩ hK (mc_canBeAt lQ G o S E h y w44 h0 h1 (by omega) (by omega)) (lw_V q2082 q2084 qs42 q92 q2085) (by decide +kernel) rfl ⟨Nat.le_of_ble_eq_true rfl, Nat.le_of_ble_eq_true rfl⟩ hW hS hl.1 rfl (Nat.le_of_ble_eq_true rfl) dX5_canBe_44 ⟨Nat.le_of_ble_eq_true rfl, Nat.le_of_ble_eq_true rfl⟩ (fun v44 H locs e44 hW hS => ?_)
          refine lv_goto (tgt := 51) hx hb dX5_canBe_47 (by decide) ?_
          refine mm_iret hx hb hr hlocks hW hS ?_ dX5_canBe_51
          have hres : ff_canBe S h y w = v44 := by subst e2 e16 e25 ew44 e44; simp only [ff_canBe, if_neg c5, if_neg c19, if_neg c28]
          exact ⟨by rw [hres], rfl, rfl⟩
        refine lv_icmp_ne (tgt := 43) hx hb dX5_canBe_36 (by decide) (fun c36 => ?_) (fun c36 => ?_)
        · skip
          refine lv_iconst (v := 0) hx hb dX5_canBe_43 (by decide) ?_
          exact J44 _ (by subst e2 e16 e25; simp only [if_neg c5, if_neg c19, if_neg c28, if_neg c36])
        · skip
          refine lv_iconst (v := 1) hx hb dX5_canBe_39 (by decide) ?_
          refine lv_goto (tgt := 44) hx hb dX5_canBe_40 (by decide) ?_
          exact J44 _ (by subst e2 e16 e25; simp only [if_neg c5, if_neg c19, if_neg c28, if_pos c36])

set_option maxHeartbeats 4000000 in
theorem mc_map (lQ : Launch) (G : wm_G) (o : Nat) (S : mm_S) (E : mm_E) (s : Int32) (y : Int32) (hM : iv_M S) : mm_Met lQ G o yX5_map (ws_ yX5_map cX5_map 3 (some .int)) 2 S E [.int s, .int y] (some (.int (ff_map S s y).1)) (ff_map S s y).2 E := by
  refine mm_start (by decide +kernel) (Nat.le_of_ble_eq_true rfl) rfl (fun pQ eQ sQ mQ belowQ methQ cQ hx hb hml hr hlocks hts hown hK H hW hS ls hl => ?_)
  have hl : lv_has ls 3 [(0, .ref o), (1, .int s), (2, .int y)] := hl
  generalize hlc : ([] : List Loc) = locs at hS ⊢
  refine lv_iload_n hx hb dX5_map_0 rfl (lv_at hl 1 rfl) ?_
  refine pp_calli (As := [.int s]) (rest := []) (n := 1) ⟨hx, hb, hml, hown, hts⟩ (mc_isSpan lQ s) (lw_S q2009 q2010 q92 q2011) (by decide +kernel) rfl ⟨Nat.le_of_ble_eq_true rfl, Nat.le_of_ble_eq_true rfl⟩ hl.1 rfl (Nat.le_of_ble_eq_true rfl) dX5_map_1 ⟨Nat.le_of_ble_eq_true rfl, Nat.le_of_ble_eq_true rfl⟩ (fun v1 e1 => ?_)
  refine lv_if_eq (tgt := 17) hx hb dX5_map_4 (by decide) (fun c4 => ?_) (fun c4 => ?_)
  · skip
    refine lv_iconst (v := (-1)) hx hb dX5_map_17 (by decide) ?_
    refine mm_iret hx hb hr hlocks hW hS ?_ dX5_map_18
    have hres : ff_map S s y = ((-1), S) := by subst e1; simp only [ff_map, if_pos c4, fd_fw, fd_wn (show (30 : Nat) ≠ 31 by decide), fd_wn (show (30 : Nat) ≠ 32 by decide), fd_wn (show (30 : Nat) ≠ 33 by decide)]
    exact ⟨by rw [hres], by rw [hres], rfl⟩
  · skip
    refine lv_iload_n hx hb dX5_map_7 rfl (lv_at hl 2 rfl) ?_
    refine lv_iconst (v := 1) hx hb dX5_map_8 (by decide) ?_
    refine lv_bipush (v := 60) hx hb dX5_map_9 (by decide) ?_
    refine pp_calli (As := [.int y, .int 1, .int 60]) (rest := []) (n := 3) ⟨hx, hb, hml, hown, hts⟩ (mc_in lQ y 1 60) (lw_S q1979 q1980 q92 q1981) (by decide +kernel) rfl ⟨Nat.le_of_ble_eq_true rfl, Nat.le_of_ble_eq_true rfl⟩ hl.1 rfl (Nat.le_of_ble_eq_true rfl) dX5_map_11 ⟨Nat.le_of_ble_eq_true rfl, Nat.le_of_ble_eq_true rfl⟩ (fun v11 e11 => ?_)
    refine lv_if_ne (tgt := 19) hx hb dX5_map_14 (by decide) (fun c14 => ?_) (fun c14 => ?_)
    · skip
      refine lv_aload_n hx hb dX5_map_19 rfl (lv_at hl 0 rfl) ?_
      refine mm_geti hx hb hts hown hK hW 30 rfl (by decide) q1715 dX5_map_20 ?_
      refine lv_bipush (v := 8) hx hb dX5_map_23 (by decide) ?_
      refine lv_icmp_ne (tgt := 31) hx hb dX5_map_25 (by decide) (fun c25 => ?_) (fun c25 => ?_)
      · skip
        have hlt : (fd_ S 30).toInt < 8 := by
          have q1 := ww_ne c25
          have q2 := hM.2.1
          have q3 : (8 : Int32).toInt = 8 := by decide
          omega
        refine lv_aload_n hx hb dX5_map_31 rfl (lv_at hl 0 rfl) ?_
        refine mm_geta hx hb hts hown hK hW 31 rfl q1716 dX5_map_32 ?_
        refine lv_aload_n hx hb dX5_map_35 rfl (lv_at hl 0 rfl) ?_
        refine mm_geti hx hb hts hown hK hW 30 rfl (by decide) q1715 dX5_map_36 ?_
        refine lv_iload_n hx hb dX5_map_39 rfl (lv_at hl 1 rfl) ?_
        refine lv_bipush (v := 100) hx hb dX5_map_40 (by decide) ?_
        refine nv_idiv hx hb dX5_map_42 (by decide) (fun v42 e42 => ?_)
        refine mm_iast hx hb hK hW hS 31 rfl (ww_in hM.1 hlt) dX5_map_43 (fun S43 H locs f43 hW hS => ?_)
        refine lv_aload_n hx hb dX5_map_44 rfl (lv_at hl 0 rfl) ?_
        refine mm_geta hx hb hts hown hK hW 32 rfl q1717 dX5_map_45 ?_
        refine lv_aload_n hx hb dX5_map_48 rfl (lv_at hl 0 rfl) ?_
        refine mm_geti hx hb hts hown hK hW 30 rfl (by decide) q1715 dX5_map_49 ?_
        refine lv_iload_n hx hb dX5_map_52 rfl (lv_at hl 1 rfl) ?_
        refine lv_bipush (v := 100) hx hb dX5_map_53 (by decide) ?_
        refine nv_irem hx hb dX5_map_55 (by decide) (fun v55 e55 => ?_)
        refine mm_iast hx hb hK hW hS 32 rfl (by rw [f43, fd_wn (by decide)]; exact ww_in hM.1 hlt) dX5_map_56 (fun S56 H locs f56 hW hS => ?_)
        refine lv_aload_n hx hb dX5_map_57 rfl (lv_at hl 0 rfl) ?_
        refine mm_geta hx hb hts hown hK hW 33 rfl q1718 dX5_map_58 ?_
        refine lv_aload_n hx hb dX5_map_61 rfl (lv_at hl 0 rfl) ?_
        refine mm_geti hx hb hts hown hK hW 30 rfl (by decide) q1715 dX5_map_62 ?_
        refine lv_iload_n hx hb dX5_map_65 rfl (lv_at hl 2 rfl) ?_
        refine mm_iast hx hb hK hW hS 33 rfl (by rw [f56, fd_wn (by decide), f43, fd_wn (by decide)]; exact ww_in hM.1 hlt) dX5_map_66 (fun S66 H locs f66 hW hS => ?_)
        refine lv_aload_n hx hb dX5_map_67 rfl (lv_at hl 0 rfl) ?_
        refine lv_dup hx hb dX5_map_68 rfl ?_
        refine mm_geti hx hb hts hown hK hW 30 rfl (by decide) q1715 dX5_map_69 ?_
        refine lv_iconst (v := 1) hx hb dX5_map_72 (by decide) ?_
        refine nv_iadd hx hb dX5_map_73 (fun v73 e73 => ?_)
        refine mm_puti hx hb hts hown hK hW hS 30 rfl (by decide) rfl rfl rfl q1715 dX5_map_74 (fun S74 H locs f74 hW hS => ?_)
        refine lv_aload_n hx hb dX5_map_77 rfl (lv_at hl 0 rfl) ?_
        refine mm_geti hx hb hts hown hK hW 30 rfl (by decide) q1715 dX5_map_78 ?_
        refine lv_iconst (v := 1) hx hb dX5_map_81 (by decide) ?_
        refine nv_isub hx hb dX5_map_82 (fun v82 e82 => ?_)
        refine mm_iret hx hb hr hlocks hW hS ?_ dX5_map_83
        have hres : ff_map S s y = (v82, S74) := by subst e1 e11 e42 f43 e55 f56 f66 e73 f74 e82; simp only [ff_map, if_neg c4, if_neg c14, if_neg c25, fd_fw, fd_wn (show (30 : Nat) ≠ 31 by decide), fd_wn (show (30 : Nat) ≠ 32 by decide), fd_wn (show (30 : Nat) ≠ 33 by decide)]
        exact ⟨by rw [hres], by rw [hres], rfl⟩
      · skip
        refine lv_bipush (v := (-3)) hx hb dX5_map_28 (by decide) ?_
        refine mm_iret hx hb hr hlocks hW hS ?_ dX5_map_30
        have hres : ff_map S s y = ((-3), S) := by subst e1 e11; simp only [ff_map, if_neg c4, if_neg c14, if_pos c25, fd_fw, fd_wn (show (30 : Nat) ≠ 31 by decide), fd_wn (show (30 : Nat) ≠ 32 by decide), fd_wn (show (30 : Nat) ≠ 33 by decide)]
        exact ⟨by rw [hres], by rw [hres], rfl⟩
    · skip
      refine lv_iconst (v := (-1)) hx hb dX5_map_17 (by decide) ?_
      refine mm_iret hx hb hr hlocks hW hS ?_ dX5_map_18
      have hres : ff_map S s y = ((-1), S) := by subst e1 e11; simp only [ff_map, if_neg c4, if_pos c14, fd_fw, fd_wn (show (30 : Nat) ≠ 31 by decide), fd_wn (show (30 : Nat) ≠ 32 by decide), fd_wn (show (30 : Nat) ≠ 33 by decide)]
      exact ⟨by rw [hres], by rw [hres], rfl⟩

set_option maxHeartbeats 4000000 in
theorem mc_isOldBy (lQ : Launch) (G : wm_G) (o : Nat) (S : mm_S) (E : mm_E) (m : Int32) (c : Int32) (m0 : 0 ≤ m.toInt) (m1 : m.toInt < 8) (hM : iv_M S) : mm_Met lQ G o yX5_isOldBy (ws_ yX5_isOldBy cX5_isOldBy 4 (some .boolean)) 0 S E [.int m, .int c] (some (.int (ff_isOldBy S m c))) S E := by
  refine mm_start (by decide +kernel) (Nat.le_of_ble_eq_true rfl) rfl (fun pQ eQ sQ mQ belowQ methQ cQ hx hb hml hr hlocks hts hown hK H hW hS ls hl => ?_)
  have hl : lv_has ls 4 [(0, .ref o), (1, .int m), (2, .int c)] := hl
  generalize hlc : ([] : List Loc) = locs at hS ⊢
  refine lv_iconst (v := 0) hx hb dX5_isOldBy_0 (by decide) ?_
  refine lv_istore_n (lv' := [(3, .int 0), (0, .ref o), (1, .int m), (2, .int c)]) hx hb dX5_isOldBy_1 rfl hl (by decide) rfl (fun ls hl => ?_)
  have L2 : ∀ (fu2 : Nat) (k : Int32), ((rd_ S 34 m).toInt - k.toInt < fu2) → (0 ≤ k.toInt) → (k.toInt ≤ (rd_ S 34 m).toInt) → (ff_isOldBy_go fu2 S m c k = ff_isOldBy S m c) → ∀ ls : Array Slot, lv_has ls 4 [(3, .int k), (0, .ref o), (1, .int m), (2, .int c)] → W pQ lQ eQ (wm_rm 0) sQ mQ (Value.ref o :: [.int m, .int c]).toArray belowQ methQ cQ H locs 0 0 (MQ belowQ (wm_Q (fun vQ HQ => vQ = some (.int (ff_isOldBy S m c)) ∧ mm_W G o S E HQ) (mm_F o)) (Value.ref o :: [.int m, .int c]).toArray sQ 0 0 (mm_F o)) (F0 mQ 2 ls []) := by
    intro fu2
    induction fu2 with
    | zero =>
      intro k hm2 i02 i12 hgo2 ls hl
      exact absurd hm2 (by omega)
    | succ fu2 ih2 =>
      intro k hm2 i02 i12 hgo2 ls hl
      have qm := hM.2.2 m m0 m1
      refine lv_iload_n hx hb dX5_isOldBy_2 rfl (lv_at hl 0 rfl) ?_
      refine lv_aload_n hx hb dX5_isOldBy_3 rfl (lv_at hl 1 rfl) ?_
      refine mm_geta hx hb hts hown hK hW 34 rfl q1719 dX5_isOldBy_4 ?_
      refine lv_iload_n hx hb dX5_isOldBy_7 rfl (lv_at hl 2 rfl) ?_
      refine mm_iald hx hb hK hW 34 rfl (ww_in m0 m1) dX5_isOldBy_8 ?_
      refine lv_icmp_ge (tgt := 35) hx hb dX5_isOldBy_9 (by decide) (fun c9 => ?_) (fun c9 => ?_)
      · have t9 : ((rd_ S 34 m)).toInt ≤ (k).toInt := ww_le c9
        refine lv_iconst (v := 0) hx hb dX5_isOldBy_35 (by decide) ?_
        refine mm_zret hx hb hr hlocks hW hS rfl ?_ dX5_isOldBy_36
        have hres : ff_isOldBy S m c = 0 := by rw [← hgo2]; simp only [ff_isOldBy_go, if_pos c9]
        exact ⟨by rw [hres], rfl, rfl⟩
      · have t9 : (k).toInt < ((rd_ S 34 m)).toInt := ww_nle c9
        refine lv_aload_n hx hb dX5_isOldBy_12 rfl (lv_at hl 1 rfl) ?_
        refine mm_geta hx hb hts hown hK hW 35 rfl q1720 dX5_isOldBy_13 ?_
        refine lv_bipush (v := 40) hx hb dX5_isOldBy_16 (by decide) ?_
        refine lv_iload_n hx hb dX5_isOldBy_18 rfl (lv_at hl 2 rfl) ?_
        refine nv_imul hx hb dX5_isOldBy_19 (fun v19 e19 => ?_)
        refine lv_iload_n hx hb dX5_isOldBy_20 rfl (lv_at hl 0 rfl) ?_
        refine nv_iadd hx hb dX5_isOldBy_21 (fun v21 e21 => ?_)
        refine mm_iald hx hb hK hW 35 rfl (by rw [e21, e19]; exact ix_40 m0 m1 (by omega) (by omega)) dX5_isOldBy_22 ?_
        refine lv_iload_n hx hb dX5_isOldBy_23 rfl (lv_at hl 3 rfl) ?_
        refine lv_icmp_ne (tgt := 29) hx hb dX5_isOldBy_24 (by decide) (fun c24 => ?_) (fun c24 => ?_)
        · skip
          obtain ⟨v29, e29⟩ : ∃ yQ : Int32, yQ = k + 1 := ⟨_, rfl⟩
          refine lv_iinc (v := v29) (lv' := [(3, .int v29), (0, .ref o), (1, .int m), (2, .int c)]) hx hb dX5_isOldBy_29 hl (k := 0) rfl (by rw [e29]; rfl) (by decide) rfl (fun ls hl => ?_)
          refine lv_goto (tgt := 2) hx hb dX5_isOldBy_32 (by decide) ?_
          have tb : v29.toInt = k.toInt + 1 := by rw [e29]; exact ww_inc t9
          exact ih2 v29 (by omega) (by omega) (by omega) (by subst e19 e21 e29; simp only [ff_isOldBy_go, if_neg c9, if_neg c24] at hgo2; exact hgo2) ls (lv_sub hl [0, 1, 2, 3] rfl)
        · skip
          refine lv_iconst (v := 1) hx hb dX5_isOldBy_27 (by decide) ?_
          refine mm_zret hx hb hr hlocks hW hS rfl ?_ dX5_isOldBy_28
          have hres : ff_isOldBy S m c = 1 := by rw [← hgo2]; subst e19 e21; simp only [ff_isOldBy_go, if_neg c9, if_pos c24]
          exact ⟨by rw [hres], rfl, rfl⟩
  exact L2 41 0 (by have := hM.2.2 m m0 m1; show _ - 0 < _; omega) (by decide) (hM.2.2 m m0 m1).1 (by simp only [ff_isOldBy]) ls (lv_sub hl [0, 1, 2, 3] rfl)

set_option maxHeartbeats 4000000 in
theorem mc_old (lQ : Launch) (G : wm_G) (o : Nat) (S : mm_S) (E : mm_E) (m : Int32) (c : Int32) (hM : iv_M S) : mm_Met lQ G o yX5_old (ws_ yX5_old cX5_old 3 (some .int)) 2 S E [.int m, .int c] (some (.int (ff_old S m c).1)) (ff_old S m c).2 E := by
  refine mm_start (by decide +kernel) (Nat.le_of_ble_eq_true rfl) rfl (fun pQ eQ sQ mQ belowQ methQ cQ hx hb hml hr hlocks hts hown hK H hW hS ls hl => ?_)
  have hl : lv_has ls 3 [(0, .ref o), (1, .int m), (2, .int c)] := hl
  generalize hlc : ([] : List Loc) = locs at hS ⊢
  refine lv_iload_n hx hb dX5_old_0 rfl (lv_at hl 1 rfl) ?_
  refine lv_iconst (v := 0) hx hb dX5_old_1 (by decide) ?_
  refine lv_aload_n hx hb dX5_old_2 rfl (lv_at hl 0 rfl) ?_
  refine mm_geti hx hb hts hown hK hW 30 rfl (by decide) q1715 dX5_old_3 ?_
  refine lv_iconst (v := 1) hx hb dX5_old_6 (by decide) ?_
  refine nv_isub hx hb dX5_old_7 (fun v7 e7 => ?_)
  refine pp_calli (As := [.int m, .int 0, .int v7]) (rest := []) (n := 3) ⟨hx, hb, hml, hown, hts⟩ (mc_in lQ m 0 v7) (lw_S q1979 q1980 q92 q1981) (by decide +kernel) rfl ⟨Nat.le_of_ble_eq_true rfl, Nat.le_of_ble_eq_true rfl⟩ hl.1 rfl (Nat.le_of_ble_eq_true rfl) dX5_old_8 ⟨Nat.le_of_ble_eq_true rfl, Nat.le_of_ble_eq_true rfl⟩ (fun v8 e8 => ?_)
  refine lv_if_eq (tgt := 30) hx hb dX5_old_11 (by decide) (fun c11 => ?_) (fun c11 => ?_)
  · skip
    refine lv_iconst (v := (-1)) hx hb dX5_old_30 (by decide) ?_
    refine mm_iret hx hb hr hlocks hW hS ?_ dX5_old_31
    have hres : ff_old S m c = ((-1), S) := by subst e7 e8; simp only [ff_old, if_pos c11, rd_ws, rd_wn (show (34 : Nat) ≠ 35 by decide)]
    exact ⟨by rw [hres], by rw [hres], rfl⟩
  · skip
    obtain ⟨m0, m2, m1⟩ := ff_mapin_t (m := m) hM (by rw [← e7, ← e8]; exact c11)
    have qm := hM.2.2 m m0 m1
    refine lv_iload_n hx hb dX5_old_14 rfl (lv_at hl 2 rfl) ?_
    refine pp_calli (As := [.int c]) (rest := []) (n := 1) ⟨hx, hb, hml, hown, hts⟩ (mc_isCell lQ c) (lw_S q1976 q1977 q92 q1978) (by decide +kernel) rfl ⟨Nat.le_of_ble_eq_true rfl, Nat.le_of_ble_eq_true rfl⟩ hl.1 rfl (Nat.le_of_ble_eq_true rfl) dX5_old_15 ⟨Nat.le_of_ble_eq_true rfl, Nat.le_of_ble_eq_true rfl⟩ (fun v15 e15 => ?_)
    refine lv_if_eq (tgt := 30) hx hb dX5_old_18 (by decide) (fun c18 => ?_) (fun c18 => ?_)
    · skip
      refine lv_iconst (v := (-1)) hx hb dX5_old_30 (by decide) ?_
      refine mm_iret hx hb hr hlocks hW hS ?_ dX5_old_31
      have hres : ff_old S m c = ((-1), S) := by subst e7 e8 e15; simp only [ff_old, if_neg c11, if_pos c18, rd_ws, rd_wn (show (34 : Nat) ≠ 35 by decide)]
      exact ⟨by rw [hres], by rw [hres], rfl⟩
    · skip
      refine lv_aload_n hx hb dX5_old_21 rfl (lv_at hl 0 rfl) ?_
      refine lv_iload_n hx hb dX5_old_22 rfl (lv_at hl 1 rfl) ?_
      refine lv_iload_n hx hb dX5_old_23 rfl (lv_at hl 2 rfl) ?_
      refine mm_callp (As := [.int m, .int c]) (rest := []) (n := 2) ⟨hx, hb, hml, hown, hts⟩ hK (mc_isOldBy lQ G o S E m c m0 m1 hM) (lw_V q2100 q2102 qs43 q92 q2103) (by decide +kernel) rfl ⟨Nat.le_of_ble_eq_true rfl, Nat.le_of_ble_eq_true rfl⟩ hW hS hl.1 rfl (Nat.le_of_ble_eq_true rfl) dX5_old_24 ⟨Nat.le_of_ble_eq_true rfl, Nat.le_of_ble_eq_true rfl⟩ (fun v24 H locs e24 hW hS => ?_)
      refine lv_if_eq (tgt := 32) hx hb dX5_old_27 (by decide) (fun c27 => ?_) (fun c27 => ?_)
      · skip
        refine lv_aload_n hx hb dX5_old_32 rfl (lv_at hl 0 rfl) ?_
        refine mm_geta hx hb hts hown hK hW 34 rfl q1719 dX5_old_33 ?_
        refine lv_iload_n hx hb dX5_old_36 rfl (lv_at hl 1 rfl) ?_
        refine mm_iald hx hb hK hW 34 rfl (ww_in m0 m1) dX5_old_37 ?_
        refine lv_bipush (v := 40) hx hb dX5_old_38 (by decide) ?_
        refine lv_icmp_ne (tgt := 46) hx hb dX5_old_40 (by decide) (fun c40 => ?_) (fun c40 => ?_)
        · skip
          have q4 : (rd_ S 34 m).toInt ≠ 40 := ww_ne c40
          refine lv_aload_n hx hb dX5_old_46 rfl (lv_at hl 0 rfl) ?_
          refine mm_geta hx hb hts hown hK hW 35 rfl q1720 dX5_old_47 ?_
          refine lv_bipush (v := 40) hx hb dX5_old_50 (by decide) ?_
          refine lv_iload_n hx hb dX5_old_52 rfl (lv_at hl 1 rfl) ?_
          refine nv_imul hx hb dX5_old_53 (fun v53 e53 => ?_)
          refine lv_aload_n hx hb dX5_old_54 rfl (lv_at hl 0 rfl) ?_
          refine mm_geta hx hb hts hown hK hW 34 rfl q1719 dX5_old_55 ?_
          refine lv_iload_n hx hb dX5_old_58 rfl (lv_at hl 1 rfl) ?_
          refine mm_iald hx hb hK hW 34 rfl (ww_in m0 m1) dX5_old_59 ?_
          refine nv_iadd hx hb dX5_old_60 (fun v60 e60 => ?_)
          refine lv_iload_n hx hb dX5_old_61 rfl (lv_at hl 2 rfl) ?_
          refine mm_iast hx hb hK hW hS 35 rfl (by rw [e60, e53]; exact ix_40 m0 m1 (by omega) (by omega)) dX5_old_62 (fun S62 H locs f62 hW hS => ?_)
          refine lv_aload_n hx hb dX5_old_63 rfl (lv_at hl 0 rfl) ?_
          refine mm_geta hx hb hts hown hK hW 34 rfl q1719 dX5_old_64 ?_
          refine lv_iload_n hx hb dX5_old_67 rfl (lv_at hl 1 rfl) ?_
          refine lv_dup2_11 hx hb dX5_old_68 rfl rfl ?_
          refine mm_iald hx hb hK hW 34 rfl (ww_in m0 m1) dX5_old_69 ?_
          refine lv_iconst (v := 1) hx hb dX5_old_70 (by decide) ?_
          refine nv_iadd hx hb dX5_old_71 (fun v71 e71 => ?_)
          refine mm_iast hx hb hK hW hS 34 rfl (ww_in m0 m1) dX5_old_72 (fun S72 H locs f72 hW hS => ?_)
          refine lv_aload_n hx hb dX5_old_73 rfl (lv_at hl 0 rfl) ?_
          refine mm_geta hx hb hts hown hK hW 34 rfl q1719 dX5_old_74 ?_
          refine lv_iload_n hx hb dX5_old_77 rfl (lv_at hl 1 rfl) ?_
          refine mm_iald hx hb hK hW 34 rfl (ww_in m0 m1) dX5_old_78 ?_
          refine mm_iret hx hb hr hlocks hW hS ?_ dX5_old_79
          have hres : ff_old S m c = ((rd_ S72 34 m), S72) := by subst e7 e8 e15 e24 e53 e60 f62 e71 f72; simp only [ff_old, if_neg c11, if_neg c18, if_pos c27, if_neg c40, rd_ws, rd_wn (show (34 : Nat) ≠ 35 by decide)]
          exact ⟨by rw [hres], by rw [hres], rfl⟩
        · skip
          refine lv_bipush (v := (-3)) hx hb dX5_old_43 (by decide) ?_
          refine mm_iret hx hb hr hlocks hW hS ?_ dX5_old_45
          have hres : ff_old S m c = ((-3), S) := by subst e7 e8 e15 e24; simp only [ff_old, if_neg c11, if_neg c18, if_pos c27, if_pos c40, rd_ws, rd_wn (show (34 : Nat) ≠ 35 by decide)]
          exact ⟨by rw [hres], by rw [hres], rfl⟩
      · skip
        refine lv_iconst (v := (-1)) hx hb dX5_old_30 (by decide) ?_
        refine mm_iret hx hb hr hlocks hW hS ?_ dX5_old_31
        have hres : ff_old S m c = ((-1), S) := by subst e7 e8 e15 e24; simp only [ff_old, if_neg c11, if_neg c18, if_neg c27, rd_ws, rd_wn (show (34 : Nat) ≠ 35 by decide)]
        exact ⟨by rw [hres], by rw [hres], rfl⟩

set_option maxHeartbeats 4000000 in
theorem mc_isShelterBy (lQ : Launch) (G : wm_G) (o : Nat) (S : mm_S) (E : mm_E) (m : Int32) (x : Int32) (y : Int32) (m0 : 0 ≤ m.toInt) (m1 : m.toInt < 8) : mm_Met lQ G o yX5_isShelterBy (ws_ yX5_isShelterBy cX5_isShelterBy 4 (some .boolean)) 1 S E [.int m, .int x, .int y] (some (.int (ff_isShelterBy S m x y))) S E := by
  refine mm_start (by decide +kernel) (Nat.le_of_ble_eq_true rfl) rfl (fun pQ eQ sQ mQ belowQ methQ cQ hx hb hml hr hlocks hts hown hK H hW hS ls hl => ?_)
  have hl : lv_has ls 4 [(0, .ref o), (1, .int m), (2, .int x), (3, .int y)] := hl
  generalize hlc : ([] : List Loc) = locs at hS ⊢
  refine lv_iload_n hx hb dX5_isShelterBy_0 rfl (lv_at hl 3 rfl) ?_
  refine lv_aload_n hx hb dX5_isShelterBy_1 rfl (lv_at hl 0 rfl) ?_
  refine mm_geta hx hb hts hown hK hW 33 rfl q1718 dX5_isShelterBy_2 ?_
  refine lv_iload_n hx hb dX5_isShelterBy_5 rfl (lv_at hl 1 rfl) ?_
  refine mm_iald hx hb hK hW 33 rfl (ww_in m0 m1) dX5_isShelterBy_6 ?_
  refine lv_icmp_ne (tgt := 33) hx hb dX5_isShelterBy_7 (by decide) (fun c7 => ?_) (fun c7 => ?_)
  · skip
    refine lv_iconst (v := 0) hx hb dX5_isShelterBy_33 (by decide) ?_
    refine mm_zret hx hb hr hlocks hW hS rfl ?_ dX5_isShelterBy_34
    have hres : ff_isShelterBy S m x y = 0 := by simp only [ff_isShelterBy, if_neg c7]
    exact ⟨by rw [hres], rfl, rfl⟩
  · skip
    refine lv_iload_n hx hb dX5_isShelterBy_10 rfl (lv_at hl 2 rfl) ?_
    refine lv_aload_n hx hb dX5_isShelterBy_11 rfl (lv_at hl 0 rfl) ?_
    refine mm_geta hx hb hts hown hK hW 31 rfl q1716 dX5_isShelterBy_12 ?_
    refine lv_iload_n hx hb dX5_isShelterBy_15 rfl (lv_at hl 1 rfl) ?_
    refine mm_iald hx hb hK hW 31 rfl (ww_in m0 m1) dX5_isShelterBy_16 ?_
    refine lv_aload_n hx hb dX5_isShelterBy_17 rfl (lv_at hl 0 rfl) ?_
    refine mm_geta hx hb hts hown hK hW 32 rfl q1717 dX5_isShelterBy_18 ?_
    refine lv_iload_n hx hb dX5_isShelterBy_21 rfl (lv_at hl 1 rfl) ?_
    refine mm_iald hx hb hK hW 32 rfl (ww_in m0 m1) dX5_isShelterBy_22 ?_
    refine pp_calli (As := [.int x, .int (rd_ S 31 m), .int (rd_ S 32 m)]) (rest := []) (n := 3) ⟨hx, hb, hml, hown, hts⟩ (mc_in lQ x (rd_ S 31 m) (rd_ S 32 m)) (lw_S q1979 q1980 q92 q1981) (by decide +kernel) rfl ⟨Nat.le_of_ble_eq_true rfl, Nat.le_of_ble_eq_true rfl⟩ hl.1 rfl (Nat.le_of_ble_eq_true rfl) dX5_isShelterBy_23 ⟨Nat.le_of_ble_eq_true rfl, Nat.le_of_ble_eq_true rfl⟩ (fun v23 e23 => ?_)
    refine lv_if_eq (tgt := 33) hx hb dX5_isShelterBy_26 (by decide) (fun c26 => ?_) (fun c26 => ?_)
    · skip
      refine lv_iconst (v := 0) hx hb dX5_isShelterBy_33 (by decide) ?_
      refine mm_zret hx hb hr hlocks hW hS rfl ?_ dX5_isShelterBy_34
      have hres : ff_isShelterBy S m x y = 0 := by subst e23; simp only [ff_isShelterBy, if_pos c7, if_pos c26]
      exact ⟨by rw [hres], rfl, rfl⟩
    · skip
      refine lv_iconst (v := 1) hx hb dX5_isShelterBy_29 (by decide) ?_
      refine lv_goto (tgt := 34) hx hb dX5_isShelterBy_30 (by decide) ?_
      refine mm_zret hx hb hr hlocks hW hS rfl ?_ dX5_isShelterBy_34
      have hres : ff_isShelterBy S m x y = 1 := by subst e23; simp only [ff_isShelterBy, if_pos c7, if_neg c26]
      exact ⟨by rw [hres], rfl, rfl⟩

set_option maxHeartbeats 4000000 in
theorem mc_isUnlike (lQ : Launch) (G : wm_G) (o : Nat) (S : mm_S) (E : mm_E) (m : Int32) (h : Int32) (y : Int32) (m0 : 0 ≤ m.toInt) (m1 : m.toInt < 8) (hM : iv_M S) (h0 : 0 ≤ h.toInt) (h1 : h.toInt < 120) (y0 : 0 ≤ y.toInt) (y1 : y.toInt ≤ 60) : mm_Met lQ G o yX5_isUnlike (ws_ yX5_isUnlike cX5_isUnlike 9 (some .boolean)) 2 S E [.int m, .int h, .int y] (some (.int (ff_isUnlike S m h y))) S E := by
  refine mm_start (by decide +kernel) (Nat.le_of_ble_eq_true rfl) rfl (fun pQ eQ sQ mQ belowQ methQ cQ hx hb hml hr hlocks hts hown hK H hW hS ls hl => ?_)
  have hl : lv_has ls 9 [(0, .ref o), (1, .int m), (2, .int h), (3, .int y)] := hl
  generalize hlc : ([] : List Loc) = locs at hS ⊢
  refine lv_aload_n hx hb dX5_isUnlike_0 rfl (lv_at hl 0 rfl) ?_
  refine mm_geta hx hb hts hown hK hW 14 rfl q1699 dX5_isUnlike_1 ?_
  refine lv_bipush (v := 61) hx hb dX5_isUnlike_4 (by decide) ?_
  refine lv_iload_n hx hb dX5_isUnlike_6 rfl (lv_at hl 2 rfl) ?_
  refine nv_imul hx hb dX5_isUnlike_7 (fun v7 e7 => ?_)
  refine lv_iload_n hx hb dX5_isUnlike_8 rfl (lv_at hl 3 rfl) ?_
  refine nv_iadd hx hb dX5_isUnlike_9 (fun v9 e9 => ?_)
  refine mm_iald hx hb hK hW 14 rfl (by rw [e9, e7]; exact ix_61 h0 h1 y0 y1) dX5_isUnlike_10 ?_
  refine lv_istore (lv' := [(4, .int (rd_ S 14 v9)), (0, .ref o), (1, .int m), (2, .int h), (3, .int y)]) hx hb dX5_isUnlike_11 hl (by decide) rfl (fun ls hl => ?_)
  refine lv_aload_n hx hb dX5_isUnlike_13 rfl (lv_at hl 1 rfl) ?_
  refine lv_iload_n hx hb dX5_isUnlike_14 rfl (lv_at hl 3 rfl) ?_
  refine lv_iload_n hx hb dX5_isUnlike_15 rfl (lv_at hl 4 rfl) ?_
  refine lv_iconst (v := 0) hx hb dX5_isUnlike_16 (by decide) ?_
  refine mm_callp (As := [.int h, .int y, .int 0]) (rest := []) (n := 3) ⟨hx, hb, hml, hown, hts⟩ hK (mc_canBeAt lQ G o S E h y 0 h0 h1 y0 y1) (lw_V q2082 q2084 qs42 q92 q2085) (by decide +kernel) rfl ⟨Nat.le_of_ble_eq_true rfl, Nat.le_of_ble_eq_true rfl⟩ hW hS hl.1 rfl (Nat.le_of_ble_eq_true rfl) dX5_isUnlike_17 ⟨Nat.le_of_ble_eq_true rfl, Nat.le_of_ble_eq_true rfl⟩ (fun v17 H locs e17 hW hS => ?_)
  refine lv_istore (lv' := [(5, .int v17), (4, .int (rd_ S 14 v9)), (0, .ref o), (1, .int m), (2, .int h), (3, .int y)]) hx hb dX5_isUnlike_20 hl (by decide) rfl (fun ls hl => ?_)
  have L22 : ∀ (fu22 : Nat) (x : Int32) (H : Heap) (locs : List Loc), (32 - x.toInt < fu22) → (0 ≤ x.toInt) → (x.toInt ≤ 32) → (ff_isUnlike_go fu22 S m h y x = ff_isUnlike S m h y) → mm_W G o S E H → va_S (mm_F o) sQ.heap H locs → ∀ ls : Array Slot, lv_has ls 9 [(5, .int x), (4, .int (rd_ S 14 v9)), (0, .ref o), (1, .int m), (2, .int h), (3, .int y)] → W pQ lQ eQ (wm_rm 2) sQ mQ (Value.ref o :: [.int m, .int h, .int y]).toArray belowQ methQ cQ H locs 0 0 (MQ belowQ (wm_Q (fun vQ HQ => vQ = some (.int (ff_isUnlike S m h y)) ∧ mm_W G o S E HQ) (mm_F o)) (Value.ref o :: [.int m, .int h, .int y]).toArray sQ 0 0 (mm_F o)) (F0 mQ 22 ls []) := by
    intro fu22
    induction fu22 with
    | zero =>
      intro x H locs hm22 i022 i122 hgo22 hW hS ls hl
      exact absurd hm22 (by omega)
    | succ fu22 ih22 =>
      intro x H locs hm22 i022 i122 hgo22 hW hS ls hl
      refine lv_iload hx hb dX5_isUnlike_22 (lv_at hl 0 rfl) ?_
      refine lv_aload_n hx hb dX5_isUnlike_24 rfl (lv_at hl 2 rfl) ?_
      refine lv_iload_n hx hb dX5_isUnlike_25 rfl (lv_at hl 4 rfl) ?_
      refine lv_iload_n hx hb dX5_isUnlike_26 rfl (lv_at hl 5 rfl) ?_
      refine lv_iconst (v := 1) hx hb dX5_isUnlike_27 (by decide) ?_
      refine mm_callp (As := [.int h, .int y, .int 1]) (rest := [.int x]) (n := 3) ⟨hx, hb, hml, hown, hts⟩ hK (mc_canBeAt lQ G o S E h y 1 h0 h1 y0 y1) (lw_V q2082 q2084 qs42 q92 q2085) (by decide +kernel) rfl ⟨Nat.le_of_ble_eq_true rfl, Nat.le_of_ble_eq_true rfl⟩ hW hS hl.1 rfl (Nat.le_of_ble_eq_true rfl) dX5_isUnlike_28 ⟨Nat.le_of_ble_eq_true rfl, Nat.le_of_ble_eq_true rfl⟩ (fun v28 H locs e28 hW hS => ?_)
      refine lv_icmp_gt (tgt := 125) hx hb dX5_isUnlike_31 (by decide) (fun c31 => ?_) (fun c31 => ?_)
      · have t31 : (v28).toInt < (x).toInt := ww_lt c31
        refine lv_iconst (v := 1) hx hb dX5_isUnlike_125 (by decide) ?_
        refine mm_zret hx hb hr hlocks hW hS rfl ?_ dX5_isUnlike_126
        have hres : ff_isUnlike S m h y = 1 := by rw [← hgo22]; subst e9 e7 e28; simp only [ff_isUnlike_go, if_pos c31]
        exact ⟨by rw [hres], rfl, rfl⟩
      · have t31 : (x).toInt ≤ (v28).toInt := ww_nlt c31
        refine lv_aload_n hx hb dX5_isUnlike_34 rfl (lv_at hl 2 rfl) ?_
        refine lv_iload_n hx hb dX5_isUnlike_35 rfl (lv_at hl 3 rfl) ?_
        refine lv_bipush (v := 100) hx hb dX5_isUnlike_36 (by decide) ?_
        refine lv_iload hx hb dX5_isUnlike_38 (lv_at hl 0 rfl) ?_
        refine nv_imul hx hb dX5_isUnlike_40 (fun v40 e40 => ?_)
        refine lv_iload_n hx hb dX5_isUnlike_41 rfl (lv_at hl 5 rfl) ?_
        refine nv_iadd hx hb dX5_isUnlike_42 (fun v42 e42 => ?_)
        refine mm_callp (As := [.int m, .int v42]) (rest := []) (n := 2) ⟨hx, hb, hml, hown, hts⟩ hK (mc_isOldBy lQ G o S E m v42 m0 m1 hM) (lw_V q2100 q2102 qs43 q92 q2103) (by decide +kernel) rfl ⟨Nat.le_of_ble_eq_true rfl, Nat.le_of_ble_eq_true rfl⟩ hW hS hl.1 rfl (Nat.le_of_ble_eq_true rfl) dX5_isUnlike_43 ⟨Nat.le_of_ble_eq_true rfl, Nat.le_of_ble_eq_true rfl⟩ (fun v43 H locs e43 hW hS => ?_)
        refine lv_istore (lv' := [(6, .int v43), (5, .int x), (4, .int (rd_ S 14 v9)), (0, .ref o), (1, .int m), (2, .int h), (3, .int y)]) hx hb dX5_isUnlike_46 hl (by decide) rfl (fun ls hl => ?_)
        refine lv_aload_n hx hb dX5_isUnlike_48 rfl (lv_at hl 3 rfl) ?_
        refine lv_iload_n hx hb dX5_isUnlike_49 rfl (lv_at hl 4 rfl) ?_
        refine lv_iload hx hb dX5_isUnlike_50 (lv_at hl 1 rfl) ?_
        refine lv_iload_n hx hb dX5_isUnlike_52 rfl (lv_at hl 6 rfl) ?_
        refine mm_callp (As := [.int m, .int x, .int y]) (rest := []) (n := 3) ⟨hx, hb, hml, hown, hts⟩ hK (mc_isShelterBy lQ G o S E m x y m0 m1) (lw_V q2116 q2118 qs46 q92 q2119) (by decide +kernel) rfl ⟨Nat.le_of_ble_eq_true rfl, Nat.le_of_ble_eq_true rfl⟩ hW hS hl.1 rfl (Nat.le_of_ble_eq_true rfl) dX5_isUnlike_53 ⟨Nat.le_of_ble_eq_true rfl, Nat.le_of_ble_eq_true rfl⟩ (fun v53 H locs e53 hW hS => ?_)
        refine lv_istore (lv' := [(7, .int v53), (6, .int v43), (5, .int x), (4, .int (rd_ S 14 v9)), (0, .ref o), (1, .int m), (2, .int h), (3, .int y)]) hx hb dX5_isUnlike_56 hl (by decide) rfl (fun ls hl => ?_)
        refine lv_iload hx hb dX5_isUnlike_58 (lv_at hl 3 rfl) ?_
        refine wm_join (P := fun w110 : Int32 => w110 = fu_un S m x y (rd_ S 14 v9)) (j := 110) (rest := []) (ls := ls) (fun w110 ew110 => ?_) (fun J110 => ?_)
        · skip
          refine lv_istore (lv' := [(8, .int w110), (7, .int v53), (6, .int v43), (5, .int x), (4, .int (rd_ S 14 v9)), (0, .ref o), (1, .int m), (2, .int h), (3, .int y)]) hx hb dX5_isUnlike_110 hl (by decide) rfl (fun ls hl => ?_)
          refine lv_iload hx hb dX5_isUnlike_112 (lv_at hl 0 rfl) ?_
          refine lv_if_ne (tgt := 119) hx hb dX5_isUnlike_114 (by decide) (fun c114 => ?_) (fun c114 => ?_)
          · skip
            obtain ⟨v119, e119⟩ : ∃ yQ : Int32, yQ = x + 1 := ⟨_, rfl⟩
            refine lv_iinc (v := v119) (lv' := [(5, .int v119), (8, .int w110), (7, .int v53), (6, .int v43), (4, .int (rd_ S 14 v9)), (0, .ref o), (1, .int m), (2, .int h), (3, .int y)]) hx hb dX5_isUnlike_119 hl (k := 3) rfl (by rw [e119]; rfl) (by decide) rfl (fun ls hl => ?_)
            refine lv_goto (tgt := 22) hx hb dX5_isUnlike_122 (by decide) ?_
            have tz := ff_canBeAt_t S h y 1
            have tw : x.toInt ≤ 31 := by rw [e28] at t31; omega
            have tb : v119.toInt = x.toInt + 1 := by rw [e119]; exact ww_inc' (by omega)
            exact ih22 v119 H locs (by omega) (by omega) (by omega) (by subst e9 e7 e28 e40 e42 e43 e53 ew110 e119; simp only [ff_isUnlike_go, if_neg c31, if_neg c114] at hgo22; exact hgo22) hW hS ls (lv_sub hl [0, 4, 5, 6, 7, 8] rfl)
          · skip
            refine lv_iconst (v := 0) hx hb dX5_isUnlike_117 (by decide) ?_
            refine mm_zret hx hb hr hlocks hW hS rfl ?_ dX5_isUnlike_118
            have hres : ff_isUnlike S m h y = 0 := by rw [← hgo22]; subst e9 e7 e28 e40 e42 e43 e53 ew110; simp only [ff_isUnlike_go, if_neg c31, if_pos c114]
            exact ⟨by rw [hres], rfl, rfl⟩
        refine lv_if_ne (tgt := 81) hx hb dX5_isUnlike_60 (by decide) (fun c60 => ?_) (fun c60 => ?_)
        · skip
          refine lv_iload hx hb dX5_isUnlike_81 (lv_at hl 3 rfl) ?_
          refine lv_iconst (v := 1) hx hb dX5_isUnlike_83 (by decide) ?_
          refine lv_icmp_ne (tgt := 100) hx hb dX5_isUnlike_84 (by decide) (fun c84 => ?_) (fun c84 => ?_)
          · skip
            refine lv_iload hx hb dX5_isUnlike_100 (lv_at hl 0 rfl) ?_
            refine lv_if_ne (tgt := 109) hx hb dX5_isUnlike_102 (by decide) (fun c102 => ?_) (fun c102 => ?_)
            · skip
              refine lv_iconst (v := 0) hx hb dX5_isUnlike_109 (by decide) ?_
              exact J110 _ (by subst e9 e7 e28 e40 e42 e43 e53; simp only [if_neg c31, if_neg c60, if_neg c84, if_neg c102, fu_un])
            · skip
              refine lv_iconst (v := 1) hx hb dX5_isUnlike_105 (by decide) ?_
              refine lv_goto (tgt := 110) hx hb dX5_isUnlike_106 (by decide) ?_
              exact J110 _ (by subst e9 e7 e28 e40 e42 e43 e53; simp only [if_neg c31, if_neg c60, if_neg c84, if_pos c102, fu_un])
          · skip
            refine lv_iload hx hb dX5_isUnlike_87 (lv_at hl 1 rfl) ?_
            refine lv_if_ne (tgt := 96) hx hb dX5_isUnlike_89 (by decide) (fun c89 => ?_) (fun c89 => ?_)
            · skip
              refine lv_iconst (v := 0) hx hb dX5_isUnlike_96 (by decide) ?_
              refine lv_goto (tgt := 110) hx hb dX5_isUnlike_97 (by decide) ?_
              exact J110 _ (by subst e9 e7 e28 e40 e42 e43 e53; simp only [if_neg c31, if_neg c60, if_pos c84, if_neg c89, fu_un])
            · skip
              refine lv_iconst (v := 1) hx hb dX5_isUnlike_92 (by decide) ?_
              refine lv_goto (tgt := 110) hx hb dX5_isUnlike_93 (by decide) ?_
              exact J110 _ (by subst e9 e7 e28 e40 e42 e43 e53; simp only [if_neg c31, if_neg c60, if_pos c84, if_pos c89, fu_un])
        · skip
          refine lv_iload hx hb dX5_isUnlike_63 (lv_at hl 1 rfl) ?_
          refine lv_if_ne (tgt := 73) hx hb dX5_isUnlike_65 (by decide) (fun c65 => ?_) (fun c65 => ?_)
          · skip
            refine lv_iconst (v := 1) hx hb dX5_isUnlike_73 (by decide) ?_
            refine lv_goto (tgt := 110) hx hb dX5_isUnlike_74 (by decide) ?_
            exact J110 _ (by subst e9 e7 e28 e40 e42 e43 e53; simp only [if_neg c31, if_pos c60, if_neg c65, fu_un])
          · skip
            refine lv_iload hx hb dX5_isUnlike_68 (lv_at hl 0 rfl) ?_
            refine lv_if_eq (tgt := 77) hx hb dX5_isUnlike_70 (by decide) (fun c70 => ?_) (fun c70 => ?_)
            · skip
              refine lv_iconst (v := 0) hx hb dX5_isUnlike_77 (by decide) ?_
              refine lv_goto (tgt := 110) hx hb dX5_isUnlike_78 (by decide) ?_
              exact J110 _ (by subst e9 e7 e28 e40 e42 e43 e53; simp only [if_neg c31, if_pos c60, if_pos c65, if_pos c70, fu_un])
            · skip
              refine lv_iconst (v := 1) hx hb dX5_isUnlike_73 (by decide) ?_
              refine lv_goto (tgt := 110) hx hb dX5_isUnlike_74 (by decide) ?_
              exact J110 _ (by subst e9 e7 e28 e40 e42 e43 e53; simp only [if_neg c31, if_pos c60, if_pos c65, if_neg c70, fu_un])
  exact L22 33 v17 H locs (by rw [e17]; have := ff_canBeAt_t S h y 0; omega) (by rw [e17]; exact (ff_canBeAt_t S h y 0).1) (by rw [e17]; have := ff_canBeAt_t S h y 0; omega) (by subst e7 e9 e17; simp only [ff_isUnlike]) hW hS ls (lv_sub hl [0, 1, 2, 3, 4, 5] rfl)

set_option maxHeartbeats 4000000 in
theorem mc_wrongBy (lQ : Launch) (G : wm_G) (o : Nat) (S : mm_S) (E : mm_E) (m : Int32) (hB : iv_B S) (hT : iv_T S) (m0 : 0 ≤ m.toInt) (m1 : m.toInt < 8) (hM : iv_M S) : mm_Met lQ G o yX5_wrongBy (ws_ yX5_wrongBy cX5_wrongBy 4 (some .int)) 3 S E [.int m] (some (.int (ff_wrongBy S m))) S E := by
  refine mm_start (by decide +kernel) (Nat.le_of_ble_eq_true rfl) rfl (fun pQ eQ sQ mQ belowQ methQ cQ hx hb hml hr hlocks hts hown hK H hW hS ls hl => ?_)
  have hl : lv_has ls 4 [(0, .ref o), (1, .int m)] := hl
  generalize hlc : ([] : List Loc) = locs at hS ⊢
  refine lv_iconst (v := 0) hx hb dX5_wrongBy_0 (by decide) ?_
  refine lv_istore_n (lv' := [(2, .int 0), (0, .ref o), (1, .int m)]) hx hb dX5_wrongBy_1 rfl hl (by decide) rfl (fun ls hl => ?_)
  have L2 : ∀ (fu2 : Nat) (b : Int32) (H : Heap) (locs : List Loc), ((fd_ S 4).toInt - b.toInt < fu2) → (0 ≤ b.toInt) → (b.toInt ≤ (fd_ S 4).toInt) → (ff_wrongBy_go fu2 S m b = ff_wrongBy S m) → mm_W G o S E H → va_S (mm_F o) sQ.heap H locs → ∀ ls : Array Slot, lv_has ls 4 [(2, .int b), (0, .ref o), (1, .int m)] → W pQ lQ eQ (wm_rm 3) sQ mQ (Value.ref o :: [.int m]).toArray belowQ methQ cQ H locs 0 0 (MQ belowQ (wm_Q (fun vQ HQ => vQ = some (.int (ff_wrongBy S m)) ∧ mm_W G o S E HQ) (mm_F o)) (Value.ref o :: [.int m]).toArray sQ 0 0 (mm_F o)) (F0 mQ 2 ls []) := by
    intro fu2
    induction fu2 with
    | zero =>
      intro b H locs hm2 i02 i12 hgo2 hW hS ls hl
      exact absurd hm2 (by omega)
    | succ fu2 ih2 =>
      intro b H locs hm2 i02 i12 hgo2 hW hS ls hl
      refine lv_iload_n hx hb dX5_wrongBy_2 rfl (lv_at hl 0 rfl) ?_
      refine lv_aload_n hx hb dX5_wrongBy_3 rfl (lv_at hl 1 rfl) ?_
      refine mm_geti hx hb hts hown hK hW 4 rfl (by decide) q1689 dX5_wrongBy_4 ?_
      refine lv_icmp_ge (tgt := 62) hx hb dX5_wrongBy_7 (by decide) (fun c7 => ?_) (fun c7 => ?_)
      · have t7 : ((fd_ S 4)).toInt ≤ (b).toInt := ww_le c7
        refine lv_bipush (v := (-2)) hx hb dX5_wrongBy_62 (by decide) ?_
        refine mm_iret hx hb hr hlocks hW hS ?_ dX5_wrongBy_64
        have hres : ff_wrongBy S m = (-2) := by rw [← hgo2]; simp only [ff_wrongBy_go, if_pos c7]
        exact ⟨by rw [hres], rfl, rfl⟩
      · have t7 : (b).toInt < ((fd_ S 4)).toInt := ww_nle c7
        refine lv_aload_n hx hb dX5_wrongBy_10 rfl (lv_at hl 1 rfl) ?_
        refine lv_iload_n hx hb dX5_wrongBy_11 rfl (lv_at hl 0 rfl) ?_
        refine mm_callp (As := [.int b]) (rest := []) (n := 1) ⟨hx, hb, hml, hown, hts⟩ hK (mc_isHole lQ G o S E b hB) (lw_V q2025 q2027 qs39 q92 q2028) (by decide +kernel) rfl ⟨Nat.le_of_ble_eq_true rfl, Nat.le_of_ble_eq_true rfl⟩ hW hS hl.1 rfl (Nat.le_of_ble_eq_true rfl) dX5_wrongBy_12 ⟨Nat.le_of_ble_eq_true rfl, Nat.le_of_ble_eq_true rfl⟩ (fun v12 H locs e12 hW hS => ?_)
        refine lv_if_ne (tgt := 21) hx hb dX5_wrongBy_15 (by decide) (fun c15 => ?_) (fun c15 => ?_)
        · skip
          obtain ⟨h0, hb1, h1⟩ := ff_isHole_t hB (by rw [← e12]; exact c15)
          obtain ⟨q1, q2, q3⟩ := hT b h0 h1
          refine lv_iconst (v := 1) hx hb dX5_wrongBy_21 (by decide) ?_
          refine lv_istore_n (lv' := [(3, .int 1), (2, .int b), (0, .ref o), (1, .int m)]) hx hb dX5_wrongBy_22 rfl hl (by decide) rfl (fun ls hl => ?_)
          have L23 : ∀ (fu23 : Nat) (y : Int32) (H : Heap) (locs : List Loc), ((rd_ S 10 b).toInt - y.toInt + 1 < fu23) → (1 ≤ y.toInt) → (y.toInt ≤ (rd_ S 10 b).toInt + 1) → ((if ff_wb_go fu23 S m b y = 0 then ff_wrongBy_go fu2 S m (b + 1) else 100 * b + ff_wb_go fu23 S m b y) = ff_wrongBy S m) → mm_W G o S E H → va_S (mm_F o) sQ.heap H locs → ∀ ls : Array Slot, lv_has ls 4 [(3, .int y), (2, .int b), (0, .ref o), (1, .int m)] → W pQ lQ eQ (wm_rm 3) sQ mQ (Value.ref o :: [.int m]).toArray belowQ methQ cQ H locs 0 0 (MQ belowQ (wm_Q (fun vQ HQ => vQ = some (.int (ff_wrongBy S m)) ∧ mm_W G o S E HQ) (mm_F o)) (Value.ref o :: [.int m]).toArray sQ 0 0 (mm_F o)) (F0 mQ 23 ls []) := by
            intro fu23
            induction fu23 with
            | zero =>
              intro y H locs hm23 j023 j123 hgo23 hW hS ls hl
              exact absurd hm23 (by omega)
            | succ fu23 ih23 =>
              intro y H locs hm23 j023 j123 hgo23 hW hS ls hl
              refine lv_iload_n hx hb dX5_wrongBy_23 rfl (lv_at hl 0 rfl) ?_
              refine lv_aload_n hx hb dX5_wrongBy_24 rfl (lv_at hl 2 rfl) ?_
              refine mm_geta hx hb hts hown hK hW 10 rfl q1695 dX5_wrongBy_25 ?_
              refine lv_iload_n hx hb dX5_wrongBy_28 rfl (lv_at hl 1 rfl) ?_
              refine mm_iald hx hb hK hW 10 rfl (ww_in h0 h1) dX5_wrongBy_29 ?_
              refine lv_icmp_gt (tgt := 56) hx hb dX5_wrongBy_30 (by decide) (fun c30 => ?_) (fun c30 => ?_)
              · have t30 : ((rd_ S 10 b)).toInt < (y).toInt := ww_lt c30
                simp only [ff_wb_go, if_pos c30, ↓reduceIte] at hgo23
                obtain ⟨v56, e56⟩ : ∃ yQ : Int32, yQ = b + 1 := ⟨_, rfl⟩
                refine lv_iinc (v := v56) (lv' := [(2, .int v56), (3, .int y), (0, .ref o), (1, .int m)]) hx hb dX5_wrongBy_56 hl (k := 1) rfl (by rw [e56]; rfl) (by decide) rfl (fun ls hl => ?_)
                refine lv_goto (tgt := 2) hx hb dX5_wrongBy_59 (by decide) ?_
                have tb : v56.toInt = b.toInt + 1 := by rw [e56]; exact ww_inc t7
                exact ih2 v56 H locs (by omega) (by omega) (by omega) (by subst e12 e56; exact hgo23) hW hS ls (lv_sub hl [0, 2, 3] rfl)
              · have t30 : (y).toInt ≤ ((rd_ S 10 b)).toInt := ww_nlt c30
                refine lv_aload_n hx hb dX5_wrongBy_33 rfl (lv_at hl 2 rfl) ?_
                refine lv_iload_n hx hb dX5_wrongBy_34 rfl (lv_at hl 3 rfl) ?_
                refine lv_iload_n hx hb dX5_wrongBy_35 rfl (lv_at hl 1 rfl) ?_
                refine lv_iload_n hx hb dX5_wrongBy_36 rfl (lv_at hl 0 rfl) ?_
                refine mm_callp (As := [.int m, .int b, .int y]) (rest := []) (n := 3) ⟨hx, hb, hml, hown, hts⟩ hK (mc_isUnlike lQ G o S E m b y m0 m1 hM h0 h1 (by omega) (by omega)) (lw_V q2112 q2114 qs45 q92 q2115) (by decide +kernel) rfl ⟨Nat.le_of_ble_eq_true rfl, Nat.le_of_ble_eq_true rfl⟩ hW hS hl.1 rfl (Nat.le_of_ble_eq_true rfl) dX5_wrongBy_37 ⟨Nat.le_of_ble_eq_true rfl, Nat.le_of_ble_eq_true rfl⟩ (fun v37 H locs e37 hW hS => ?_)
                refine lv_if_eq (tgt := 50) hx hb dX5_wrongBy_40 (by decide) (fun c40 => ?_) (fun c40 => ?_)
                · skip
                  obtain ⟨v50, e50⟩ : ∃ yQ : Int32, yQ = y + 1 := ⟨_, rfl⟩
                  refine lv_iinc (v := v50) (lv' := [(3, .int v50), (2, .int b), (0, .ref o), (1, .int m)]) hx hb dX5_wrongBy_50 hl (k := 0) rfl (by rw [e50]; rfl) (by decide) rfl (fun ls hl => ?_)
                  refine lv_goto (tgt := 23) hx hb dX5_wrongBy_53 (by decide) ?_
                  have tb2 : v50.toInt = y.toInt + 1 := by rw [e50]; exact ww_inc' (by omega)
                  exact ih23 v50 H locs (by omega) (by omega) (by omega) (by subst e37 e50; simp only [ff_wb_go, if_neg c30, if_pos c40] at hgo23; exact hgo23) hW hS ls (lv_sub hl [0, 1, 2, 3] rfl)
                · skip
                  refine lv_bipush (v := 100) hx hb dX5_wrongBy_43 (by decide) ?_
                  refine lv_iload_n hx hb dX5_wrongBy_45 rfl (lv_at hl 1 rfl) ?_
                  refine nv_imul hx hb dX5_wrongBy_46 (fun v46 e46 => ?_)
                  refine lv_iload_n hx hb dX5_wrongBy_47 rfl (lv_at hl 0 rfl) ?_
                  refine nv_iadd hx hb dX5_wrongBy_48 (fun v48 e48 => ?_)
                  refine mm_iret hx hb hr hlocks hW hS ?_ dX5_wrongBy_49
                  have hz : (0 : Int32).toInt = 0 := by decide
                  have hy0 : ¬ y = 0 := ww_ne' (by omega)
                  subst e37 e46 e48; simp only [ff_wb_go, if_neg c30, if_neg c40, if_neg hy0] at hgo23
                  exact ⟨by rw [← hgo23], rfl, rfl⟩
          exact L23 61 1 H locs (by show _ - 1 + 1 < (61 : Int); omega) (by decide) (by show 1 ≤ _; omega) (by subst e12; simp only [ff_wrongBy_go, if_neg c7, if_neg c15] at hgo2; exact hgo2) hW hS ls (lv_sub hl [0, 1, 2, 3] rfl)
        · skip
          refine lv_goto (tgt := 56) hx hb dX5_wrongBy_18 (by decide) ?_
          obtain ⟨v56, e56⟩ : ∃ yQ : Int32, yQ = b + 1 := ⟨_, rfl⟩
          refine lv_iinc (v := v56) (lv' := [(2, .int v56), (0, .ref o), (1, .int m)]) hx hb dX5_wrongBy_56 hl (k := 0) rfl (by rw [e56]; rfl) (by decide) rfl (fun ls hl => ?_)
          refine lv_goto (tgt := 2) hx hb dX5_wrongBy_59 (by decide) ?_
          have tb : v56.toInt = b.toInt + 1 := by rw [e56]; exact ww_inc t7
          exact ih2 v56 H locs (by omega) (by omega) (by omega) (by subst e12 e56; simp only [ff_wrongBy_go, if_neg c7, if_pos c15] at hgo2; exact hgo2) hW hS ls (lv_sub hl [0, 1, 2] rfl)
  exact L2 121 0 H locs (by have := hB.2; show _ - 0 < _; omega) (by decide) hB.1 (by simp only [ff_wrongBy]) hW hS ls (lv_sub hl [0, 1, 2] rfl)

set_option maxHeartbeats 4000000 in
theorem mc_wrong (lQ : Launch) (G : wm_G) (o : Nat) (S : mm_S) (E : mm_E) (m : Int32) (hB : iv_B S) (hT : iv_T S) (hM : iv_M S) : mm_Met lQ G o yX5_wrong (ws_ yX5_wrong cX5_wrong 2 (some .int)) 4 S E [.int m] (some (.int (ff_wrong S m))) S E := by
  refine mm_start (by decide +kernel) (Nat.le_of_ble_eq_true rfl) rfl (fun pQ eQ sQ mQ belowQ methQ cQ hx hb hml hr hlocks hts hown hK H hW hS ls hl => ?_)
  have hl : lv_has ls 2 [(0, .ref o), (1, .int m)] := hl
  generalize hlc : ([] : List Loc) = locs at hS ⊢
  refine lv_iload_n hx hb dX5_wrong_0 rfl (lv_at hl 1 rfl) ?_
  refine lv_iconst (v := 0) hx hb dX5_wrong_1 (by decide) ?_
  refine lv_aload_n hx hb dX5_wrong_2 rfl (lv_at hl 0 rfl) ?_
  refine mm_geti hx hb hts hown hK hW 30 rfl (by decide) q1715 dX5_wrong_3 ?_
  refine lv_iconst (v := 1) hx hb dX5_wrong_6 (by decide) ?_
  refine nv_isub hx hb dX5_wrong_7 (fun v7 e7 => ?_)
  refine pp_calli (As := [.int m, .int 0, .int v7]) (rest := []) (n := 3) ⟨hx, hb, hml, hown, hts⟩ (mc_in lQ m 0 v7) (lw_S q1979 q1980 q92 q1981) (by decide +kernel) rfl ⟨Nat.le_of_ble_eq_true rfl, Nat.le_of_ble_eq_true rfl⟩ hl.1 rfl (Nat.le_of_ble_eq_true rfl) dX5_wrong_8 ⟨Nat.le_of_ble_eq_true rfl, Nat.le_of_ble_eq_true rfl⟩ (fun v8 e8 => ?_)
  refine lv_if_eq (tgt := 22) hx hb dX5_wrong_11 (by decide) (fun c11 => ?_) (fun c11 => ?_)
  · skip
    refine lv_iconst (v := (-1)) hx hb dX5_wrong_22 (by decide) ?_
    refine mm_iret hx hb hr hlocks hW hS ?_ dX5_wrong_23
    have hres : ff_wrong S m = (-1) := by subst e7 e8; simp only [ff_wrong, if_pos c11]
    exact ⟨by rw [hres], rfl, rfl⟩
  · skip
    obtain ⟨m0, m2, m1⟩ := ff_mapin_t (m := m) hM (by rw [← e7, ← e8]; exact c11)
    refine lv_aload_n hx hb dX5_wrong_14 rfl (lv_at hl 0 rfl) ?_
    refine lv_iload_n hx hb dX5_wrong_15 rfl (lv_at hl 1 rfl) ?_
    refine mm_callp (As := [.int m]) (rest := []) (n := 1) ⟨hx, hb, hml, hown, hts⟩ hK (mc_wrongBy lQ G o S E m hB hT m0 m1 hM) (lw_V q2108 q2110 qs44 q92 q2111) (by decide +kernel) rfl ⟨Nat.le_of_ble_eq_true rfl, Nat.le_of_ble_eq_true rfl⟩ hW hS hl.1 rfl (Nat.le_of_ble_eq_true rfl) dX5_wrong_16 ⟨Nat.le_of_ble_eq_true rfl, Nat.le_of_ble_eq_true rfl⟩ (fun v16 H locs e16 hW hS => ?_)
    refine lv_goto (tgt := 23) hx hb dX5_wrong_19 (by decide) ?_
    refine mm_iret hx hb hr hlocks hW hS ?_ dX5_wrong_23
    have hres : ff_wrong S m = v16 := by subst e7 e8 e16; simp only [ff_wrong, if_neg c11]
    exact ⟨by rw [hres], rfl, rfl⟩

set_option maxHeartbeats 4000000 in
theorem mc_known (lQ : Launch) (G : wm_G) (o : Nat) (S : mm_S) (E : mm_E) (w : Int32) (hB : iv_B S) (hT : iv_T S) (hM : iv_M S) : mm_Met lQ G o yX5_known (ws_ yX5_known cX5_known 9 (some .int)) 4 S E [.int w] (some (.int (ff_known S w))) S E := by
  refine mm_start (by decide +kernel) (Nat.le_of_ble_eq_true rfl) rfl (fun pQ eQ sQ mQ belowQ methQ cQ hx hb hml hr hlocks hts hown hK H hW hS ls hl => ?_)
  have hl : lv_has ls 9 [(0, .ref o), (1, .int w)] := hl
  generalize hlc : ([] : List Loc) = locs at hS ⊢
  refine lv_iload_n hx hb dX5_known_0 rfl (lv_at hl 1 rfl) ?_
  refine lv_iconst (v := 0) hx hb dX5_known_1 (by decide) ?_
  refine lv_iconst (v := 5) hx hb dX5_known_2 (by decide) ?_
  refine pp_calli (As := [.int w, .int 0, .int 5]) (rest := []) (n := 3) ⟨hx, hb, hml, hown, hts⟩ (mc_in lQ w 0 5) (lw_S q1979 q1980 q92 q1981) (by decide +kernel) rfl ⟨Nat.le_of_ble_eq_true rfl, Nat.le_of_ble_eq_true rfl⟩ hl.1 rfl (Nat.le_of_ble_eq_true rfl) dX5_known_3 ⟨Nat.le_of_ble_eq_true rfl, Nat.le_of_ble_eq_true rfl⟩ (fun v3 e3 => ?_)
  refine lv_if_ne (tgt := 11) hx hb dX5_known_6 (by decide) (fun c6 => ?_) (fun c6 => ?_)
  · skip
    refine lv_bipush (v := 32) hx hb dX5_known_11 (by decide) ?_
    refine lv_istore_n (lv' := [(2, .int 32), (0, .ref o), (1, .int w)]) hx hb dX5_known_13 rfl hl (by decide) rfl (fun ls hl => ?_)
    refine lv_iconst (v := (-1)) hx hb dX5_known_14 (by decide) ?_
    refine lv_istore_n (lv' := [(3, .int (-1)), (2, .int 32), (0, .ref o), (1, .int w)]) hx hb dX5_known_15 rfl hl (by decide) rfl (fun ls hl => ?_)
    refine lv_bipush (v := 32) hx hb dX5_known_16 (by decide) ?_
    refine lv_istore (lv' := [(4, .int 32), (3, .int (-1)), (2, .int 32), (0, .ref o), (1, .int w)]) hx hb dX5_known_18 hl (by decide) rfl (fun ls hl => ?_)
    refine lv_iconst (v := (-1)) hx hb dX5_known_20 (by decide) ?_
    refine lv_istore (lv' := [(5, .int (-1)), (4, .int 32), (3, .int (-1)), (2, .int 32), (0, .ref o), (1, .int w)]) hx hb dX5_known_21 hl (by decide) rfl (fun ls hl => ?_)
    refine lv_bipush (v := 61) hx hb dX5_known_23 (by decide) ?_
    refine lv_istore (lv' := [(6, .int 61), (5, .int (-1)), (4, .int 32), (3, .int (-1)), (2, .int 32), (0, .ref o), (1, .int w)]) hx hb dX5_known_25 hl (by decide) rfl (fun ls hl => ?_)
    refine lv_iconst (v := 0) hx hb dX5_known_27 (by decide) ?_
    refine lv_istore (lv' := [(7, .int 0), (6, .int 61), (5, .int (-1)), (4, .int 32), (3, .int (-1)), (2, .int 32), (0, .ref o), (1, .int w)]) hx hb dX5_known_28 hl (by decide) rfl (fun ls hl => ?_)
    refine lv_iconst (v := 0) hx hb dX5_known_30 (by decide) ?_
    refine lv_istore (lv' := [(8, .int 0), (7, .int 0), (6, .int 61), (5, .int (-1)), (4, .int 32), (3, .int (-1)), (2, .int 32), (0, .ref o), (1, .int w)]) hx hb dX5_known_31 hl (by decide) rfl (fun ls hl => ?_)
    have L33 : ∀ (fu33 : Nat) (a1 : Int32) (a2 : Int32) (b1 : Int32) (b2 : Int32) (y1 : Int32) (y2 : Int32) (m : Int32) (H : Heap) (locs : List Loc), ((fd_ S 30).toInt - m.toInt < fu33) → (0 ≤ m.toInt) → (m.toInt ≤ (fd_ S 30).toInt) → (ff_known_go fu33 S w a1 a2 b1 b2 y1 y2 m = ff_known S w) → mm_W G o S E H → va_S (mm_F o) sQ.heap H locs → ∀ ls : Array Slot, lv_has ls 9 [(8, .int m), (7, .int y2), (6, .int y1), (5, .int b2), (4, .int b1), (3, .int a2), (2, .int a1), (0, .ref o), (1, .int w)] → W pQ lQ eQ (wm_rm 4) sQ mQ (Value.ref o :: [.int w]).toArray belowQ methQ cQ H locs 0 0 (MQ belowQ (wm_Q (fun vQ HQ => vQ = some (.int (ff_known S w)) ∧ mm_W G o S E HQ) (mm_F o)) (Value.ref o :: [.int w]).toArray sQ 0 0 (mm_F o)) (F0 mQ 33 ls []) := by
      intro fu33
      induction fu33 with
      | zero =>
        intro a1 a2 b1 b2 y1 y2 m H locs hm33 i033 i133 hgo33 hW hS ls hl
        exact absurd hm33 (by omega)
      | succ fu33 ih33 =>
        intro a1 a2 b1 b2 y1 y2 m H locs hm33 i033 i133 hgo33 hW hS ls hl
        have qm := hM.2.1
        refine lv_iload hx hb dX5_known_33 (lv_at hl 0 rfl) ?_
        refine lv_aload_n hx hb dX5_known_35 rfl (lv_at hl 7 rfl) ?_
        refine mm_geti hx hb hts hown hK hW 30 rfl (by decide) q1715 dX5_known_36 ?_
        refine lv_icmp_ge (tgt := 212) hx hb dX5_known_39 (by decide) (fun c39 => ?_) (fun c39 => ?_)
        · have t39 : ((fd_ S 30)).toInt ≤ (m).toInt := ww_le c39
          refine lv_iload hx hb dX5_known_212 (lv_at hl 1 rfl) ?_
          refine lv_if_ne (tgt := 220) hx hb dX5_known_214 (by decide) (fun c214 => ?_) (fun c214 => ?_)
          · skip
            refine lv_iload_n hx hb dX5_known_220 rfl (lv_at hl 8 rfl) ?_
            by_cases k221_0 : w = 0
            · skip
              refine lv_tableIn (off := 31) (tgt := 252) hx hb dX5_known_221 (by rw [k221_0]; decide) (by rw [k221_0]; decide) (by rw [k221_0]; rfl) (by decide) ?_
              refine lv_iload_n hx hb dX5_known_252 rfl (lv_at hl 6 rfl) ?_
              refine mm_iret hx hb hr hlocks hW hS ?_ dX5_known_253
              have hres : ff_known S w = a1 := by rw [← hgo33]; simp only [ff_known_go, ff_known_fin, if_pos c39, if_neg c214, if_pos k221_0]
              exact ⟨by rw [hres], rfl, rfl⟩
            · skip
              by_cases k221_1 : w = 1
              · skip
                refine lv_tableIn (off := 33) (tgt := 254) hx hb dX5_known_221 (by rw [k221_1]; decide) (by rw [k221_1]; decide) (by rw [k221_1]; rfl) (by decide) ?_
                refine lv_iload hx hb dX5_known_254 (lv_at hl 3 rfl) ?_
                refine mm_iret hx hb hr hlocks hW hS ?_ dX5_known_256
                have hres : ff_known S w = b2 := by rw [← hgo33]; simp only [ff_known_go, ff_known_fin, if_pos c39, if_neg c214, if_neg k221_0, if_pos k221_1]
                exact ⟨by rw [hres], rfl, rfl⟩
              · skip
                by_cases k221_2 : w = 2
                · skip
                  refine lv_tableIn (off := 36) (tgt := 257) hx hb dX5_known_221 (by rw [k221_2]; decide) (by rw [k221_2]; decide) (by rw [k221_2]; rfl) (by decide) ?_
                  refine lv_iload hx hb dX5_known_257 (lv_at hl 2 rfl) ?_
                  refine mm_iret hx hb hr hlocks hW hS ?_ dX5_known_259
                  have hres : ff_known S w = y1 := by rw [← hgo33]; simp only [ff_known_go, ff_known_fin, if_pos c39, if_neg c214, if_neg k221_0, if_neg k221_1, if_pos k221_2]
                  exact ⟨by rw [hres], rfl, rfl⟩
                · skip
                  by_cases k221_3 : w = 3
                  · skip
                    refine lv_tableIn (off := 39) (tgt := 260) hx hb dX5_known_221 (by rw [k221_3]; decide) (by rw [k221_3]; decide) (by rw [k221_3]; rfl) (by decide) ?_
                    refine lv_iload hx hb dX5_known_260 (lv_at hl 1 rfl) ?_
                    refine mm_iret hx hb hr hlocks hW hS ?_ dX5_known_262
                    have hres : ff_known S w = y2 := by rw [← hgo33]; simp only [ff_known_go, ff_known_fin, if_pos c39, if_neg c214, if_neg k221_0, if_neg k221_1, if_neg k221_2, if_pos k221_3]
                    exact ⟨by rw [hres], rfl, rfl⟩
                  · skip
                    refine lv_tableOut (tgt := 263) hx hb dX5_known_221 (by have hk221_0 : (w).toInt ≠ 0 := ww_ne k221_0; have hk221_1 : (w).toInt ≠ 1 := ww_ne k221_1; have hk221_2 : (w).toInt ≠ 2 := ww_ne k221_2; have hk221_3 : (w).toInt ≠ 3 := ww_ne k221_3; omega) (by decide) ?_
                    refine lv_iload hx hb dX5_known_263 (lv_at hl 2 rfl) ?_
                    refine lv_iload hx hb dX5_known_265 (lv_at hl 1 rfl) ?_
                    refine lv_icmp_ne (tgt := 276) hx hb dX5_known_267 (by decide) (fun c267 => ?_) (fun c267 => ?_)
                    · skip
                      refine lv_bipush (v := (-2)) hx hb dX5_known_276 (by decide) ?_
                      refine mm_iret hx hb hr hlocks hW hS ?_ dX5_known_278
                      have hres : ff_known S w = (-2) := by rw [← hgo33]; simp only [ff_known_go, ff_known_fin, if_pos c39, if_neg c214, if_neg k221_0, if_neg k221_1, if_neg k221_2, if_neg k221_3, if_neg c267]
                      exact ⟨by rw [hres], rfl, rfl⟩
                    · skip
                      refine lv_iload_n hx hb dX5_known_270 rfl (lv_at hl 5 rfl) ?_
                      refine lv_iload hx hb dX5_known_271 (lv_at hl 4 rfl) ?_
                      refine lv_icmp_le (tgt := 279) hx hb dX5_known_273 (by decide) (fun c273 => ?_) (fun c273 => ?_)
                      · have t273 : (a2).toInt ≤ (b1).toInt := ww_le c273
                        refine lv_iload_n hx hb dX5_known_279 rfl (lv_at hl 8 rfl) ?_
                        refine lv_iconst (v := 4) hx hb dX5_known_280 (by decide) ?_
                        refine lv_icmp_ne (tgt := 288) hx hb dX5_known_281 (by decide) (fun c281 => ?_) (fun c281 => ?_)
                        · skip
                          refine lv_iload hx hb dX5_known_288 (lv_at hl 4 rfl) ?_
                          refine mm_iret hx hb hr hlocks hW hS ?_ dX5_known_290
                          have hres : ff_known S w = b1 := by rw [← hgo33]; simp only [ff_known_go, ff_known_fin, if_pos c39, if_neg c214, if_neg k221_0, if_neg k221_1, if_neg k221_2, if_neg k221_3, if_pos c267, if_pos c273, if_neg c281]
                          exact ⟨by rw [hres], rfl, rfl⟩
                        · skip
                          refine lv_iload_n hx hb dX5_known_284 rfl (lv_at hl 5 rfl) ?_
                          refine lv_goto (tgt := 290) hx hb dX5_known_285 (by decide) ?_
                          refine mm_iret hx hb hr hlocks hW hS ?_ dX5_known_290
                          have hres : ff_known S w = a2 := by rw [← hgo33]; simp only [ff_known_go, ff_known_fin, if_pos c39, if_neg c214, if_neg k221_0, if_neg k221_1, if_neg k221_2, if_neg k221_3, if_pos c267, if_pos c273, if_pos c281]
                          exact ⟨by rw [hres], rfl, rfl⟩
                      · have t273 : (b1).toInt < (a2).toInt := ww_nle c273
                        refine lv_bipush (v := (-2)) hx hb dX5_known_276 (by decide) ?_
                        refine mm_iret hx hb hr hlocks hW hS ?_ dX5_known_278
                        have hres : ff_known S w = (-2) := by rw [← hgo33]; simp only [ff_known_go, ff_known_fin, if_pos c39, if_neg c214, if_neg k221_0, if_neg k221_1, if_neg k221_2, if_neg k221_3, if_pos c267, if_neg c273]
                        exact ⟨by rw [hres], rfl, rfl⟩
          · skip
            refine lv_bipush (v := (-2)) hx hb dX5_known_217 (by decide) ?_
            refine mm_iret hx hb hr hlocks hW hS ?_ dX5_known_219
            have hres : ff_known S w = (-2) := by rw [← hgo33]; simp only [ff_known_go, ff_known_fin, if_pos c39, if_pos c214]
            exact ⟨by rw [hres], rfl, rfl⟩
        · have t39 : (m).toInt < ((fd_ S 30)).toInt := ww_nle c39
          refine lv_aload_n hx hb dX5_known_42 rfl (lv_at hl 7 rfl) ?_
          refine lv_iload hx hb dX5_known_43 (lv_at hl 0 rfl) ?_
          refine mm_callp (As := [.int m]) (rest := []) (n := 1) ⟨hx, hb, hml, hown, hts⟩ hK (mc_wrongBy lQ G o S E m hB hT (by omega) (by omega) hM) (lw_V q2108 q2110 qs44 q92 q2111) (by decide +kernel) rfl ⟨Nat.le_of_ble_eq_true rfl, Nat.le_of_ble_eq_true rfl⟩ hW hS hl.1 rfl (Nat.le_of_ble_eq_true rfl) dX5_known_45 ⟨Nat.le_of_ble_eq_true rfl, Nat.le_of_ble_eq_true rfl⟩ (fun v45 H locs e45 hW hS => ?_)
          refine lv_bipush (v := (-2)) hx hb dX5_known_48 (by decide) ?_
          refine lv_icmp_eq (tgt := 56) hx hb dX5_known_50 (by decide) (fun c50 => ?_) (fun c50 => ?_)
          · skip
            refine lv_aload_n hx hb dX5_known_56 rfl (lv_at hl 7 rfl) ?_
            refine mm_geta hx hb hts hown hK hW 31 rfl q1716 dX5_known_57 ?_
            refine lv_iload hx hb dX5_known_60 (lv_at hl 0 rfl) ?_
            refine mm_iald hx hb hK hW 31 rfl (ww_in (by omega) (by omega)) dX5_known_62 ?_
            refine lv_iload_n hx hb dX5_known_63 rfl (lv_at hl 6 rfl) ?_
            refine wm_join (P := fun w78 : Int32 => w78 = (if a1 ≤ rd_ S 31 m then a1 else rd_ S 31 m)) (j := 78) (rest := []) (ls := ls) (fun w78 ew78 => ?_) (fun J78 => ?_)
            · skip
              refine lv_istore_n (lv' := [(2, .int w78), (8, .int m), (7, .int y2), (6, .int y1), (5, .int b2), (4, .int b1), (3, .int a2), (0, .ref o), (1, .int w)]) hx hb dX5_known_78 rfl hl (by decide) rfl (fun ls hl => ?_)
              refine lv_aload_n hx hb dX5_known_79 rfl (lv_at hl 7 rfl) ?_
              refine mm_geta hx hb hts hown hK hW 31 rfl q1716 dX5_known_80 ?_
              refine lv_iload hx hb dX5_known_83 (lv_at hl 1 rfl) ?_
              refine mm_iald hx hb hK hW 31 rfl (ww_in (by omega) (by omega)) dX5_known_85 ?_
              refine lv_iload_n hx hb dX5_known_86 rfl (lv_at hl 6 rfl) ?_
              refine wm_join (P := fun w101 : Int32 => w101 = (if rd_ S 31 m ≤ a2 then a2 else rd_ S 31 m)) (j := 101) (rest := []) (ls := ls) (fun w101 ew101 => ?_) (fun J101 => ?_)
              · skip
                refine lv_istore_n (lv' := [(3, .int w101), (2, .int w78), (8, .int m), (7, .int y2), (6, .int y1), (5, .int b2), (4, .int b1), (0, .ref o), (1, .int w)]) hx hb dX5_known_101 rfl hl (by decide) rfl (fun ls hl => ?_)
                refine lv_aload_n hx hb dX5_known_102 rfl (lv_at hl 7 rfl) ?_
                refine mm_geta hx hb hts hown hK hW 32 rfl q1717 dX5_known_103 ?_
                refine lv_iload hx hb dX5_known_106 (lv_at hl 2 rfl) ?_
                refine mm_iald hx hb hK hW 32 rfl (ww_in (by omega) (by omega)) dX5_known_108 ?_
                refine lv_iload hx hb dX5_known_109 (lv_at hl 6 rfl) ?_
                refine wm_join (P := fun w126 : Int32 => w126 = (if b1 ≤ rd_ S 32 m then b1 else rd_ S 32 m)) (j := 126) (rest := []) (ls := ls) (fun w126 ew126 => ?_) (fun J126 => ?_)
                · skip
                  refine lv_istore (lv' := [(4, .int w126), (3, .int w101), (2, .int w78), (8, .int m), (7, .int y2), (6, .int y1), (5, .int b2), (0, .ref o), (1, .int w)]) hx hb dX5_known_126 hl (by decide) rfl (fun ls hl => ?_)
                  refine lv_aload_n hx hb dX5_known_128 rfl (lv_at hl 7 rfl) ?_
                  refine mm_geta hx hb hts hown hK hW 32 rfl q1717 dX5_known_129 ?_
                  refine lv_iload hx hb dX5_known_132 (lv_at hl 3 rfl) ?_
                  refine mm_iald hx hb hK hW 32 rfl (ww_in (by omega) (by omega)) dX5_known_134 ?_
                  refine lv_iload hx hb dX5_known_135 (lv_at hl 6 rfl) ?_
                  refine wm_join (P := fun w152 : Int32 => w152 = (if rd_ S 32 m ≤ b2 then b2 else rd_ S 32 m)) (j := 152) (rest := []) (ls := ls) (fun w152 ew152 => ?_) (fun J152 => ?_)
                  · skip
                    refine lv_istore (lv' := [(5, .int w152), (4, .int w126), (3, .int w101), (2, .int w78), (8, .int m), (7, .int y2), (6, .int y1), (0, .ref o), (1, .int w)]) hx hb dX5_known_152 hl (by decide) rfl (fun ls hl => ?_)
                    refine lv_aload_n hx hb dX5_known_154 rfl (lv_at hl 7 rfl) ?_
                    refine mm_geta hx hb hts hown hK hW 33 rfl q1718 dX5_known_155 ?_
                    refine lv_iload hx hb dX5_known_158 (lv_at hl 4 rfl) ?_
                    refine mm_iald hx hb hK hW 33 rfl (ww_in (by omega) (by omega)) dX5_known_160 ?_
                    refine lv_iload hx hb dX5_known_161 (lv_at hl 6 rfl) ?_
                    refine wm_join (P := fun w178 : Int32 => w178 = (if y1 ≤ rd_ S 33 m then y1 else rd_ S 33 m)) (j := 178) (rest := []) (ls := ls) (fun w178 ew178 => ?_) (fun J178 => ?_)
                    · skip
                      refine lv_istore (lv' := [(6, .int w178), (5, .int w152), (4, .int w126), (3, .int w101), (2, .int w78), (8, .int m), (7, .int y2), (0, .ref o), (1, .int w)]) hx hb dX5_known_178 hl (by decide) rfl (fun ls hl => ?_)
                      refine lv_aload_n hx hb dX5_known_180 rfl (lv_at hl 7 rfl) ?_
                      refine mm_geta hx hb hts hown hK hW 33 rfl q1718 dX5_known_181 ?_
                      refine lv_iload hx hb dX5_known_184 (lv_at hl 5 rfl) ?_
                      refine mm_iald hx hb hK hW 33 rfl (ww_in (by omega) (by omega)) dX5_known_186 ?_
                      refine lv_iload hx hb dX5_known_187 (lv_at hl 6 rfl) ?_
                      refine wm_join (P := fun w204 : Int32 => w204 = (if rd_ S 33 m ≤ y2 then y2 else rd_ S 33 m)) (j := 204) (rest := []) (ls := ls) (fun w204 ew204 => ?_) (fun J204 => ?_)
                      · skip
                        refine lv_istore (lv' := [(7, .int w204), (6, .int w178), (5, .int w152), (4, .int w126), (3, .int w101), (2, .int w78), (8, .int m), (0, .ref o), (1, .int w)]) hx hb dX5_known_204 hl (by decide) rfl (fun ls hl => ?_)
                        obtain ⟨v206, e206⟩ : ∃ yQ : Int32, yQ = m + 1 := ⟨_, rfl⟩
                        refine lv_iinc (v := v206) (lv' := [(8, .int v206), (7, .int w204), (6, .int w178), (5, .int w152), (4, .int w126), (3, .int w101), (2, .int w78), (0, .ref o), (1, .int w)]) hx hb dX5_known_206 hl (k := 6) rfl (by rw [e206]; rfl) (by decide) rfl (fun ls hl => ?_)
                        refine lv_goto (tgt := 33) hx hb dX5_known_209 (by decide) ?_
                        have tb : v206.toInt = m.toInt + 1 := by rw [e206]; exact ww_inc t39
                        exact ih33 w78 w101 w126 w152 w178 w204 v206 H locs (by omega) (by omega) (by omega) (by subst e45 ew78 ew101 ew126 ew152 ew178 ew204 e206; simp only [ff_known_go, ff_known_fin, if_neg c39, if_pos c50] at hgo33; exact hgo33) hW hS ls (lv_sub hl [0, 1, 2, 3, 4, 5, 6, 7, 8] rfl)
                      refine lv_icmp_le (tgt := 202) hx hb dX5_known_189 (by decide) (fun c189 => ?_) (fun c189 => ?_)
                      · have t189 : ((rd_ S 33 m)).toInt ≤ (y2).toInt := ww_le c189
                        refine lv_iload hx hb dX5_known_202 (lv_at hl 6 rfl) ?_
                        exact J204 _ (by subst e45 ew78 ew101 ew126 ew152 ew178; simp only [if_neg c39, if_pos c50, if_pos c189])
                      · have t189 : (y2).toInt < ((rd_ S 33 m)).toInt := ww_nle c189
                        refine lv_aload_n hx hb dX5_known_192 rfl (lv_at hl 7 rfl) ?_
                        refine mm_geta hx hb hts hown hK hW 33 rfl q1718 dX5_known_193 ?_
                        refine lv_iload hx hb dX5_known_196 (lv_at hl 5 rfl) ?_
                        refine mm_iald hx hb hK hW 33 rfl (ww_in (by omega) (by omega)) dX5_known_198 ?_
                        refine lv_goto (tgt := 204) hx hb dX5_known_199 (by decide) ?_
                        exact J204 _ (by subst e45 ew78 ew101 ew126 ew152 ew178; simp only [if_neg c39, if_pos c50, if_neg c189])
                    refine lv_icmp_ge (tgt := 176) hx hb dX5_known_163 (by decide) (fun c163 => ?_) (fun c163 => ?_)
                    · have t163 : (y1).toInt ≤ ((rd_ S 33 m)).toInt := ww_le c163
                      refine lv_iload hx hb dX5_known_176 (lv_at hl 6 rfl) ?_
                      exact J178 _ (by subst e45 ew78 ew101 ew126 ew152; simp only [if_neg c39, if_pos c50, if_pos c163])
                    · have t163 : ((rd_ S 33 m)).toInt < (y1).toInt := ww_nle c163
                      refine lv_aload_n hx hb dX5_known_166 rfl (lv_at hl 7 rfl) ?_
                      refine mm_geta hx hb hts hown hK hW 33 rfl q1718 dX5_known_167 ?_
                      refine lv_iload hx hb dX5_known_170 (lv_at hl 4 rfl) ?_
                      refine mm_iald hx hb hK hW 33 rfl (ww_in (by omega) (by omega)) dX5_known_172 ?_
                      refine lv_goto (tgt := 178) hx hb dX5_known_173 (by decide) ?_
                      exact J178 _ (by subst e45 ew78 ew101 ew126 ew152; simp only [if_neg c39, if_pos c50, if_neg c163])
                  refine lv_icmp_le (tgt := 150) hx hb dX5_known_137 (by decide) (fun c137 => ?_) (fun c137 => ?_)
                  · have t137 : ((rd_ S 32 m)).toInt ≤ (b2).toInt := ww_le c137
                    refine lv_iload hx hb dX5_known_150 (lv_at hl 6 rfl) ?_
                    exact J152 _ (by subst e45 ew78 ew101 ew126; simp only [if_neg c39, if_pos c50, if_pos c137])
                  · have t137 : (b2).toInt < ((rd_ S 32 m)).toInt := ww_nle c137
                    refine lv_aload_n hx hb dX5_known_140 rfl (lv_at hl 7 rfl) ?_
                    refine mm_geta hx hb hts hown hK hW 32 rfl q1717 dX5_known_141 ?_
                    refine lv_iload hx hb dX5_known_144 (lv_at hl 3 rfl) ?_
                    refine mm_iald hx hb hK hW 32 rfl (ww_in (by omega) (by omega)) dX5_known_146 ?_
                    refine lv_goto (tgt := 152) hx hb dX5_known_147 (by decide) ?_
                    exact J152 _ (by subst e45 ew78 ew101 ew126; simp only [if_neg c39, if_pos c50, if_neg c137])
                refine lv_icmp_ge (tgt := 124) hx hb dX5_known_111 (by decide) (fun c111 => ?_) (fun c111 => ?_)
                · have t111 : (b1).toInt ≤ ((rd_ S 32 m)).toInt := ww_le c111
                  refine lv_iload hx hb dX5_known_124 (lv_at hl 6 rfl) ?_
                  exact J126 _ (by subst e45 ew78 ew101; simp only [if_neg c39, if_pos c50, if_pos c111])
                · have t111 : ((rd_ S 32 m)).toInt < (b1).toInt := ww_nle c111
                  refine lv_aload_n hx hb dX5_known_114 rfl (lv_at hl 7 rfl) ?_
                  refine mm_geta hx hb hts hown hK hW 32 rfl q1717 dX5_known_115 ?_
                  refine lv_iload hx hb dX5_known_118 (lv_at hl 2 rfl) ?_
                  refine mm_iald hx hb hK hW 32 rfl (ww_in (by omega) (by omega)) dX5_known_120 ?_
                  refine lv_goto (tgt := 126) hx hb dX5_known_121 (by decide) ?_
                  exact J126 _ (by subst e45 ew78 ew101; simp only [if_neg c39, if_pos c50, if_neg c111])
              refine lv_icmp_le (tgt := 100) hx hb dX5_known_87 (by decide) (fun c87 => ?_) (fun c87 => ?_)
              · have t87 : ((rd_ S 31 m)).toInt ≤ (a2).toInt := ww_le c87
                refine lv_iload_n hx hb dX5_known_100 rfl (lv_at hl 6 rfl) ?_
                exact J101 _ (by subst e45 ew78; simp only [if_neg c39, if_pos c50, if_pos c87])
              · have t87 : (a2).toInt < ((rd_ S 31 m)).toInt := ww_nle c87
                refine lv_aload_n hx hb dX5_known_90 rfl (lv_at hl 7 rfl) ?_
                refine mm_geta hx hb hts hown hK hW 31 rfl q1716 dX5_known_91 ?_
                refine lv_iload hx hb dX5_known_94 (lv_at hl 1 rfl) ?_
                refine mm_iald hx hb hK hW 31 rfl (ww_in (by omega) (by omega)) dX5_known_96 ?_
                refine lv_goto (tgt := 101) hx hb dX5_known_97 (by decide) ?_
                exact J101 _ (by subst e45 ew78; simp only [if_neg c39, if_pos c50, if_neg c87])
            refine lv_icmp_ge (tgt := 77) hx hb dX5_known_64 (by decide) (fun c64 => ?_) (fun c64 => ?_)
            · have t64 : (a1).toInt ≤ ((rd_ S 31 m)).toInt := ww_le c64
              refine lv_iload_n hx hb dX5_known_77 rfl (lv_at hl 6 rfl) ?_
              exact J78 _ (by subst e45; simp only [if_neg c39, if_pos c50, if_pos c64])
            · have t64 : ((rd_ S 31 m)).toInt < (a1).toInt := ww_nle c64
              refine lv_aload_n hx hb dX5_known_67 rfl (lv_at hl 7 rfl) ?_
              refine mm_geta hx hb hts hown hK hW 31 rfl q1716 dX5_known_68 ?_
              refine lv_iload hx hb dX5_known_71 (lv_at hl 0 rfl) ?_
              refine mm_iald hx hb hK hW 31 rfl (ww_in (by omega) (by omega)) dX5_known_73 ?_
              refine lv_goto (tgt := 78) hx hb dX5_known_74 (by decide) ?_
              exact J78 _ (by subst e45; simp only [if_neg c39, if_pos c50, if_neg c64])
          · skip
            refine lv_goto (tgt := 206) hx hb dX5_known_53 (by decide) ?_
            obtain ⟨v206, e206⟩ : ∃ yQ : Int32, yQ = m + 1 := ⟨_, rfl⟩
            refine lv_iinc (v := v206) (lv' := [(8, .int v206), (7, .int y2), (6, .int y1), (5, .int b2), (4, .int b1), (3, .int a2), (2, .int a1), (0, .ref o), (1, .int w)]) hx hb dX5_known_206 hl (k := 0) rfl (by rw [e206]; rfl) (by decide) rfl (fun ls hl => ?_)
            refine lv_goto (tgt := 33) hx hb dX5_known_209 (by decide) ?_
            have tb : v206.toInt = m.toInt + 1 := by rw [e206]; exact ww_inc t39
            exact ih33 a1 a2 b1 b2 y1 y2 v206 H locs (by omega) (by omega) (by omega) (by subst e45 e206; simp only [ff_known_go, ff_known_fin, if_neg c39, if_neg c50] at hgo33; exact hgo33) hW hS ls (lv_sub hl [0, 1, 2, 3, 4, 5, 6, 7, 8] rfl)
    exact L33 9 32 (-1) 32 (-1) 61 0 0 H locs (by have := hM.2.1; show _ - 0 < _; omega) (by decide) hM.1 (by subst e3; simp only [ff_known, if_neg c6]) hW hS ls (lv_sub hl [0, 1, 2, 3, 4, 5, 6, 7, 8] rfl)
  · skip
    refine lv_iconst (v := (-1)) hx hb dX5_known_9 (by decide) ?_
    refine mm_iret hx hb hr hlocks hW hS ?_ dX5_known_10
    have hres : ff_known S w = (-1) := by subst e3; simp only [ff_known, if_pos c6]
    exact ⟨by rw [hres], rfl, rfl⟩
