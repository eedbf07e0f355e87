set_option maxHeartbeats 4000000 in
theorem mc_drill (lQ : Launch) (G : wm_G) (o : Nat) (S : mm_S) (E : mm_E) (hB : iv_B S) (hT : iv_T S) (hX : iv_X S) (hH : iv_H S) : mm_Met lQ G o yX5_drill (ws_ yX5_drill cX5_drill 2 none) 4 S E [] (none) (ff_drill S) E := by
  refine mm_start (by decide +kernel) (Nat.le_of_ble_eq_true rfl) rfl (fun pQ eQ sQ mQ belowQ methQ cQ hx hb hml hr hlocks hts hown hK H hW hS ls hl => ?_)
  have hl : lv_has ls 2 [(0, .ref o)] := hl
  generalize hlc : ([] : List Loc) = locs at hS ⊢
  refine lv_iconst (v := 0) hx hb dX5_drill_0 (by decide) ?_
  refine lv_istore_n (lv' := [(1, .int 0), (0, .ref o)]) hx hb dX5_drill_1 rfl hl (by decide) rfl (fun ls hl => ?_)
  have L2 : ∀ (fu2 : Nat) (b : Int32) (S0 : mm_S) (H : Heap) (locs : List Loc), ((fd_ S 4).toInt - b.toInt < fu2) → (0 ≤ b.toInt) → (b.toInt ≤ (fd_ S 4).toInt) → (fr_ [59] S S0) → (dr_clr fu2 S0 b = dr_cl S) → mm_W G o S0 E H → va_S (mm_F o) sQ.heap H locs → ∀ ls : Array Slot, lv_has ls 2 [(1, .int b), (0, .ref o)] → W pQ lQ eQ (wm_rm 4) sQ mQ (Value.ref o :: []).toArray belowQ methQ cQ H locs 0 0 (MQ belowQ (wm_Q (fun vQ HQ => vQ = none ∧ mm_W G o (ff_drill S) E HQ) (mm_F o)) (Value.ref o :: []).toArray sQ 0 0 (mm_F o)) (F0 mQ 2 ls []) := by
    intro fu2
    induction fu2 with
    | zero =>
      intro b S0 H locs hm2 i02 i12 iF2 hgo2 hW hS ls hl
      exact absurd hm2 (by omega)
    | succ fu2 ih2 =>
      intro b S0 H locs hm2 i02 i12 iF2 hgo2 hW hS ls hl
      have e4 : (fd_ S0 4).toInt = (fd_ S 4).toInt := by rw [fd_of (iF2 4 (by decide))]
      have hb2 := hB.2
      refine lv_iload_n hx hb dX5_drill_2 rfl (lv_at hl 0 rfl) ?_
      refine lv_aload_n hx hb dX5_drill_3 rfl (lv_at hl 1 rfl) ?_
      refine mm_geti hx hb hts hown hK hW 4 rfl (by decide) q1689 dX5_drill_4 ?_
      refine lv_icmp_ge (tgt := 23) hx hb dX5_drill_7 (by decide) (fun c7 => ?_) (fun c7 => ?_)
      · have t7 : ((fd_ S0 4)).toInt ≤ (b).toInt := ww_le c7
        have hs : S0 = dr_cl S := by simp only [dr_clr, if_pos c7] at hgo2; exact hgo2
        refine lv_aload_n hx hb dX5_drill_23 rfl (lv_at hl 1 rfl) ?_
        refine lv_iconst (v := 2) hx hb dX5_drill_24 (by decide) ?_
        refine lv_iconst (v := (-1)) hx hb dX5_drill_25 (by decide) ?_
        refine lv_iconst (v := 0) hx hb dX5_drill_26 (by decide) ?_
        refine mm_calli (As := [.int 2, .int (-1), .int 0]) (rest := []) (n := 3) ⟨hx, hb, hml, hown, hts⟩ hK (mc_saysNow lQ G o S0 E 2 (-1) 0 (iv_B_of (iF2 4 (by decide)) hB) (iv_X_fr iF2 (by decide) hX) (by decide)) (lw_V q2201 q2203 qs60 q92 q2204) (by decide +kernel) rfl ⟨Nat.le_of_ble_eq_true rfl, Nat.le_of_ble_eq_true rfl⟩ hW hS hl.1 rfl (Nat.le_of_ble_eq_true rfl) dX5_drill_27 ⟨Nat.le_of_ble_eq_true rfl, Nat.le_of_ble_eq_true rfl⟩ (fun v27 S27 H locs e27 f27 hW hS => ?_)
        refine lv_if_eq (tgt := 34) hx hb dX5_drill_30 (by decide) (fun c30 => ?_) (fun c30 => ?_)
        · skip
          refine lv_iconst (v := 0) hx hb dX5_drill_34 (by decide) ?_
          refine lv_istore_n (lv' := [(1, .int 0), (0, .ref o)]) hx hb dX5_drill_35 rfl hl (by decide) rfl (fun ls hl => ?_)
          have L36 : ∀ (fu36 : Nat) (m : Int32) (S1 : mm_S) (H : Heap) (locs : List Loc), (3 - m.toInt < fu36) → (0 ≤ m.toInt) → (m.toInt ≤ 3) → (fr_ [11, 52, 53, 59, 60] S S1) → (dr_m fu36 S1 m = dr_ms S27) → mm_W G o S1 E H → va_S (mm_F o) sQ.heap H locs → ∀ ls : Array Slot, lv_has ls 2 [(1, .int m), (0, .ref o)] → W pQ lQ eQ (wm_rm 4) sQ mQ (Value.ref o :: []).toArray belowQ methQ cQ H locs 0 0 (MQ belowQ (wm_Q (fun vQ HQ => vQ = none ∧ mm_W G o (ff_drill S) E HQ) (mm_F o)) (Value.ref o :: []).toArray sQ 0 0 (mm_F o)) (F0 mQ 36 ls []) := by
            intro fu36
            induction fu36 with
            | zero =>
              intro m S1 H locs hm36 i036 i136 iF36 hgo36 hW hS ls hl
              exact absurd hm36 (by omega)
            | succ fu36 ih36 =>
              intro m S1 H locs hm36 i036 i136 iF36 hgo36 hW hS ls hl
              have hB1 := iv_B_of (iF36 4 (by decide)) hB
              have hH1 := iv_H_of (iF36 4 (by decide)) (iF36 5 (by decide)) (iF36 27 (by decide)) hH
              refine lv_iload_n hx hb dX5_drill_36 rfl (lv_at hl 0 rfl) ?_
              refine lv_iconst (v := 3) hx hb dX5_drill_37 (by decide) ?_
              refine lv_icmp_ge (tgt := 117) hx hb dX5_drill_38 (by decide) (fun c38 => ?_) (fun c38 => ?_)
              · have t38 : 3 ≤ (m).toInt := ww_le c38
                have hs1 : S1 = dr_ms S27 := by simp only [dr_m, if_pos c38] at hgo36; exact hgo36
                refine lv_iconst (v := 0) hx hb dX5_drill_117 (by decide) ?_
                refine lv_istore_n (lv' := [(1, .int 0), (0, .ref o)]) hx hb dX5_drill_118 rfl hl (by decide) rfl (fun ls hl => ?_)
                have L119 : ∀ (fu119 : Nat) (b : Int32) (S2 : mm_S) (H : Heap) (locs : List Loc), ((fd_ S 4).toInt - b.toInt < fu119) → (0 ≤ b.toInt) → (b.toInt ≤ (fd_ S 4).toInt) → (fr_ [8, 10, 11, 12, 14, 52, 53, 59, 60] S S2) → (iv_T S2) → (dr_b fu119 S2 b = ff_drill S) → mm_W G o S2 E H → va_S (mm_F o) sQ.heap H locs → ∀ ls : Array Slot, lv_has ls 2 [(1, .int b), (0, .ref o)] → W pQ lQ eQ (wm_rm 4) sQ mQ (Value.ref o :: []).toArray belowQ methQ cQ H locs 0 0 (MQ belowQ (wm_Q (fun vQ HQ => vQ = none ∧ mm_W G o (ff_drill S) E HQ) (mm_F o)) (Value.ref o :: []).toArray sQ 0 0 (mm_F o)) (F0 mQ 119 ls []) := by
                  intro fu119
                  induction fu119 with
                  | zero =>
                    intro b S2 H locs hm119 i0119 i1119 iF119 iT119 hgo119 hW hS ls hl
                    exact absurd hm119 (by omega)
                  | succ fu119 ih119 =>
                    intro b S2 H locs hm119 i0119 i1119 iF119 iT119 hgo119 hW hS ls hl
                    have e4 : (fd_ S2 4).toInt = (fd_ S 4).toInt := by rw [fd_of (iF119 4 (by decide))]
                    have hb2 := hB.2
                    refine lv_iload_n hx hb dX5_drill_119 rfl (lv_at hl 0 rfl) ?_
                    refine lv_aload_n hx hb dX5_drill_120 rfl (lv_at hl 1 rfl) ?_
                    refine mm_geti hx hb hts hown hK hW 4 rfl (by decide) q1689 dX5_drill_121 ?_
                    refine lv_icmp_ge (tgt := 153) hx hb dX5_drill_124 (by decide) (fun c124 => ?_) (fun c124 => ?_)
                    · have t124 : ((fd_ S2 4)).toInt ≤ (b).toInt := ww_le c124
                      refine mm_vret hx hb hr hlocks hW hS ?_ dX5_drill_153
                      have hres : ff_drill S = S2 := by rw [← hgo119]; simp only [dr_b, if_pos c124]
                      exact ⟨hres.symm, rfl⟩
                    · have t124 : (b).toInt < ((fd_ S2 4)).toInt := ww_nle c124
                      refine lv_aload_n hx hb dX5_drill_127 rfl (lv_at hl 1 rfl) ?_
                      refine mm_geta hx hb hts hown hK hW 59 rfl q1744 dX5_drill_128 ?_
                      refine lv_iload_n hx hb dX5_drill_131 rfl (lv_at hl 0 rfl) ?_
                      refine mm_zald hx hb hK hW 59 rfl (ww_in (by omega) (by omega)) dX5_drill_132 ?_
                      refine lv_if_eq (tgt := 147) hx hb dX5_drill_133 (by decide) (fun c133 => ?_) (fun c133 => ?_)
                      · skip
                        obtain ⟨v147, e147⟩ : ∃ yQ : Int32, yQ = b + 1 := ⟨_, rfl⟩
                        refine lv_iinc (v := v147) (lv' := [(1, .int v147), (0, .ref o)]) hx hb dX5_drill_147 hl (k := 0) rfl (by rw [e147]; rfl) (by decide) rfl (fun ls hl => ?_)
                        refine lv_goto (tgt := 119) hx hb dX5_drill_150 (by decide) ?_
                        have tb : v147.toInt = b.toInt + 1 := by rw [e147]; exact ww_inc t124
                        have fr : fr_ [8, 10, 11, 12, 14, 52, 53, 59, 60] S S2 := by first | exact iF119 | (rw [f144]; exact iF119.tr ((bore_fr _ _ _ _).le' (by decide)))
                        have fT : iv_T S2 := by first | exact iT119 | (rw [f144]; exact bore_iv _ _ _ _ i0119 (by omega) iT119)
                        exact ih119 v147 S2 H locs (by omega) (by omega) (by omega) fr fT (by subst e147; simp only [dr_b, if_neg c124, if_pos c133] at hgo119; exact hgo119) hW hS ls (lv_sub hl [0, 1] rfl)
                      · skip
                        refine lv_aload_n hx hb dX5_drill_136 rfl (lv_at hl 1 rfl) ?_
                        refine lv_iload_n hx hb dX5_drill_137 rfl (lv_at hl 0 rfl) ?_
                        refine lv_aload_n hx hb dX5_drill_138 rfl (lv_at hl 1 rfl) ?_
                        refine mm_geta hx hb hts hown hK hW 60 rfl q1745 dX5_drill_139 ?_
                        refine lv_iload_n hx hb dX5_drill_142 rfl (lv_at hl 0 rfl) ?_
                        refine mm_iald hx hb hK hW 60 rfl (ww_in (by omega) (by omega)) dX5_drill_143 ?_
                        refine mm_callv (As := [.int b, .int (rd_ S2 60 b)]) (rest := []) (n := 2) ⟨hx, hb, hml, hown, hts⟩ hK (mc_bore lQ G o S2 E b (rd_ S2 60 b) i0119 (by omega) iT119) (lw_V q2236 q2238 qs65 q92 q2239) (by decide +kernel) rfl ⟨Nat.le_of_ble_eq_true rfl, Nat.le_of_ble_eq_true rfl⟩ hW hS hl.1 rfl (Nat.le_of_ble_eq_true rfl) dX5_drill_144 ⟨Nat.le_of_ble_eq_true rfl, Nat.le_of_ble_eq_true rfl⟩ (fun S144 H locs f144 hW hS => ?_)
                        obtain ⟨v147, e147⟩ : ∃ yQ : Int32, yQ = b + 1 := ⟨_, rfl⟩
                        refine lv_iinc (v := v147) (lv' := [(1, .int v147), (0, .ref o)]) hx hb dX5_drill_147 hl (k := 0) rfl (by rw [e147]; rfl) (by decide) rfl (fun ls hl => ?_)
                        refine lv_goto (tgt := 119) hx hb dX5_drill_150 (by decide) ?_
                        have tb : v147.toInt = b.toInt + 1 := by rw [e147]; exact ww_inc t124
                        have fr : fr_ [8, 10, 11, 12, 14, 52, 53, 59, 60] S S144 := by first | exact iF119 | (rw [f144]; exact iF119.tr ((bore_fr _ _ _ _).le' (by decide)))
                        have fT : iv_T S144 := by first | exact iT119 | (rw [f144]; exact bore_iv _ _ _ _ i0119 (by omega) iT119)
                        exact ih119 v147 S144 H locs (by omega) (by omega) (by omega) fr fT (by subst f144 e147; simp only [dr_b, if_neg c124, if_neg c133] at hgo119; exact hgo119) hW hS ls (lv_sub hl [0, 1] rfl)
                exact L119 121 0 S1 H locs (by have := hB.2; show _ - 0 < _; omega) (by decide) hB.1 (iF36.le' (by decide)) (iv_T_of (iF36 9 (by decide)) (iF36 10 (by decide)) hT) (by subst hs e27 f27 hs1; simp only [ff_drill, dr_say, if_pos c7, if_pos c30, if_pos c38]) hW hS ls (lv_sub hl [0, 1] rfl)
              · have t38 : (m).toInt < 3 := ww_nle c38
                refine lv_aload_n hx hb dX5_drill_41 rfl (lv_at hl 1 rfl) ?_
                refine mm_geta hx hb hts hown hK hW 27 rfl q1712 dX5_drill_42 ?_
                refine lv_iload_n hx hb dX5_drill_45 rfl (lv_at hl 0 rfl) ?_
                refine mm_iald hx hb hK hW 27 rfl (ww_in (by omega) (by omega)) dX5_drill_46 ?_
                refine lv_if_lt (tgt := 111) hx hb dX5_drill_47 (by decide) (fun c47 => ?_) (fun c47 => ?_)
                · have t47 : ((rd_ S1 27 m)).toInt < 0 := ww_lt c47
                  obtain ⟨v111, e111⟩ : ∃ yQ : Int32, yQ = m + 1 := ⟨_, rfl⟩
                  refine lv_iinc (v := v111) (lv' := [(1, .int v111), (0, .ref o)]) hx hb dX5_drill_111 hl (k := 0) rfl (by rw [e111]; rfl) (by decide) rfl (fun ls hl => ?_)
                  refine lv_goto (tgt := 36) hx hb dX5_drill_114 (by decide) ?_
                  have tb : v111.toInt = m.toInt + 1 := by rw [e111]; exact ww_inc' (by omega)
                  have fr : fr_ [11, 52, 53, 59, 60] S S1 := by first | exact iF36 | (have q := dro_fr S1 m; have z : S1 = dr_do S1 m := (by subst e111; rfl); rw [z]; exact iF36.tr (q.le' (by decide)))
                  exact ih36 v111 S1 H locs (by omega) (by omega) (by omega) fr (by subst e111; simp only [dr_m, if_neg c38, if_pos c47] at hgo36; exact hgo36) hW hS ls (lv_sub hl [0, 1] rfl)
                · have t47 : 0 ≤ ((rd_ S1 27 m)).toInt := ww_nlt c47
                  refine lv_aload_n hx hb dX5_drill_50 rfl (lv_at hl 1 rfl) ?_
                  refine mm_geti hx hb hts hown hK hW 1 rfl (by decide) q1686 dX5_drill_51 ?_
                  refine lv_aload_n hx hb dX5_drill_54 rfl (lv_at hl 1 rfl) ?_
                  refine mm_geta hx hb hts hown hK hW 28 rfl q1713 dX5_drill_55 ?_
                  refine lv_iload_n hx hb dX5_drill_58 rfl (lv_at hl 0 rfl) ?_
                  refine mm_iald hx hb hK hW 28 rfl (ww_in (by omega) (by omega)) dX5_drill_59 ?_
                  refine lv_icmp_gt (tgt := 66) hx hb dX5_drill_60 (by decide) (fun c60 => ?_) (fun c60 => ?_)
                  · have t60 : ((rd_ S1 28 m)).toInt < ((fd_ S1 1)).toInt := ww_lt c60
                    refine lv_aload_n hx hb dX5_drill_66 rfl (lv_at hl 1 rfl) ?_
                    have h120 := iv_H_t hB1 hH1 i036 (by omega) t47
                    refine mm_geta hx hb hts hown hK hW 11 rfl q1696 dX5_drill_67 ?_
                    refine lv_aload_n hx hb dX5_drill_70 rfl (lv_at hl 1 rfl) ?_
                    refine mm_geta hx hb hts hown hK hW 27 rfl q1712 dX5_drill_71 ?_
                    refine lv_iload_n hx hb dX5_drill_74 rfl (lv_at hl 0 rfl) ?_
                    refine mm_iald hx hb hK hW 27 rfl (ww_in (by omega) (by omega)) dX5_drill_75 ?_
                    refine lv_dup2_11 hx hb dX5_drill_76 rfl rfl ?_
                    refine mm_iald hx hb hK hW 11 rfl (ww_in (by omega) h120) dX5_drill_77 ?_
                    refine lv_bipush (v := 60) hx hb dX5_drill_78 (by decide) ?_
                    refine nv_iadd hx hb dX5_drill_80 (fun v80 e80 => ?_)
                    refine mm_iast hx hb hK hW hS 11 rfl (ww_in (by omega) h120) dX5_drill_81 (fun S81 H locs f81 hW hS => ?_)
                    have r27 : ∀ q : Int32, rd_ S81 27 q = rd_ S1 27 q := by intro q; rw [f81, rd_wn (by decide)]
                    refine lv_aload_n hx hb dX5_drill_82 rfl (lv_at hl 1 rfl) ?_
                    refine mm_geta hx hb hts hown hK hW 59 rfl q1744 dX5_drill_83 ?_
                    refine lv_aload_n hx hb dX5_drill_86 rfl (lv_at hl 1 rfl) ?_
                    refine mm_geta hx hb hts hown hK hW 27 rfl q1712 dX5_drill_87 ?_
                    refine lv_iload_n hx hb dX5_drill_90 rfl (lv_at hl 0 rfl) ?_
                    refine mm_iald hx hb hK hW 27 rfl (ww_in (by omega) (by omega)) dX5_drill_91 ?_
                    refine lv_iconst (v := 1) hx hb dX5_drill_92 (by decide) ?_
                    refine mm_zast hx hb hK hW hS 59 rfl rfl (by rw [r27]; exact ww_in (by omega) h120) dX5_drill_93 (fun S93 H locs f93 hW hS => ?_)
                    have r27b : ∀ q : Int32, rd_ S93 27 q = rd_ S1 27 q := by intro q; rw [f93, rd_wn (by decide)]; exact r27 q
                    refine lv_aload_n hx hb dX5_drill_94 rfl (lv_at hl 1 rfl) ?_
                    refine mm_geta hx hb hts hown hK hW 60 rfl q1745 dX5_drill_95 ?_
                    refine lv_aload_n hx hb dX5_drill_98 rfl (lv_at hl 1 rfl) ?_
                    refine mm_geta hx hb hts hown hK hW 27 rfl q1712 dX5_drill_99 ?_
                    refine lv_iload_n hx hb dX5_drill_102 rfl (lv_at hl 0 rfl) ?_
                    refine mm_iald hx hb hK hW 27 rfl (ww_in (by omega) (by omega)) dX5_drill_103 ?_
                    refine lv_aload_n hx hb dX5_drill_104 rfl (lv_at hl 1 rfl) ?_
                    refine mm_geta hx hb hts hown hK hW 26 rfl q1711 dX5_drill_105 ?_
                    refine lv_iload_n hx hb dX5_drill_108 rfl (lv_at hl 0 rfl) ?_
                    refine mm_iald hx hb hK hW 26 rfl (ww_in (by omega) (by omega)) dX5_drill_109 ?_
                    refine mm_iast hx hb hK hW hS 60 rfl (by rw [r27b]; exact ww_in (by omega) h120) dX5_drill_110 (fun S110 H locs f110 hW hS => ?_)
                    obtain ⟨v111, e111⟩ : ∃ yQ : Int32, yQ = m + 1 := ⟨_, rfl⟩
                    refine lv_iinc (v := v111) (lv' := [(1, .int v111), (0, .ref o)]) hx hb dX5_drill_111 hl (k := 0) rfl (by rw [e111]; rfl) (by decide) rfl (fun ls hl => ?_)
                    refine lv_goto (tgt := 36) hx hb dX5_drill_114 (by decide) ?_
                    have tb : v111.toInt = m.toInt + 1 := by rw [e111]; exact ww_inc' (by omega)
                    have fr : fr_ [11, 52, 53, 59, 60] S S110 := by first | exact iF36 | (have q := dro_fr S1 m; have z : S110 = dr_do S1 m := (by subst e80 f81 f93 f110 e111; rfl); rw [z]; exact iF36.tr (q.le' (by decide)))
                    exact ih36 v111 S110 H locs (by omega) (by omega) (by omega) fr (by subst e80 f81 f93 f110 e111; simp only [dr_m, if_neg c38, if_neg c47, if_pos c60] at hgo36; exact hgo36) hW hS ls (lv_sub hl [0, 1] rfl)
                  · have t60 : ((fd_ S1 1)).toInt ≤ ((rd_ S1 28 m)).toInt := ww_nlt c60
                    refine lv_goto (tgt := 111) hx hb dX5_drill_63 (by decide) ?_
                    obtain ⟨v111, e111⟩ : ∃ yQ : Int32, yQ = m + 1 := ⟨_, rfl⟩
                    refine lv_iinc (v := v111) (lv' := [(1, .int v111), (0, .ref o)]) hx hb dX5_drill_111 hl (k := 0) rfl (by rw [e111]; rfl) (by decide) rfl (fun ls hl => ?_)
                    refine lv_goto (tgt := 36) hx hb dX5_drill_114 (by decide) ?_
                    have tb : v111.toInt = m.toInt + 1 := by rw [e111]; exact ww_inc' (by omega)
                    have fr : fr_ [11, 52, 53, 59, 60] S S1 := by first | exact iF36 | (have q := dro_fr S1 m; have z : S1 = dr_do S1 m := (by subst e111; rfl); rw [z]; exact iF36.tr (q.le' (by decide)))
                    exact ih36 v111 S1 H locs (by omega) (by omega) (by omega) fr (by subst e111; simp only [dr_m, if_neg c38, if_neg c47, if_neg c60] at hgo36; exact hgo36) hW hS ls (lv_sub hl [0, 1] rfl)
          exact L36 4 0 S27 H locs (by show (3 : Int) - 0 < 4; omega) (by decide) (by decide) (by have q := drs_fr S; unfold dr_say at q; rw [f27, hs]; exact q.le' (by decide)) (rfl) hW hS ls (lv_sub hl [0, 1] rfl)
        · skip
          refine mm_vret hx hb hr hlocks hW hS ?_ dX5_drill_33
          have hres : ff_drill S = S27 := by subst hs e27 f27; simp only [ff_drill, dr_say, if_pos c7, if_neg c30]
          exact ⟨hres.symm, rfl⟩
      · have t7 : (b).toInt < ((fd_ S0 4)).toInt := ww_nle c7
        refine lv_aload_n hx hb dX5_drill_10 rfl (lv_at hl 1 rfl) ?_
        refine mm_geta hx hb hts hown hK hW 59 rfl q1744 dX5_drill_11 ?_
        refine lv_iload_n hx hb dX5_drill_14 rfl (lv_at hl 0 rfl) ?_
        refine lv_iconst (v := 0) hx hb dX5_drill_15 (by decide) ?_
        refine mm_zast hx hb hK hW hS 59 rfl rfl (ww_in (by omega) (by omega)) dX5_drill_16 (fun S16 H locs f16 hW hS => ?_)
        obtain ⟨v17, e17⟩ : ∃ yQ : Int32, yQ = b + 1 := ⟨_, rfl⟩
        refine lv_iinc (v := v17) (lv' := [(1, .int v17), (0, .ref o)]) hx hb dX5_drill_17 hl (k := 0) rfl (by rw [e17]; rfl) (by decide) rfl (fun ls hl => ?_)
        refine lv_goto (tgt := 2) hx hb dX5_drill_20 (by decide) ?_
        have tb : v17.toInt = b.toInt + 1 := by rw [e17]; exact ww_inc t7
        skip
        exact ih2 v17 S16 H locs (by omega) (by omega) (by omega) (by rw [f16]; exact iF2.wr (by decide)) (by subst f16 e17; simp only [dr_clr, if_neg c7] at hgo2; exact hgo2) hW hS ls (lv_sub hl [0, 1] rfl)
  exact L2 121 0 S H locs (by have := hB.2; show _ - 0 < _; omega) (by decide) hB.1 (fr_.rf S) (rfl) hW hS ls (lv_sub hl [0, 1] rfl)

set_option maxHeartbeats 4000000 in
theorem mc_eat (lQ : Launch) (G : wm_G) (o : Nat) (S : mm_S) (E : mm_E) (hB : iv_B S) (hX : iv_X S) : mm_Met lQ G o yX5_eat (ws_ yX5_eat cX5_eat 3 none) 4 S E [] (none) (ff_eat S) E := by
  refine mm_start (by decide +kernel) (Nat.le_of_ble_eq_true rfl) rfl (fun pQ eQ sQ mQ belowQ methQ cQ hx hb hml hr hlocks hts hown hK H hW hS ls hl => ?_)
  have hl : lv_has ls 3 [(0, .ref o)] := hl
  generalize hlc : ([] : List Loc) = locs at hS ⊢
  refine lv_iconst (v := 0) hx hb dX5_eat_0 (by decide) ?_
  refine lv_istore_n (lv' := [(1, .int 0), (0, .ref o)]) hx hb dX5_eat_1 rfl hl (by decide) rfl (fun ls hl => ?_)
  have L2 : ∀ (fu2 : Nat) (m : Int32) (S0 : mm_S) (H : Heap) (locs : List Loc), ((fd_ S 4).toInt - m.toInt < fu2) → (0 ≤ m.toInt) → (m.toInt ≤ (fd_ S 4).toInt) → (fr_ [17, 52, 53, 54, 55] S S0) → (ea_go fu2 S0 m = ff_eat S) → mm_W G o S0 E H → va_S (mm_F o) sQ.heap H locs → ∀ ls : Array Slot, lv_has ls 3 [(1, .int m), (0, .ref o)] → W pQ lQ eQ (wm_rm 4) sQ mQ (Value.ref o :: []).toArray belowQ methQ cQ H locs 0 0 (MQ belowQ (wm_Q (fun vQ HQ => vQ = none ∧ mm_W G o (ff_eat S) E HQ) (mm_F o)) (Value.ref o :: []).toArray sQ 0 0 (mm_F o)) (F0 mQ 2 ls []) := by
    intro fu2
    induction fu2 with
    | zero =>
      intro m S0 H locs hm2 i02 i12 iF2 hgo2 hW hS ls hl
      exact absurd hm2 (by omega)
    | succ fu2 ih2 =>
      intro m S0 H locs hm2 i02 i12 iF2 hgo2 hW hS ls hl
      have e4 : (fd_ S0 4).toInt = (fd_ S 4).toInt := by rw [fd_of (iF2 4 (by decide))]
      have hb2 := hB.2
      refine lv_iload_n hx hb dX5_eat_2 rfl (lv_at hl 0 rfl) ?_
      refine lv_aload_n hx hb dX5_eat_3 rfl (lv_at hl 1 rfl) ?_
      refine mm_geti hx hb hts hown hK hW 4 rfl (by decide) q1689 dX5_eat_4 ?_
      refine lv_icmp_ge (tgt := 106) hx hb dX5_eat_7 (by decide) (fun c7 => ?_) (fun c7 => ?_)
      · have t7 : ((fd_ S0 4)).toInt ≤ (m).toInt := ww_le c7
        refine mm_vret hx hb hr hlocks hW hS ?_ dX5_eat_106
        have hres : ff_eat S = S0 := by rw [← hgo2]; simp only [ea_go, if_pos c7]
        exact ⟨hres.symm, rfl⟩
      · have t7 : (m).toInt < ((fd_ S0 4)).toInt := ww_nle c7
        refine lv_aload_n hx hb dX5_eat_10 rfl (lv_at hl 1 rfl) ?_
        refine mm_geta hx hb hts hown hK hW 20 rfl q1705 dX5_eat_11 ?_
        refine lv_iload_n hx hb dX5_eat_14 rfl (lv_at hl 0 rfl) ?_
        refine mm_zald hx hb hK hW 20 rfl (ww_in (by omega) (by omega)) dX5_eat_15 ?_
        refine lv_if_ne (tgt := 22) hx hb dX5_eat_16 (by decide) (fun c16 => ?_) (fun c16 => ?_)
        · skip
          refine lv_aload_n hx hb dX5_eat_22 rfl (lv_at hl 1 rfl) ?_
          refine lv_bipush (v := 10) hx hb dX5_eat_23 (by decide) ?_
          refine lv_iload_n hx hb dX5_eat_25 rfl (lv_at hl 0 rfl) ?_
          refine lv_iconst (v := 1) hx hb dX5_eat_26 (by decide) ?_
          refine mm_calli (As := [.int 10, .int m, .int 1]) (rest := []) (n := 3) ⟨hx, hb, hml, hown, hts⟩ hK (mc_saysNow lQ G o S0 E 10 m 1 (iv_B_of (iF2 4 (by decide)) hB) (iv_X_fr iF2 (by decide) hX) (by omega)) (lw_V q2201 q2203 qs60 q92 q2204) (by decide +kernel) rfl ⟨Nat.le_of_ble_eq_true rfl, Nat.le_of_ble_eq_true rfl⟩ hW hS hl.1 rfl (Nat.le_of_ble_eq_true rfl) dX5_eat_27 ⟨Nat.le_of_ble_eq_true rfl, Nat.le_of_ble_eq_true rfl⟩ (fun v27 S27 H locs e27 f27 hW hS => ?_)
          refine lv_iconst (v := 0) hx hb dX5_eat_30 (by decide) ?_
          refine lv_bipush (v := 9) hx hb dX5_eat_31 (by decide) ?_
          refine pp_calli (As := [.int v27, .int 0, .int 9]) (rest := []) (n := 3) ⟨hx, hb, hml, hown, hts⟩ (mc_held lQ v27 0 9) (lw_S q2089 q2090 q92 q2091) (by decide +kernel) rfl ⟨Nat.le_of_ble_eq_true rfl, Nat.le_of_ble_eq_true rfl⟩ hl.1 rfl (Nat.le_of_ble_eq_true rfl) dX5_eat_33 ⟨Nat.le_of_ble_eq_true rfl, Nat.le_of_ble_eq_true rfl⟩ (fun v33 e33 => ?_)
          refine lv_istore_n (lv' := [(2, .int v33), (1, .int m), (0, .ref o)]) hx hb dX5_eat_36 rfl hl (by decide) rfl (fun ls hl => ?_)
          refine wm_join (P := fun w53 : Int32 => w53 = (if fd_ S27 54 ≤ v33 then fd_ S27 54 else v33)) (j := 53) (rest := []) (ls := ls) (fun w53 ew53 => ?_) (fun J53 => ?_)
          · skip
            refine lv_istore_n (lv' := [(2, .int w53), (1, .int m), (0, .ref o)]) hx hb dX5_eat_53 rfl hl (by decide) rfl (fun ls hl => ?_)
            have n53 : w53 = ea_by S0 m := by rw [ew53, f27, e33, e27]
            refine lv_aload_n hx hb dX5_eat_54 rfl (lv_at hl 2 rfl) ?_
            refine lv_dup hx hb dX5_eat_55 rfl ?_
            refine mm_geti hx hb hts hown hK hW 54 rfl (by decide) q1739 dX5_eat_56 ?_
            refine lv_iload_n hx hb dX5_eat_59 rfl (lv_at hl 0 rfl) ?_
            refine nv_isub hx hb dX5_eat_60 (fun v60 e60 => ?_)
            refine mm_puti hx hb hts hown hK hW hS 54 rfl (by decide) rfl rfl rfl q1739 dX5_eat_61 (fun S61 H locs f61 hW hS => ?_)
            have n61 : S61 = ea_1 S27 (ea_by S0 m) := by rw [f61, e60, n53]; rfl
            refine lv_aload_n hx hb dX5_eat_64 rfl (lv_at hl 2 rfl) ?_
            refine lv_dup hx hb dX5_eat_65 rfl ?_
            refine mm_geti hx hb hts hown hK hW 55 rfl (by decide) q1740 dX5_eat_66 ?_
            refine lv_iload_n hx hb dX5_eat_69 rfl (lv_at hl 0 rfl) ?_
            refine nv_iadd hx hb dX5_eat_70 (fun v70 e70 => ?_)
            refine mm_puti hx hb hts hown hK hW hS 55 rfl (by decide) rfl rfl rfl q1740 dX5_eat_71 (fun S71 H locs f71 hW hS => ?_)
            have n71 : S71 = ea_2 S61 (ea_by S0 m) := by rw [f71, e70, n53]; rfl
            refine lv_aload_n hx hb dX5_eat_74 rfl (lv_at hl 2 rfl) ?_
            refine mm_geta hx hb hts hown hK hW 17 rfl q1702 dX5_eat_75 ?_
            refine lv_iload_n hx hb dX5_eat_78 rfl (lv_at hl 1 rfl) ?_
            refine lv_aload_n hx hb dX5_eat_79 rfl (lv_at hl 2 rfl) ?_
            refine mm_geta hx hb hts hown hK hW 17 rfl q1702 dX5_eat_80 ?_
            refine lv_iload_n hx hb dX5_eat_83 rfl (lv_at hl 1 rfl) ?_
            refine mm_iald hx hb hK hW 17 rfl (ww_in (by omega) (by omega)) dX5_eat_84 ?_
            refine lv_bipush (v := 6) hx hb dX5_eat_85 (by decide) ?_
            refine nv_isub hx hb dX5_eat_87 (fun v87 e87 => ?_)
            refine lv_iconst (v := 2) hx hb dX5_eat_88 (by decide) ?_
            refine lv_iload_n hx hb dX5_eat_89 rfl (lv_at hl 0 rfl) ?_
            refine nv_imul hx hb dX5_eat_90 (fun v90 e90 => ?_)
            refine nv_iadd hx hb dX5_eat_91 (fun v91 e91 => ?_)
            refine lv_iconst (v := 0) hx hb dX5_eat_92 (by decide) ?_
            refine lv_sipush (v := 999) hx hb dX5_eat_93 (by decide) ?_
            refine pp_calli (As := [.int v91, .int 0, .int 999]) (rest := [.int m, .ref (o + 15)]) (n := 3) ⟨hx, hb, hml, hown, hts⟩ (mc_held lQ v91 0 999) (lw_S q2089 q2090 q92 q2091) (by decide +kernel) rfl ⟨Nat.le_of_ble_eq_true rfl, Nat.le_of_ble_eq_true rfl⟩ hl.1 rfl (Nat.le_of_ble_eq_true rfl) dX5_eat_96 ⟨Nat.le_of_ble_eq_true rfl, Nat.le_of_ble_eq_true rfl⟩ (fun v96 e96 => ?_)
            refine mm_iast hx hb hK hW hS 17 rfl (ww_in (by omega) (by omega)) dX5_eat_99 (fun S99 H locs f99 hW hS => ?_)
            have hs : S99 = S99 := rfl
            try have hs : S99 = ea_S S0 m := by rw [f99, e96, e91, e87, e90, n53, n71, n61, f27]; rfl
            obtain ⟨v100, e100⟩ : ∃ yQ : Int32, yQ = m + 1 := ⟨_, rfl⟩
            refine lv_iinc (v := v100) (lv' := [(1, .int v100), (2, .int w53), (0, .ref o)]) hx hb dX5_eat_100 hl (k := 1) rfl (by rw [e100]; rfl) (by decide) rfl (fun ls hl => ?_)
            refine lv_goto (tgt := 2) hx hb dX5_eat_103 (by decide) ?_
            have tb : v100.toInt = m.toInt + 1 := by rw [e100]; exact ww_inc t7
            have fr : fr_ [17, 52, 53, 54, 55] S S99 := by first | exact iF2 | (rw [hs]; exact iF2.tr (eaS_fr S0 m))
            exact ih2 v100 S99 H locs (by omega) (by omega) (by omega) fr (by first | (rw [hs, e100]; simp only [ea_go, if_neg c7, if_neg c16] at hgo2; exact hgo2) | (rw [e100]; simp only [ea_go, if_neg c7, if_neg c16] at hgo2; exact hgo2)) hW hS ls (lv_sub hl [0, 2] rfl)
          refine lv_iload_n hx hb dX5_eat_37 rfl (lv_at hl 0 rfl) ?_
          refine lv_aload_n hx hb dX5_eat_38 rfl (lv_at hl 2 rfl) ?_
          refine mm_geti hx hb hts hown hK hW 54 rfl (by decide) q1739 dX5_eat_39 ?_
          refine lv_icmp_ge (tgt := 49) hx hb dX5_eat_42 (by decide) (fun c42 => ?_) (fun c42 => ?_)
          · have t42 : ((fd_ S27 54)).toInt ≤ (v33).toInt := ww_le c42
            refine lv_aload_n hx hb dX5_eat_49 rfl (lv_at hl 2 rfl) ?_
            refine mm_geti hx hb hts hown hK hW 54 rfl (by decide) q1739 dX5_eat_50 ?_
            exact J53 _ (by simp only [if_neg c7, if_neg c16, if_pos c42])
          · have t42 : (v33).toInt < ((fd_ S27 54)).toInt := ww_nle c42
            refine lv_iload_n hx hb dX5_eat_45 rfl (lv_at hl 0 rfl) ?_
            refine lv_goto (tgt := 53) hx hb dX5_eat_46 (by decide) ?_
            exact J53 _ (by simp only [if_neg c7, if_neg c16, if_neg c42])
        · skip
          refine lv_goto (tgt := 100) hx hb dX5_eat_19 (by decide) ?_
          have hs : S0 = S0 := rfl
          try have hs : S0 = ea_S S0 m := by rw [f99, e96, e91, e87, e90, n53, n71, n61, f27]; rfl
          obtain ⟨v100, e100⟩ : ∃ yQ : Int32, yQ = m + 1 := ⟨_, rfl⟩
          refine lv_iinc (v := v100) (lv' := [(1, .int v100), (0, .ref o)]) hx hb dX5_eat_100 hl (k := 0) rfl (by rw [e100]; rfl) (by decide) rfl (fun ls hl => ?_)
          refine lv_goto (tgt := 2) hx hb dX5_eat_103 (by decide) ?_
          have tb : v100.toInt = m.toInt + 1 := by rw [e100]; exact ww_inc t7
          have fr : fr_ [17, 52, 53, 54, 55] S S0 := by first | exact iF2 | (rw [hs]; exact iF2.tr (eaS_fr S0 m))
          exact ih2 v100 S0 H locs (by omega) (by omega) (by omega) fr (by first | (rw [hs, e100]; simp only [ea_go, if_neg c7, if_pos c16] at hgo2; exact hgo2) | (rw [e100]; simp only [ea_go, if_neg c7, if_pos c16] at hgo2; exact hgo2)) hW hS ls (lv_sub hl [0, 1] rfl)
  exact L2 121 0 S H locs (by have := hB.2; show _ - 0 < _; omega) (by decide) hB.1 (fr_.rf S) (by simp only [ff_eat]) hW hS ls (lv_sub hl [0, 1] rfl)

set_option maxHeartbeats 4000000 in
theorem mc_comeDown (lQ : Launch) (G : wm_G) (o : Nat) (S : mm_S) (E : mm_E) (hwq : iv_W S) : mm_Met lQ G o yX5_comeDown (ws_ yX5_comeDown cX5_comeDown 3 none) 0 S E [] (none) (ff_comeDown S) E := by
  refine mm_start (by decide +kernel) (Nat.le_of_ble_eq_true rfl) rfl (fun pQ eQ sQ mQ belowQ methQ cQ hx hb hml hr hlocks hts hown hK H hW hS ls hl => ?_)
  have hl : lv_has ls 3 [(0, .ref o)] := hl
  generalize hlc : ([] : List Loc) = locs at hS ⊢
  refine lv_iconst (v := 0) hx hb dX5_comeDown_0 (by decide) ?_
  refine lv_istore_n (lv' := [(1, .int 0), (0, .ref o)]) hx hb dX5_comeDown_1 rfl hl (by decide) rfl (fun ls hl => ?_)
  refine lv_iconst (v := 0) hx hb dX5_comeDown_2 (by decide) ?_
  refine lv_istore_n (lv' := [(2, .int 0), (1, .int 0), (0, .ref o)]) hx hb dX5_comeDown_3 rfl hl (by decide) rfl (fun ls hl => ?_)
  have L4 : ∀ (fu4 : Nat) (n : Int32) (w : Int32) (S0 : mm_S) (H : Heap) (locs : List Loc), ((fd_ S 62).toInt - w.toInt < fu4) → (0 ≤ n.toInt) → (n.toInt ≤ w.toInt) → (w.toInt ≤ (fd_ S 62).toInt) → (fd_ S0 62 = fd_ S 62) → (∀ i : Int32, 0 ≤ i.toInt → i.toInt < 40 → i.toInt < (fd_ S0 62).toInt → 0 ≤ (rd_ S0 63 i).toInt) → (cd_go fu4 S0 n w = ff_comeDown S) → mm_W G o S0 E H → va_S (mm_F o) sQ.heap H locs → ∀ ls : Array Slot, lv_has ls 3 [(2, .int w), (1, .int n), (0, .ref o)] → W pQ lQ eQ (wm_rm 0) sQ mQ (Value.ref o :: []).toArray belowQ methQ cQ H locs 0 0 (MQ belowQ (wm_Q (fun vQ HQ => vQ = none ∧ mm_W G o (ff_comeDown S) E HQ) (mm_F o)) (Value.ref o :: []).toArray sQ 0 0 (mm_F o)) (F0 mQ 4 ls []) := by
    intro fu4
    induction fu4 with
    | zero =>
      intro n w S0 H locs hm4 i04 i14 i24 i34 i44 hgo4 hW hS ls hl
      exact absurd hm4 (by omega)
    | succ fu4 ih4 =>
      intro n w S0 H locs hm4 i04 i14 i24 i34 i44 hgo4 hW hS ls hl
      have e4 : (fd_ S0 62).toInt = (fd_ S 62).toInt := by rw [i34]
      have hb2 := hwq.2.1
      refine lv_iload_n hx hb dX5_comeDown_4 rfl (lv_at hl 0 rfl) ?_
      refine lv_aload_n hx hb dX5_comeDown_5 rfl (lv_at hl 2 rfl) ?_
      refine mm_geti hx hb hts hown hK hW 62 rfl (by decide) q1747 dX5_comeDown_6 ?_
      refine lv_icmp_ge (tgt := 112) hx hb dX5_comeDown_9 (by decide) (fun c9 => ?_) (fun c9 => ?_)
      · have t9 : ((fd_ S0 62)).toInt ≤ (w).toInt := ww_le c9
        refine lv_aload_n hx hb dX5_comeDown_112 rfl (lv_at hl 2 rfl) ?_
        refine lv_iload_n hx hb dX5_comeDown_113 rfl (lv_at hl 1 rfl) ?_
        refine mm_puti hx hb hts hown hK hW hS 62 rfl (by decide) rfl rfl rfl q1747 dX5_comeDown_114 (fun S114 H locs f114 hW hS => ?_)
        refine mm_vret hx hb hr hlocks hW hS ?_ dX5_comeDown_117
        have hres : ff_comeDown S = S114 := by rw [← hgo4]; subst f114; simp only [cd_go, if_pos c9]
        exact ⟨hres.symm, rfl⟩
      · have t9 : (w).toInt < ((fd_ S0 62)).toInt := ww_nle c9
        have w63 := i44 w (by omega) (by omega) t9
        refine lv_aload_n hx hb dX5_comeDown_12 rfl (lv_at hl 2 rfl) ?_
        refine mm_geta hx hb hts hown hK hW 64 rfl q1749 dX5_comeDown_13 ?_
        refine lv_iload_n hx hb dX5_comeDown_16 rfl (lv_at hl 0 rfl) ?_
        refine mm_iald hx hb hK hW 64 rfl (ww_in (by omega) (by omega)) dX5_comeDown_17 ?_
        refine lv_aload_n hx hb dX5_comeDown_18 rfl (lv_at hl 2 rfl) ?_
        refine mm_geti hx hb hts hown hK hW 1 rfl (by decide) q1686 dX5_comeDown_19 ?_
        refine lv_icmp_ne (tgt := 79) hx hb dX5_comeDown_22 (by decide) (fun c22 => ?_) (fun c22 => ?_)
        · skip
          refine lv_aload_n hx hb dX5_comeDown_79 rfl (lv_at hl 2 rfl) ?_
          refine mm_geta hx hb hts hown hK hW 63 rfl q1748 dX5_comeDown_80 ?_
          refine lv_iload_n hx hb dX5_comeDown_83 rfl (lv_at hl 1 rfl) ?_
          refine lv_aload_n hx hb dX5_comeDown_84 rfl (lv_at hl 2 rfl) ?_
          refine mm_geta hx hb hts hown hK hW 63 rfl q1748 dX5_comeDown_85 ?_
          refine lv_iload_n hx hb dX5_comeDown_88 rfl (lv_at hl 0 rfl) ?_
          refine mm_iald hx hb hK hW 63 rfl (ww_in (by omega) (by omega)) dX5_comeDown_89 ?_
          refine mm_iast hx hb hK hW hS 63 rfl (ww_in (by omega) (by omega)) dX5_comeDown_90 (fun S90 H locs f90 hW hS => ?_)
          refine lv_aload_n hx hb dX5_comeDown_91 rfl (lv_at hl 2 rfl) ?_
          refine mm_geta hx hb hts hown hK hW 64 rfl q1749 dX5_comeDown_92 ?_
          refine lv_iload_n hx hb dX5_comeDown_95 rfl (lv_at hl 1 rfl) ?_
          refine lv_aload_n hx hb dX5_comeDown_96 rfl (lv_at hl 2 rfl) ?_
          refine mm_geta hx hb hts hown hK hW 64 rfl q1749 dX5_comeDown_97 ?_
          refine lv_iload_n hx hb dX5_comeDown_100 rfl (lv_at hl 0 rfl) ?_
          refine mm_iald hx hb hK hW 64 rfl (ww_in (by omega) (by omega)) dX5_comeDown_101 ?_
          refine mm_iast hx hb hK hW hS 64 rfl (ww_in (by omega) (by omega)) dX5_comeDown_102 (fun S102 H locs f102 hW hS => ?_)
          obtain ⟨v103, e103⟩ : ∃ yQ : Int32, yQ = n + 1 := ⟨_, rfl⟩
          refine lv_iinc (v := v103) (lv' := [(1, .int v103), (2, .int w), (0, .ref o)]) hx hb dX5_comeDown_103 hl (k := 1) rfl (by rw [e103]; rfl) (by decide) rfl (fun ls hl => ?_)
          obtain ⟨v106, e106⟩ : ∃ yQ : Int32, yQ = w + 1 := ⟨_, rfl⟩
          refine lv_iinc (v := v106) (lv' := [(2, .int v106), (1, .int v103), (0, .ref o)]) hx hb dX5_comeDown_106 hl (k := 1) rfl (by rw [e106]; rfl) (by decide) rfl (fun ls hl => ?_)
          refine lv_goto (tgt := 4) hx hb dX5_comeDown_109 (by decide) ?_
          have tw : v106.toInt = w.toInt + 1 := by rw [e106]; exact ww_inc t9
          have tn : (n + 1).toInt = n.toInt + 1 := ww_inc' (by omega)
          have x3 : fd_ S102 62 = fd_ S 62 := by first | (rw [f102, fd_wn (by decide), f90, fd_wn (by decide)]; exact i34) | (rw [f52, fd_fn (by decide)]; exact i34) | (rw [f75, fd_wn (by decide)]; exact i34)
          have x4 : ∀ i : Int32, 0 ≤ i.toInt → i.toInt < 40 → i.toInt < (fd_ S102 62).toInt → 0 ≤ (rd_ S102 63 i).toInt := by
            intro i q0 q1 q2
            rw [x3, ← i34] at q2
            first
            | (rw [f102, f90]; exact cd_wr i44 i04 (by omega) t9 (by omega) i q0 q1 q2)
            | (rw [f52, rd_fn (by decide)]; exact i44 i q0 q1 q2)
            | (rw [f75, rd_wn (by decide)]; exact i44 i q0 q1 q2)
          exact ih4 v103 v106 S102 H locs (by omega) (by first | omega | (rw [e103]; omega)) (by first | omega | (rw [e103]; omega)) (by omega) x3 x4 (by subst f90 f102 e103 e106; simp only [cd_go, if_neg c9, if_neg c22] at hgo4; exact hgo4) hW hS ls (lv_sub hl [0, 1, 2] rfl)
        · skip
          refine lv_aload_n hx hb dX5_comeDown_25 rfl (lv_at hl 2 rfl) ?_
          refine mm_geta hx hb hts hown hK hW 63 rfl q1748 dX5_comeDown_26 ?_
          refine lv_iload_n hx hb dX5_comeDown_29 rfl (lv_at hl 0 rfl) ?_
          refine mm_iald hx hb hK hW 63 rfl (ww_in (by omega) (by omega)) dX5_comeDown_30 ?_
          refine lv_bipush (v := 10) hx hb dX5_comeDown_31 (by decide) ?_
          refine nv_irem hx hb dX5_comeDown_33 (by decide) (fun v33 e33 => ?_)
          refine lv_if_ne (tgt := 58) hx hb dX5_comeDown_34 (by decide) (fun c34 => ?_) (fun c34 => ?_)
          · skip
            refine lv_aload_n hx hb dX5_comeDown_58 rfl (lv_at hl 2 rfl) ?_
            refine mm_geta hx hb hts hown hK hW 66 rfl q1751 dX5_comeDown_59 ?_
            refine lv_aload_n hx hb dX5_comeDown_62 rfl (lv_at hl 2 rfl) ?_
            refine mm_geta hx hb hts hown hK hW 63 rfl q1748 dX5_comeDown_63 ?_
            refine lv_iload_n hx hb dX5_comeDown_66 rfl (lv_at hl 0 rfl) ?_
            refine mm_iald hx hb hK hW 63 rfl (ww_in (by omega) (by omega)) dX5_comeDown_67 ?_
            refine lv_bipush (v := 10) hx hb dX5_comeDown_68 (by decide) ?_
            refine nv_irem hx hb dX5_comeDown_70 (by decide) (fun v70 e70 => ?_)
            refine lv_dup2_11 hx hb dX5_comeDown_71 rfl rfl ?_
            refine mm_iald hx hb hK hW 66 rfl (by have r := ww_rem (rd_ S0 63 w) 10 w63 (by decide); have e10 : (10 : Int32).toInt = 10 := (by decide); rw [e10] at r; exact ww_in (by rw [e70]; omega) (by rw [e70]; omega)) dX5_comeDown_72 ?_
            refine lv_iconst (v := 1) hx hb dX5_comeDown_73 (by decide) ?_
            refine nv_iadd hx hb dX5_comeDown_74 (fun v74 e74 => ?_)
            refine mm_iast hx hb hK hW hS 66 rfl (by have r := ww_rem (rd_ S0 63 w) 10 w63 (by decide); have e10 : (10 : Int32).toInt = 10 := (by decide); rw [e10] at r; exact ww_in (by rw [e70]; omega) (by rw [e70]; omega)) dX5_comeDown_75 (fun S75 H locs f75 hW hS => ?_)
            refine lv_goto (tgt := 106) hx hb dX5_comeDown_76 (by decide) ?_
            obtain ⟨v106, e106⟩ : ∃ yQ : Int32, yQ = w + 1 := ⟨_, rfl⟩
            refine lv_iinc (v := v106) (lv' := [(2, .int v106), (1, .int n), (0, .ref o)]) hx hb dX5_comeDown_106 hl (k := 0) rfl (by rw [e106]; rfl) (by decide) rfl (fun ls hl => ?_)
            refine lv_goto (tgt := 4) hx hb dX5_comeDown_109 (by decide) ?_
            have tw : v106.toInt = w.toInt + 1 := by rw [e106]; exact ww_inc t9
            have tn : (n + 1).toInt = n.toInt + 1 := ww_inc' (by omega)
            have x3 : fd_ S75 62 = fd_ S 62 := by first | (rw [f102, fd_wn (by decide), f90, fd_wn (by decide)]; exact i34) | (rw [f52, fd_fn (by decide)]; exact i34) | (rw [f75, fd_wn (by decide)]; exact i34)
            have x4 : ∀ i : Int32, 0 ≤ i.toInt → i.toInt < 40 → i.toInt < (fd_ S75 62).toInt → 0 ≤ (rd_ S75 63 i).toInt := by
              intro i q0 q1 q2
              rw [x3, ← i34] at q2
              first
              | (rw [f102, f90]; exact cd_wr i44 i04 (by omega) t9 (by omega) i q0 q1 q2)
              | (rw [f52, rd_fn (by decide)]; exact i44 i q0 q1 q2)
              | (rw [f75, rd_wn (by decide)]; exact i44 i q0 q1 q2)
            exact ih4 n v106 S75 H locs (by omega) (by first | omega | (rw [e103]; omega)) (by first | omega | (rw [e103]; omega)) (by omega) x3 x4 (by subst e33 e70 e74 f75 e106; simp only [cd_go, if_neg c9, if_pos c22, if_neg c34] at hgo4; exact hgo4) hW hS ls (lv_sub hl [0, 1, 2] rfl)
          · skip
            refine lv_aload_n hx hb dX5_comeDown_37 rfl (lv_at hl 2 rfl) ?_
            refine lv_dup hx hb dX5_comeDown_38 rfl ?_
            refine mm_geti hx hb hts hown hK hW 54 rfl (by decide) q1739 dX5_comeDown_39 ?_
            refine lv_aload_n hx hb dX5_comeDown_42 rfl (lv_at hl 2 rfl) ?_
            refine mm_geta hx hb hts hown hK hW 63 rfl q1748 dX5_comeDown_43 ?_
            refine lv_iload_n hx hb dX5_comeDown_46 rfl (lv_at hl 0 rfl) ?_
            refine mm_iald hx hb hK hW 63 rfl (ww_in (by omega) (by omega)) dX5_comeDown_47 ?_
            refine lv_bipush (v := 10) hx hb dX5_comeDown_48 (by decide) ?_
            refine nv_idiv hx hb dX5_comeDown_50 (by decide) (fun v50 e50 => ?_)
            refine nv_iadd hx hb dX5_comeDown_51 (fun v51 e51 => ?_)
            refine mm_puti hx hb hts hown hK hW hS 54 rfl (by decide) rfl rfl rfl q1739 dX5_comeDown_52 (fun S52 H locs f52 hW hS => ?_)
            refine lv_goto (tgt := 106) hx hb dX5_comeDown_55 (by decide) ?_
            obtain ⟨v106, e106⟩ : ∃ yQ : Int32, yQ = w + 1 := ⟨_, rfl⟩
            refine lv_iinc (v := v106) (lv' := [(2, .int v106), (1, .int n), (0, .ref o)]) hx hb dX5_comeDown_106 hl (k := 0) rfl (by rw [e106]; rfl) (by decide) rfl (fun ls hl => ?_)
            refine lv_goto (tgt := 4) hx hb dX5_comeDown_109 (by decide) ?_
            have tw : v106.toInt = w.toInt + 1 := by rw [e106]; exact ww_inc t9
            have tn : (n + 1).toInt = n.toInt + 1 := ww_inc' (by omega)
            have x3 : fd_ S52 62 = fd_ S 62 := by first | (rw [f102, fd_wn (by decide), f90, fd_wn (by decide)]; exact i34) | (rw [f52, fd_fn (by decide)]; exact i34) | (rw [f75, fd_wn (by decide)]; exact i34)
            have x4 : ∀ i : Int32, 0 ≤ i.toInt → i.toInt < 40 → i.toInt < (fd_ S52 62).toInt → 0 ≤ (rd_ S52 63 i).toInt := by
              intro i q0 q1 q2
              rw [x3, ← i34] at q2
              first
              | (rw [f102, f90]; exact cd_wr i44 i04 (by omega) t9 (by omega) i q0 q1 q2)
              | (rw [f52, rd_fn (by decide)]; exact i44 i q0 q1 q2)
              | (rw [f75, rd_wn (by decide)]; exact i44 i q0 q1 q2)
            exact ih4 n v106 S52 H locs (by omega) (by first | omega | (rw [e103]; omega)) (by first | omega | (rw [e103]; omega)) (by omega) x3 x4 (by subst e33 e50 e51 f52 e106; simp only [cd_go, if_neg c9, if_pos c22, if_pos c34] at hgo4; exact hgo4) hW hS ls (lv_sub hl [0, 1, 2] rfl)
  exact L4 41 0 0 S H locs (by have := hwq.2.1; show _ - 0 < _; omega) (by decide) (by decide) hwq.1 rfl (fun i i0 _ i2 => hwq.2.2 i i0 i2) (by simp only [ff_comeDown]) hW hS ls (lv_sub hl [0, 1, 2] rfl)

set_option maxHeartbeats 4000000 in
theorem mc_hours (lQ : Launch) (G : wm_G) (o : Nat) (S : mm_S) (E : mm_E) (n : Int32) (hh : iv_h S) : mm_Met lQ G o yX5_hours (ws_ yX5_hours cX5_hours 5 (some .int)) 5 S E [.int n] (some (.int (ff_hours S n).1)) (ff_hours S n).2 E := by
  refine mm_start (by decide +kernel) (Nat.le_of_ble_eq_true rfl) rfl (fun pQ eQ sQ mQ belowQ methQ cQ hx hb hml hr hlocks hts hown hK H hW hS ls hl => ?_)
  have hl : lv_has ls 5 [(0, .ref o), (1, .int n)] := hl
  generalize hlc : ([] : List Loc) = locs at hS ⊢
  refine lv_iload_n hx hb dX5_hours_0 rfl (lv_at hl 1 rfl) ?_
  refine lv_iconst (v := 1) hx hb dX5_hours_1 (by decide) ?_
  refine lv_bipush (v := 48) hx hb dX5_hours_2 (by decide) ?_
  refine pp_calli (As := [.int n, .int 1, .int 48]) (rest := []) (n := 3) ⟨hx, hb, hml, hown, hts⟩ (mc_in lQ n 1 48) (lw_S q1979 q1980 q92 q1981) (by decide +kernel) rfl ⟨Nat.le_of_ble_eq_true rfl, Nat.le_of_ble_eq_true rfl⟩ hl.1 rfl (Nat.le_of_ble_eq_true rfl) dX5_hours_4 ⟨Nat.le_of_ble_eq_true rfl, Nat.le_of_ble_eq_true rfl⟩ (fun v4 e4 => ?_)
  refine lv_if_eq (tgt := 22) hx hb dX5_hours_7 (by decide) (fun c7 => ?_) (fun c7 => ?_)
  · skip
    refine lv_iconst (v := (-1)) hx hb dX5_hours_22 (by decide) ?_
    refine mm_iret hx hb hr hlocks hW hS ?_ dX5_hours_23
    have hres : ff_hours S n = ((-1), S) := by subst e4; simp only [ff_hours, if_pos c7]
    exact ⟨by rw [hres], by rw [hres], rfl⟩
  · skip
    obtain ⟨n0, n1⟩ := ff_in_t (v := n) (a := 1) (b := 48) (by rw [← e4]; exact c7)
    have n0 : 1 ≤ n.toInt := n0
    have n1 : n.toInt ≤ 48 := n1
    refine lv_aload_n hx hb dX5_hours_10 rfl (lv_at hl 0 rfl) ?_
    refine mm_geti hx hb hts hown hK hW 1 rfl (by decide) q1686 dX5_hours_11 ?_
    refine lv_iload_n hx hb dX5_hours_14 rfl (lv_at hl 1 rfl) ?_
    refine nv_iadd hx hb dX5_hours_15 (fun v15 e15 => ?_)
    refine lv_sipush (v := 1699) hx hb dX5_hours_16 (by decide) ?_
    refine lv_icmp_le (tgt := 24) hx hb dX5_hours_19 (by decide) (fun c19 => ?_) (fun c19 => ?_)
    · have t19 : (v15).toInt ≤ 1699 := ww_le c19
      refine lv_iconst (v := 0) hx hb dX5_hours_24 (by decide) ?_
      refine lv_istore_n (lv' := [(2, .int 0), (0, .ref o), (1, .int n)]) hx hb dX5_hours_25 rfl hl (by decide) rfl (fun ls hl => ?_)
      have L26 : ∀ (fu26 : Nat) (k : Int32) (S0 : mm_S) (H : Heap) (locs : List Loc), (n.toInt - k.toInt < fu26) → (0 ≤ k.toInt) → (k.toInt ≤ n.toInt) → (iv_h S0) → (hr_go fu26 S0 n k = ff_hours S n) → mm_W G o S0 E H → va_S (mm_F o) sQ.heap H locs → ∀ ls : Array Slot, lv_has ls 5 [(2, .int k), (0, .ref o), (1, .int n)] → W pQ lQ eQ (wm_rm 5) sQ mQ (Value.ref o :: [.int n]).toArray belowQ methQ cQ H locs 0 0 (MQ belowQ (wm_Q (fun vQ HQ => vQ = some (.int (ff_hours S n).1) ∧ mm_W G o (ff_hours S n).2 E HQ) (mm_F o)) (Value.ref o :: [.int n]).toArray sQ 0 0 (mm_F o)) (F0 mQ 26 ls []) := by
        intro fu26
        induction fu26 with
        | zero =>
          intro k S0 H locs hm26 i026 i126 iH26 hgo26 hW hS ls hl
          exact absurd hm26 (by omega)
        | succ fu26 ih26 =>
          intro k S0 H locs hm26 i026 i126 iH26 hgo26 hW hS ls hl
          refine lv_iload_n hx hb dX5_hours_26 rfl (lv_at hl 0 rfl) ?_
          refine lv_iload_n hx hb dX5_hours_27 rfl (lv_at hl 2 rfl) ?_
          refine lv_icmp_ge (tgt := 180) hx hb dX5_hours_28 (by decide) (fun c28 => ?_) (fun c28 => ?_)
          · have t28 : (n).toInt ≤ (k).toInt := ww_le c28
            refine lv_aload_n hx hb dX5_hours_180 rfl (lv_at hl 1 rfl) ?_
            refine mm_geti hx hb hts hown hK hW 1 rfl (by decide) q1686 dX5_hours_181 ?_
            refine mm_iret hx hb hr hlocks hW hS ?_ dX5_hours_184
            have hres : ff_hours S n = ((fd_ S0 1), S0) := by rw [← hgo26]; simp only [hr_go, if_pos c28]
            exact ⟨by rw [hres], by rw [hres], rfl⟩
          · have t28 : (k).toInt < (n).toInt := ww_nle c28
            refine lv_aload_n hx hb dX5_hours_31 rfl (lv_at hl 1 rfl) ?_
            refine lv_dup hx hb dX5_hours_32 rfl ?_
            refine mm_geti hx hb hts hown hK hW 1 rfl (by decide) q1686 dX5_hours_33 ?_
            refine lv_iconst (v := 1) hx hb dX5_hours_36 (by decide) ?_
            refine nv_iadd hx hb dX5_hours_37 (fun v37 e37 => ?_)
            refine mm_puti hx hb hts hown hK hW hS 1 rfl (by decide) rfl rfl rfl q1686 dX5_hours_38 (fun S38 H locs f38 hW hS => ?_)
            refine lv_aload_n hx hb dX5_hours_41 rfl (lv_at hl 1 rfl) ?_
            have n38 : S38 = fw_ S0 1 (fd_ S0 1 + 1) := by rw [f38, e37]
            have h38 : iv_h S38 := by rw [n38]; exact iv_h_1 iH26
            refine mm_callv (As := []) (rest := []) (n := 0) ⟨hx, hb, hml, hown, hts⟩ hK (mc_drill lQ G o S38 E h38.1 h38.2.1 h38.2.2.1 h38.2.2.2.1) (lw_V q2232 q2234 qs64 q92 q2235) (by decide +kernel) rfl ⟨Nat.le_of_ble_eq_true rfl, Nat.le_of_ble_eq_true rfl⟩ hW hS hl.1 rfl (Nat.le_of_ble_eq_true rfl) dX5_hours_42 ⟨Nat.le_of_ble_eq_true rfl, Nat.le_of_ble_eq_true rfl⟩ (fun S42 H locs f42 hW hS => ?_)
            refine lv_aload_n hx hb dX5_hours_45 rfl (lv_at hl 1 rfl) ?_
            have h42 : iv_h S42 := by rw [f42]; exact iv_h_drill h38
            refine mm_callv (As := []) (rest := []) (n := 0) ⟨hx, hb, hml, hown, hts⟩ hK (mc_comeDown lQ G o S42 E h42.2.2.2.2.1) (lw_V q2240 q2242 qs66 q92 q2243) (by decide +kernel) rfl ⟨Nat.le_of_ble_eq_true rfl, Nat.le_of_ble_eq_true rfl⟩ hW hS hl.1 rfl (Nat.le_of_ble_eq_true rfl) dX5_hours_46 ⟨Nat.le_of_ble_eq_true rfl, Nat.le_of_ble_eq_true rfl⟩ (fun S46 H locs f46 hW hS => ?_)
            have n46 : S46 = hr_1 S0 := by rw [f46, f42, n38]; rfl
            have h46 : iv_h S46 := by rw [n46]; exact iv_h_hr1 iH26
            have x46 : fd_ S46 56 = fd_ S0 56 := by rw [f46, f42, n38, fd_of (comeDown_fr _ 56 (by decide)), fd_of (drill_fr _ 56 (by decide)), fd_fn (by decide)]
            refine lv_aload_n hx hb dX5_hours_49 rfl (lv_at hl 1 rfl) ?_
            refine mm_geti hx hb hts hown hK hW 1 rfl (by decide) q1686 dX5_hours_50 ?_
            refine lv_bipush (v := 24) hx hb dX5_hours_53 (by decide) ?_
            refine nv_irem hx hb dX5_hours_55 (by decide) (fun v55 e55 => ?_)
            refine lv_if_ne (tgt := 63) hx hb dX5_hours_56 (by decide) (fun c56 => ?_) (fun c56 => ?_)
            · skip
              refine lv_iconst (v := 0) hx hb dX5_hours_63 (by decide) ?_
              refine lv_istore_n (lv' := [(3, .int 0), (2, .int k), (0, .ref o), (1, .int n)]) hx hb dX5_hours_64 rfl hl (by decide) rfl (fun ls hl => ?_)
              have L65 : ∀ (fu65 : Nat) (i : Int32) (S1 : mm_S) (H : Heap) (locs : List Loc), ((fd_ S0 56).toInt - i.toInt < fu65) → (0 ≤ i.toInt) → (i.toInt ≤ (fd_ S0 56).toInt) → (iv_h S1) → (fd_ S1 56 = fd_ S0 56) → (mv_go fu65 S1 i = hr_S S0) → mm_W G o S1 E H → va_S (mm_F o) sQ.heap H locs → ∀ ls : Array Slot, lv_has ls 5 [(3, .int i), (2, .int k), (0, .ref o), (1, .int n)] → W pQ lQ eQ (wm_rm 5) sQ mQ (Value.ref o :: [.int n]).toArray belowQ methQ cQ H locs 0 0 (MQ belowQ (wm_Q (fun vQ HQ => vQ = some (.int (ff_hours S n).1) ∧ mm_W G o (ff_hours S n).2 E HQ) (mm_F o)) (Value.ref o :: [.int n]).toArray sQ 0 0 (mm_F o)) (F0 mQ 65 ls []) := by
                intro fu65
                induction fu65 with
                | zero =>
                  intro i S1 H locs hm65 i065 i165 iH65 i365 hgo65 hW hS ls hl
                  exact absurd hm65 (by omega)
                | succ fu65 ih65 =>
                  intro i S1 H locs hm65 i065 i165 iH65 i365 hgo65 hW hS ls hl
                  have e4 : (fd_ S1 56).toInt = (fd_ S0 56).toInt := by rw [i365]
                  have hb2 := iH65.2.2.2.2.2.2.1
                  refine lv_iload_n hx hb dX5_hours_65 rfl (lv_at hl 0 rfl) ?_
                  refine lv_aload_n hx hb dX5_hours_66 rfl (lv_at hl 2 rfl) ?_
                  refine mm_geti hx hb hts hown hK hW 56 rfl (by decide) q1741 dX5_hours_67 ?_
                  refine lv_icmp_ge (tgt := 174) hx hb dX5_hours_70 (by decide) (fun c70 => ?_) (fun c70 => ?_)
                  · have t70 : ((fd_ S1 56)).toInt ≤ (i).toInt := ww_le c70
                    have hs : S1 = hr_S S0 := by simp only [mv_go, if_pos c70] at hgo65; exact hgo65
                    obtain ⟨v174, e174⟩ : ∃ yQ : Int32, yQ = k + 1 := ⟨_, rfl⟩
                    refine lv_iinc (v := v174) (lv' := [(2, .int v174), (3, .int i), (0, .ref o), (1, .int n)]) hx hb dX5_hours_174 hl (k := 1) rfl (by rw [e174]; rfl) (by decide) rfl (fun ls hl => ?_)
                    refine lv_goto (tgt := 26) hx hb dX5_hours_177 (by decide) ?_
                    have tb : v174.toInt = k.toInt + 1 := by rw [e174]; exact ww_inc t28
                    exact ih26 v174 S1 H locs (by omega) (by omega) (by omega) (by rw [hs]; exact iv_h_hr iH26) (by rw [hs, e174]; simp only [hr_go, if_neg c28] at hgo26; exact hgo26) hW hS ls (lv_sub hl [0, 2, 3] rfl)
                  · have t70 : (i).toInt < ((fd_ S1 56)).toInt := ww_nle c70
                    refine lv_aload_n hx hb dX5_hours_73 rfl (lv_at hl 2 rfl) ?_
                    refine mm_geta hx hb hts hown hK hW 58 rfl q1743 dX5_hours_74 ?_
                    refine lv_iload_n hx hb dX5_hours_77 rfl (lv_at hl 0 rfl) ?_
                    refine mm_iald hx hb hK hW 58 rfl (ww_in (by omega) (by omega)) dX5_hours_78 ?_
                    refine lv_aload_n hx hb dX5_hours_79 rfl (lv_at hl 2 rfl) ?_
                    refine mm_geti hx hb hts hown hK hW 1 rfl (by decide) q1686 dX5_hours_80 ?_
                    refine lv_icmp_eq (tgt := 89) hx hb dX5_hours_83 (by decide) (fun c83 => ?_) (fun c83 => ?_)
                    · skip
                      refine lv_aload_n hx hb dX5_hours_89 rfl (lv_at hl 2 rfl) ?_
                      refine mm_geta hx hb hts hown hK hW 57 rfl q1742 dX5_hours_90 ?_
                      refine lv_iload_n hx hb dX5_hours_93 rfl (lv_at hl 0 rfl) ?_
                      refine mm_iald hx hb hK hW 57 rfl (ww_in (by omega) (by omega)) dX5_hours_94 ?_
                      refine pp_calli (As := [.int (rd_ S1 57 i)]) (rest := []) (n := 1) ⟨hx, hb, hml, hown, hts⟩ (mc_placeOf lQ (rd_ S1 57 i)) (lw_S q1982 q1983 q92 q1984) (by decide +kernel) rfl ⟨Nat.le_of_ble_eq_true rfl, Nat.le_of_ble_eq_true rfl⟩ hl.1 rfl (Nat.le_of_ble_eq_true rfl) dX5_hours_95 ⟨Nat.le_of_ble_eq_true rfl, Nat.le_of_ble_eq_true rfl⟩ (fun v95 e95 => ?_)
                      have hcell := iH65.2.2.2.2.2.2.2 i i065 (by omega)
                      refine lv_istore (lv' := [(4, .int v95), (3, .int i), (2, .int k), (0, .ref o), (1, .int n)]) hx hb dX5_hours_98 hl (by decide) rfl (fun ls hl => ?_)
                      refine lv_aload_n hx hb dX5_hours_100 rfl (lv_at hl 3 rfl) ?_
                      refine mm_geta hx hb hts hown hK hW 3 rfl q1688 dX5_hours_101 ?_
                      refine lv_iload hx hb dX5_hours_104 (lv_at hl 0 rfl) ?_
                      refine lv_iconst (v := 0) hx hb dX5_hours_106 (by decide) ?_
                      refine mm_zast hx hb hK hW hS 3 rfl rfl (by rw [e95]; exact ff_placeOf_in hcell) dX5_hours_107 (fun S107 H locs f107 hW hS => ?_)
                      refine lv_aload_n hx hb dX5_hours_108 rfl (lv_at hl 3 rfl) ?_
                      refine mm_geta hx hb hts hown hK hW 2 rfl q1687 dX5_hours_109 ?_
                      refine lv_iload hx hb dX5_hours_112 (lv_at hl 0 rfl) ?_
                      refine lv_bipush (v := 6) hx hb dX5_hours_114 (by decide) ?_
                      refine mm_iast hx hb hK hW hS 2 rfl (by rw [e95]; exact ff_placeOf_in hcell) dX5_hours_116 (fun S116 H locs f116 hW hS => ?_)
                      have n116 : S116 = mv_1 S1 (ff_placeOf (rd_ S1 57 i)) := by rw [f116, f107, e95]; rfl
                      have q57 : ∀ q : Int32, rd_ S116 57 q = rd_ S1 57 q := by intro q; rw [f116, f107, rd_wn (by decide), rd_wn (by decide)]
                      refine lv_aload_n hx hb dX5_hours_117 rfl (lv_at hl 3 rfl) ?_
                      refine mm_geti hx hb hts hown hK hW 21 rfl (by decide) q1706 dX5_hours_118 ?_
                      refine lv_if_lt (tgt := 168) hx hb dX5_hours_121 (by decide) (fun c121 => ?_) (fun c121 => ?_)
                      · have t121 : ((fd_ S116 21)).toInt < 0 := ww_lt c121
                        have m168 : S116 = S116 := rfl
                        try have m168 : S116 = mv_S S1 i := by unfold mv_S mv_2; rw [← n116]; first | rw [if_pos c121] | rw [if_neg c121, if_neg (by rw [← e132]; exact c137)] | rw [if_neg c121, if_pos (by rw [← e132]; exact c137), if_pos (by rw [← e148, ← e157]; exact c160)] | (rw [if_neg c121, if_pos (by rw [← e132]; exact c137), if_neg (by rw [← e148, ← e157]; exact c160)]; exact f165)
                        obtain ⟨v168, e168⟩ : ∃ yQ : Int32, yQ = i + 1 := ⟨_, rfl⟩
                        refine lv_iinc (v := v168) (lv' := [(3, .int v168), (4, .int v95), (2, .int k), (0, .ref o), (1, .int n)]) hx hb dX5_hours_168 hl (k := 1) rfl (by rw [e168]; rfl) (by decide) rfl (fun ls hl => ?_)
                        refine lv_goto (tgt := 65) hx hb dX5_hours_171 (by decide) ?_
                        have tb : v168.toInt = i.toInt + 1 := by rw [e168]; exact ww_inc t70
                        exact ih65 v168 S116 H locs (by omega) (by omega) (by omega) (by first | exact iH65 | (rw [m168]; exact iv_h_mvS i iH65)) (by first | exact i365 | (rw [m168, fd_of (mvS_fr S1 i 56 (by decide))]; exact i365)) (by first | (rw [m168, e168]; simp only [mv_go, if_neg c70, if_pos c83, if_pos c121] at hgo65; exact hgo65) | (rw [e168]; simp only [mv_go, if_neg c70, if_pos c83, if_pos c121] at hgo65; exact hgo65)) hW hS ls (lv_sub hl [0, 2, 3, 4] rfl)
                      · have t121 : 0 ≤ ((fd_ S116 21)).toInt := ww_nlt c121
                        refine lv_aload_n hx hb dX5_hours_124 rfl (lv_at hl 3 rfl) ?_
                        refine mm_geta hx hb hts hown hK hW 57 rfl q1742 dX5_hours_125 ?_
                        refine lv_iload_n hx hb dX5_hours_128 rfl (lv_at hl 1 rfl) ?_
                        refine mm_iald hx hb hK hW 57 rfl (ww_in (by omega) (by omega)) dX5_hours_129 ?_
                        refine lv_bipush (v := 100) hx hb dX5_hours_130 (by decide) ?_
                        refine nv_irem hx hb dX5_hours_132 (by decide) (fun v132 e132 => ?_)
                        refine lv_aload_n hx hb dX5_hours_133 rfl (lv_at hl 3 rfl) ?_
                        refine mm_geti hx hb hts hown hK hW 24 rfl (by decide) q1709 dX5_hours_134 ?_
                        refine lv_icmp_ne (tgt := 168) hx hb dX5_hours_137 (by decide) (fun c137 => ?_) (fun c137 => ?_)
                        · skip
                          have m168 : S116 = S116 := rfl
                          try have m168 : S116 = mv_S S1 i := by unfold mv_S mv_2; rw [← n116]; first | rw [if_pos c121] | rw [if_neg c121, if_neg (by rw [← e132]; exact c137)] | rw [if_neg c121, if_pos (by rw [← e132]; exact c137), if_pos (by rw [← e148, ← e157]; exact c160)] | (rw [if_neg c121, if_pos (by rw [← e132]; exact c137), if_neg (by rw [← e148, ← e157]; exact c160)]; exact f165)
                          obtain ⟨v168, e168⟩ : ∃ yQ : Int32, yQ = i + 1 := ⟨_, rfl⟩
                          refine lv_iinc (v := v168) (lv' := [(3, .int v168), (4, .int v95), (2, .int k), (0, .ref o), (1, .int n)]) hx hb dX5_hours_168 hl (k := 1) rfl (by rw [e168]; rfl) (by decide) rfl (fun ls hl => ?_)
                          refine lv_goto (tgt := 65) hx hb dX5_hours_171 (by decide) ?_
                          have tb : v168.toInt = i.toInt + 1 := by rw [e168]; exact ww_inc t70
                          exact ih65 v168 S116 H locs (by omega) (by omega) (by omega) (by first | exact iH65 | (rw [m168]; exact iv_h_mvS i iH65)) (by first | exact i365 | (rw [m168, fd_of (mvS_fr S1 i 56 (by decide))]; exact i365)) (by first | (rw [m168, e168]; simp only [mv_go, if_neg c70, if_pos c83, if_neg c121, if_neg c137] at hgo65; exact hgo65) | (rw [e168]; simp only [mv_go, if_neg c70, if_pos c83, if_neg c121, if_neg c137] at hgo65; exact hgo65)) hW hS ls (lv_sub hl [0, 2, 3, 4] rfl)
                        · skip
                          refine lv_aload_n hx hb dX5_hours_140 rfl (lv_at hl 3 rfl) ?_
                          refine mm_geta hx hb hts hown hK hW 57 rfl q1742 dX5_hours_141 ?_
                          refine lv_iload_n hx hb dX5_hours_144 rfl (lv_at hl 1 rfl) ?_
                          refine mm_iald hx hb hK hW 57 rfl (ww_in (by omega) (by omega)) dX5_hours_145 ?_
                          refine lv_bipush (v := 100) hx hb dX5_hours_146 (by decide) ?_
                          refine nv_idiv hx hb dX5_hours_148 (by decide) (fun v148 e148 => ?_)
                          refine lv_aload_n hx hb dX5_hours_149 rfl (lv_at hl 3 rfl) ?_
                          refine mm_geti hx hb hts hown hK hW 22 rfl (by decide) q1707 dX5_hours_150 ?_
                          refine lv_aload_n hx hb dX5_hours_153 rfl (lv_at hl 3 rfl) ?_
                          refine mm_geti hx hb hts hown hK hW 23 rfl (by decide) q1708 dX5_hours_154 ?_
                          refine pp_calli (As := [.int v148, .int (fd_ S116 22), .int (fd_ S116 23)]) (rest := []) (n := 3) ⟨hx, hb, hml, hown, hts⟩ (mc_in lQ v148 (fd_ S116 22) (fd_ S116 23)) (lw_S q1979 q1980 q92 q1981) (by decide +kernel) rfl ⟨Nat.le_of_ble_eq_true rfl, Nat.le_of_ble_eq_true rfl⟩ hl.1 rfl (Nat.le_of_ble_eq_true rfl) dX5_hours_157 ⟨Nat.le_of_ble_eq_true rfl, Nat.le_of_ble_eq_true rfl⟩ (fun v157 e157 => ?_)
                          refine lv_if_eq (tgt := 168) hx hb dX5_hours_160 (by decide) (fun c160 => ?_) (fun c160 => ?_)
                          · skip
                            have m168 : S116 = S116 := rfl
                            try have m168 : S116 = mv_S S1 i := by unfold mv_S mv_2; rw [← n116]; first | rw [if_pos c121] | rw [if_neg c121, if_neg (by rw [← e132]; exact c137)] | rw [if_neg c121, if_pos (by rw [← e132]; exact c137), if_pos (by rw [← e148, ← e157]; exact c160)] | (rw [if_neg c121, if_pos (by rw [← e132]; exact c137), if_neg (by rw [← e148, ← e157]; exact c160)]; exact f165)
                            obtain ⟨v168, e168⟩ : ∃ yQ : Int32, yQ = i + 1 := ⟨_, rfl⟩
                            refine lv_iinc (v := v168) (lv' := [(3, .int v168), (4, .int v95), (2, .int k), (0, .ref o), (1, .int n)]) hx hb dX5_hours_168 hl (k := 1) rfl (by rw [e168]; rfl) (by decide) rfl (fun ls hl => ?_)
                            refine lv_goto (tgt := 65) hx hb dX5_hours_171 (by decide) ?_
                            have tb : v168.toInt = i.toInt + 1 := by rw [e168]; exact ww_inc t70
                            exact ih65 v168 S116 H locs (by omega) (by omega) (by omega) (by first | exact iH65 | (rw [m168]; exact iv_h_mvS i iH65)) (by first | exact i365 | (rw [m168, fd_of (mvS_fr S1 i 56 (by decide))]; exact i365)) (by first | (rw [m168, e168]; simp only [mv_go, if_neg c70, if_pos c83, if_neg c121, if_pos c137, if_pos c160] at hgo65; exact hgo65) | (rw [e168]; simp only [mv_go, if_neg c70, if_pos c83, if_neg c121, if_pos c137, if_pos c160] at hgo65; exact hgo65)) hW hS ls (lv_sub hl [0, 2, 3, 4] rfl)
                          · skip
                            refine lv_aload_n hx hb dX5_hours_163 rfl (lv_at hl 3 rfl) ?_
                            refine lv_iconst (v := 1) hx hb dX5_hours_164 (by decide) ?_
                            refine mm_puti hx hb hts hown hK hW hS 25 rfl (by decide) rfl rfl rfl q1710 dX5_hours_165 (fun S165 H locs f165 hW hS => ?_)
                            have m168 : S165 = S165 := rfl
                            try have m168 : S165 = mv_S S1 i := by unfold mv_S mv_2; rw [← n116]; first | rw [if_pos c121] | rw [if_neg c121, if_neg (by rw [← e132]; exact c137)] | rw [if_neg c121, if_pos (by rw [← e132]; exact c137), if_pos (by rw [← e148, ← e157]; exact c160)] | (rw [if_neg c121, if_pos (by rw [← e132]; exact c137), if_neg (by rw [← e148, ← e157]; exact c160)]; exact f165)
                            obtain ⟨v168, e168⟩ : ∃ yQ : Int32, yQ = i + 1 := ⟨_, rfl⟩
                            refine lv_iinc (v := v168) (lv' := [(3, .int v168), (4, .int v95), (2, .int k), (0, .ref o), (1, .int n)]) hx hb dX5_hours_168 hl (k := 1) rfl (by rw [e168]; rfl) (by decide) rfl (fun ls hl => ?_)
                            refine lv_goto (tgt := 65) hx hb dX5_hours_171 (by decide) ?_
                            have tb : v168.toInt = i.toInt + 1 := by rw [e168]; exact ww_inc t70
                            exact ih65 v168 S165 H locs (by omega) (by omega) (by omega) (by first | exact iH65 | (rw [m168]; exact iv_h_mvS i iH65)) (by first | exact i365 | (rw [m168, fd_of (mvS_fr S1 i 56 (by decide))]; exact i365)) (by first | (rw [m168, e168]; simp only [mv_go, if_neg c70, if_pos c83, if_neg c121, if_pos c137, if_neg c160] at hgo65; exact hgo65) | (rw [e168]; simp only [mv_go, if_neg c70, if_pos c83, if_neg c121, if_pos c137, if_neg c160] at hgo65; exact hgo65)) hW hS ls (lv_sub hl [0, 2, 3, 4] rfl)
                    · skip
                      refine lv_goto (tgt := 168) hx hb dX5_hours_86 (by decide) ?_
                      have m168 : S1 = S1 := rfl
                      try have m168 : S1 = mv_S S1 i := by unfold mv_S mv_2; rw [← n116]; first | rw [if_pos c121] | rw [if_neg c121, if_neg (by rw [← e132]; exact c137)] | rw [if_neg c121, if_pos (by rw [← e132]; exact c137), if_pos (by rw [← e148, ← e157]; exact c160)] | (rw [if_neg c121, if_pos (by rw [← e132]; exact c137), if_neg (by rw [← e148, ← e157]; exact c160)]; exact f165)
                      obtain ⟨v168, e168⟩ : ∃ yQ : Int32, yQ = i + 1 := ⟨_, rfl⟩
                      refine lv_iinc (v := v168) (lv' := [(3, .int v168), (2, .int k), (0, .ref o), (1, .int n)]) hx hb dX5_hours_168 hl (k := 0) rfl (by rw [e168]; rfl) (by decide) rfl (fun ls hl => ?_)
                      refine lv_goto (tgt := 65) hx hb dX5_hours_171 (by decide) ?_
                      have tb : v168.toInt = i.toInt + 1 := by rw [e168]; exact ww_inc t70
                      exact ih65 v168 S1 H locs (by omega) (by omega) (by omega) (by first | exact iH65 | (rw [m168]; exact iv_h_mvS i iH65)) (by first | exact i365 | (rw [m168, fd_of (mvS_fr S1 i 56 (by decide))]; exact i365)) (by first | (rw [m168, e168]; simp only [mv_go, if_neg c70, if_neg c83] at hgo65; exact hgo65) | (rw [e168]; simp only [mv_go, if_neg c70, if_neg c83] at hgo65; exact hgo65)) hW hS ls (lv_sub hl [0, 1, 2, 3] rfl)
              exact L65 61 0 S46 H locs (by have := iH26.2.2.2.2.2.2.1; show _ - 0 < _; omega) (by decide) iH26.2.2.2.2.2.1 (by first | (rw [f60]; exact iv_h_eat h46) | exact h46) (by first | (rw [f60, fd_of (eat_fr _ 56 (by decide))]; exact x46) | exact x46) (by unfold hr_S hr_2; rw [← n46]; first | rw [if_pos (by rw [← e55]; exact c56), ← f60] | rw [if_neg (by rw [← e55]; exact c56)]) hW hS ls (lv_sub hl [0, 1, 2, 3] rfl)
            · skip
              refine lv_aload_n hx hb dX5_hours_59 rfl (lv_at hl 1 rfl) ?_
              refine mm_callv (As := []) (rest := []) (n := 0) ⟨hx, hb, hml, hown, hts⟩ hK (mc_eat lQ G o S46 E h46.1 h46.2.2.1) (lw_V q2244 q2246 qs67 q92 q2247) (by decide +kernel) rfl ⟨Nat.le_of_ble_eq_true rfl, Nat.le_of_ble_eq_true rfl⟩ hW hS hl.1 rfl (Nat.le_of_ble_eq_true rfl) dX5_hours_60 ⟨Nat.le_of_ble_eq_true rfl, Nat.le_of_ble_eq_true rfl⟩ (fun S60 H locs f60 hW hS => ?_)
              refine lv_iconst (v := 0) hx hb dX5_hours_63 (by decide) ?_
              refine lv_istore_n (lv' := [(3, .int 0), (2, .int k), (0, .ref o), (1, .int n)]) hx hb dX5_hours_64 rfl hl (by decide) rfl (fun ls hl => ?_)
              have L65 : ∀ (fu65 : Nat) (i : Int32) (S1 : mm_S) (H : Heap) (locs : List Loc), ((fd_ S0 56).toInt - i.toInt < fu65) → (0 ≤ i.toInt) → (i.toInt ≤ (fd_ S0 56).toInt) → (iv_h S1) → (fd_ S1 56 = fd_ S0 56) → (mv_go fu65 S1 i = hr_S S0) → mm_W G o S1 E H → va_S (mm_F o) sQ.heap H locs → ∀ ls : Array Slot, lv_has ls 5 [(3, .int i), (2, .int k), (0, .ref o), (1, .int n)] → W pQ lQ eQ (wm_rm 5) sQ mQ (Value.ref o :: [.int n]).toArray belowQ methQ cQ H locs 0 0 (MQ belowQ (wm_Q (fun vQ HQ => vQ = some (.int (ff_hours S n).1) ∧ mm_W G o (ff_hours S n).2 E HQ) (mm_F o)) (Value.ref o :: [.int n]).toArray sQ 0 0 (mm_F o)) (F0 mQ 65 ls []) := by
                intro fu65
                induction fu65 with
                | zero =>
                  intro i S1 H locs hm65 i065 i165 iH65 i365 hgo65 hW hS ls hl
                  exact absurd hm65 (by omega)
                | succ fu65 ih65 =>
                  intro i S1 H locs hm65 i065 i165 iH65 i365 hgo65 hW hS ls hl
                  have e4 : (fd_ S1 56).toInt = (fd_ S0 56).toInt := by rw [i365]
                  have hb2 := iH65.2.2.2.2.2.2.1
                  refine lv_iload_n hx hb dX5_hours_65 rfl (lv_at hl 0 rfl) ?_
                  refine lv_aload_n hx hb dX5_hours_66 rfl (lv_at hl 2 rfl) ?_
                  refine mm_geti hx hb hts hown hK hW 56 rfl (by decide) q1741 dX5_hours_67 ?_
                  refine lv_icmp_ge (tgt := 174) hx hb dX5_hours_70 (by decide) (fun c70 => ?_) (fun c70 => ?_)
                  · have t70 : ((fd_ S1 56)).toInt ≤ (i).toInt := ww_le c70
                    have hs : S1 = hr_S S0 := by simp only [mv_go, if_pos c70] at hgo65; exact hgo65
                    obtain ⟨v174, e174⟩ : ∃ yQ : Int32, yQ = k + 1 := ⟨_, rfl⟩
                    refine lv_iinc (v := v174) (lv' := [(2, .int v174), (3, .int i), (0, .ref o), (1, .int n)]) hx hb dX5_hours_174 hl (k := 1) rfl (by rw [e174]; rfl) (by decide) rfl (fun ls hl => ?_)
                    refine lv_goto (tgt := 26) hx hb dX5_hours_177 (by decide) ?_
                    have tb : v174.toInt = k.toInt + 1 := by rw [e174]; exact ww_inc t28
                    exact ih26 v174 S1 H locs (by omega) (by omega) (by omega) (by rw [hs]; exact iv_h_hr iH26) (by rw [hs, e174]; simp only [hr_go, if_neg c28] at hgo26; exact hgo26) hW hS ls (lv_sub hl [0, 2, 3] rfl)
                  · have t70 : (i).toInt < ((fd_ S1 56)).toInt := ww_nle c70
                    refine lv_aload_n hx hb dX5_hours_73 rfl (lv_at hl 2 rfl) ?_
                    refine mm_geta hx hb hts hown hK hW 58 rfl q1743 dX5_hours_74 ?_
                    refine lv_iload_n hx hb dX5_hours_77 rfl (lv_at hl 0 rfl) ?_
                    refine mm_iald hx hb hK hW 58 rfl (ww_in (by omega) (by omega)) dX5_hours_78 ?_
                    refine lv_aload_n hx hb dX5_hours_79 rfl (lv_at hl 2 rfl) ?_
                    refine mm_geti hx hb hts hown hK hW 1 rfl (by decide) q1686 dX5_hours_80 ?_
                    refine lv_icmp_eq (tgt := 89) hx hb dX5_hours_83 (by decide) (fun c83 => ?_) (fun c83 => ?_)
                    · skip
                      refine lv_aload_n hx hb dX5_hours_89 rfl (lv_at hl 2 rfl) ?_
                      refine mm_geta hx hb hts hown hK hW 57 rfl q1742 dX5_hours_90 ?_
                      refine lv_iload_n hx hb dX5_hours_93 rfl (lv_at hl 0 rfl) ?_
                      refine mm_iald hx hb hK hW 57 rfl (ww_in (by omega) (by omega)) dX5_hours_94 ?_
                      refine pp_calli (As := [.int (rd_ S1 57 i)]) (rest := []) (n := 1) ⟨hx, hb, hml, hown, hts⟩ (mc_placeOf lQ (rd_ S1 57 i)) (lw_S q1982 q1983 q92 q1984) (by decide +kernel) rfl ⟨Nat.le_of_ble_eq_true rfl, Nat.le_of_ble_eq_true rfl⟩ hl.1 rfl (Nat.le_of_ble_eq_true rfl) dX5_hours_95 ⟨Nat.le_of_ble_eq_true rfl, Nat.le_of_ble_eq_true rfl⟩ (fun v95 e95 => ?_)
                      have hcell := iH65.2.2.2.2.2.2.2 i i065 (by omega)
                      refine lv_istore (lv' := [(4, .int v95), (3, .int i), (2, .int k), (0, .ref o), (1, .int n)]) hx hb dX5_hours_98 hl (by decide) rfl (fun ls hl => ?_)
                      refine lv_aload_n hx hb dX5_hours_100 rfl (lv_at hl 3 rfl) ?_
                      refine mm_geta hx hb hts hown hK hW 3 rfl q1688 dX5_hours_101 ?_
                      refine lv_iload hx hb dX5_hours_104 (lv_at hl 0 rfl) ?_
                      refine lv_iconst (v := 0) hx hb dX5_hours_106 (by decide) ?_
                      refine mm_zast hx hb hK hW hS 3 rfl rfl (by rw [e95]; exact ff_placeOf_in hcell) dX5_hours_107 (fun S107 H locs f107 hW hS => ?_)
                      refine lv_aload_n hx hb dX5_hours_108 rfl (lv_at hl 3 rfl) ?_
                      refine mm_geta hx hb hts hown hK hW 2 rfl q1687 dX5_hours_109 ?_
                      refine lv_iload hx hb dX5_hours_112 (lv_at hl 0 rfl) ?_
                      refine lv_bipush (v := 6) hx hb dX5_hours_114 (by decide) ?_
                      refine mm_iast hx hb hK hW hS 2 rfl (by rw [e95]; exact ff_placeOf_in hcell) dX5_hours_116 (fun S116 H locs f116 hW hS => ?_)
                      have n116 : S116 = mv_1 S1 (ff_placeOf (rd_ S1 57 i)) := by rw [f116, f107, e95]; rfl
                      have q57 : ∀ q : Int32, rd_ S116 57 q = rd_ S1 57 q := by intro q; rw [f116, f107, rd_wn (by decide), rd_wn (by decide)]
                      refine lv_aload_n hx hb dX5_hours_117 rfl (lv_at hl 3 rfl) ?_
                      refine mm_geti hx hb hts hown hK hW 21 rfl (by decide) q1706 dX5_hours_118 ?_
                      refine lv_if_lt (tgt := 168) hx hb dX5_hours_121 (by decide) (fun c121 => ?_) (fun c121 => ?_)
                      · have t121 : ((fd_ S116 21)).toInt < 0 := ww_lt c121
                        have m168 : S116 = S116 := rfl
                        try have m168 : S116 = mv_S S1 i := by unfold mv_S mv_2; rw [← n116]; first | rw [if_pos c121] | rw [if_neg c121, if_neg (by rw [← e132]; exact c137)] | rw [if_neg c121, if_pos (by rw [← e132]; exact c137), if_pos (by rw [← e148, ← e157]; exact c160)] | (rw [if_neg c121, if_pos (by rw [← e132]; exact c137), if_neg (by rw [← e148, ← e157]; exact c160)]; exact f165)
                        obtain ⟨v168, e168⟩ : ∃ yQ : Int32, yQ = i + 1 := ⟨_, rfl⟩
                        refine lv_iinc (v := v168) (lv' := [(3, .int v168), (4, .int v95), (2, .int k), (0, .ref o), (1, .int n)]) hx hb dX5_hours_168 hl (k := 1) rfl (by rw [e168]; rfl) (by decide) rfl (fun ls hl => ?_)
                        refine lv_goto (tgt := 65) hx hb dX5_hours_171 (by decide) ?_
                        have tb : v168.toInt = i.toInt + 1 := by rw [e168]; exact ww_inc t70
                        exact ih65 v168 S116 H locs (by omega) (by omega) (by omega) (by first | exact iH65 | (rw [m168]; exact iv_h_mvS i iH65)) (by first | exact i365 | (rw [m168, fd_of (mvS_fr S1 i 56 (by decide))]; exact i365)) (by first | (rw [m168, e168]; simp only [mv_go, if_neg c70, if_pos c83, if_pos c121] at hgo65; exact hgo65) | (rw [e168]; simp only [mv_go, if_neg c70, if_pos c83, if_pos c121] at hgo65; exact hgo65)) hW hS ls (lv_sub hl [0, 2, 3, 4] rfl)
                      · have t121 : 0 ≤ ((fd_ S116 21)).toInt := ww_nlt c121
                        refine lv_aload_n hx hb dX5_hours_124 rfl (lv_at hl 3 rfl) ?_
                        refine mm_geta hx hb hts hown hK hW 57 rfl q1742 dX5_hours_125 ?_
                        refine lv_iload_n hx hb dX5_hours_128 rfl (lv_at hl 1 rfl) ?_
                        refine mm_iald hx hb hK hW 57 rfl (ww_in (by omega) (by omega)) dX5_hours_129 ?_
                        refine lv_bipush (v := 100) hx hb dX5_hours_130 (by decide) ?_
                        refine nv_irem hx hb dX5_hours_132 (by decide) (fun v132 e132 => ?_)
                        refine lv_aload_n hx hb dX5_hours_133 rfl (lv_at hl 3 rfl) ?_
                        refine mm_geti hx hb hts hown hK hW 24 rfl (by decide) q1709 dX5_hours_134 ?_
                        refine lv_icmp_ne (tgt := 168) hx hb dX5_hours_137 (by decide) (fun c137 => ?_) (fun c137 => ?_)
                        · skip
                          have m168 : S116 = S116 := rfl
                          try have m168 : S116 = mv_S S1 i := by unfold mv_S mv_2; rw [← n116]; first | rw [if_pos c121] | rw [if_neg c121, if_neg (by rw [← e132]; exact c137)] | rw [if_neg c121, if_pos (by rw [← e132]; exact c137), if_pos (by rw [← e148, ← e157]; exact c160)] | (rw [if_neg c121, if_pos (by rw [← e132]; exact c137), if_neg (by rw [← e148, ← e157]; exact c160)]; exact f165)
                          obtain ⟨v168, e168⟩ : ∃ yQ : Int32, yQ = i + 1 := ⟨_, rfl⟩
                          refine lv_iinc (v := v168) (lv' := [(3, .int v168), (4, .int v95), (2, .int k), (0, .ref o), (1, .int n)]) hx hb dX5_hours_168 hl (k := 1) rfl (by rw [e168]; rfl) (by decide) rfl (fun ls hl => ?_)
                          refine lv_goto (tgt := 65) hx hb dX5_hours_171 (by decide) ?_
                          have tb : v168.toInt = i.toInt + 1 := by rw [e168]; exact ww_inc t70
                          exact ih65 v168 S116 H locs (by omega) (by omega) (by omega) (by first | exact iH65 | (rw [m168]; exact iv_h_mvS i iH65)) (by first | exact i365 | (rw [m168, fd_of (mvS_fr S1 i 56 (by decide))]; exact i365)) (by first | (rw [m168, e168]; simp only [mv_go, if_neg c70, if_pos c83, if_neg c121, if_neg c137] at hgo65; exact hgo65) | (rw [e168]; simp only [mv_go, if_neg c70, if_pos c83, if_neg c121, if_neg c137] at hgo65; exact hgo65)) hW hS ls (lv_sub hl [0, 2, 3, 4] rfl)
                        · skip
                          refine lv_aload_n hx hb dX5_hours_140 rfl (lv_at hl 3 rfl) ?_
                          refine mm_geta hx hb hts hown hK hW 57 rfl q1742 dX5_hours_141 ?_
                          refine lv_iload_n hx hb dX5_hours_144 rfl (lv_at hl 1 rfl) ?_
                          refine mm_iald hx hb hK hW 57 rfl (ww_in (by omega) (by omega)) dX5_hours_145 ?_
                          refine lv_bipush (v := 100) hx hb dX5_hours_146 (by decide) ?_
                          refine nv_idiv hx hb dX5_hours_148 (by decide) (fun v148 e148 => ?_)
                          refine lv_aload_n hx hb dX5_hours_149 rfl (lv_at hl 3 rfl) ?_
                          refine mm_geti hx hb hts hown hK hW 22 rfl (by decide) q1707 dX5_hours_150 ?_
                          refine lv_aload_n hx hb dX5_hours_153 rfl (lv_at hl 3 rfl) ?_
                          refine mm_geti hx hb hts hown hK hW 23 rfl (by decide) q1708 dX5_hours_154 ?_
                          refine pp_calli (As := [.int v148, .int (fd_ S116 22), .int (fd_ S116 23)]) (rest := []) (n := 3) ⟨hx, hb, hml, hown, hts⟩ (mc_in lQ v148 (fd_ S116 22) (fd_ S116 23)) (lw_S q1979 q1980 q92 q1981) (by decide +kernel) rfl ⟨Nat.le_of_ble_eq_true rfl, Nat.le_of_ble_eq_true rfl⟩ hl.1 rfl (Nat.le_of_ble_eq_true rfl) dX5_hours_157 ⟨Nat.le_of_ble_eq_true rfl, Nat.le_of_ble_eq_true rfl⟩ (fun v157 e157 => ?_)
                          refine lv_if_eq (tgt := 168) hx hb dX5_hours_160 (by decide) (fun c160 => ?_) (fun c160 => ?_)
                          · skip
                            have m168 : S116 = S116 := rfl
                            try have m168 : S116 = mv_S S1 i := by unfold mv_S mv_2; rw [← n116]; first | rw [if_pos c121] | rw [if_neg c121, if_neg (by rw [← e132]; exact c137)] | rw [if_neg c121, if_pos (by rw [← e132]; exact c137), if_pos (by rw [← e148, ← e157]; exact c160)] | (rw [if_neg c121, if_pos (by rw [← e132]; exact c137), if_neg (by rw [← e148, ← e157]; exact c160)]; exact f165)
                            obtain ⟨v168, e168⟩ : ∃ yQ : Int32, yQ = i + 1 := ⟨_, rfl⟩
                            refine lv_iinc (v := v168) (lv' := [(3, .int v168), (4, .int v95), (2, .int k), (0, .ref o), (1, .int n)]) hx hb dX5_hours_168 hl (k := 1) rfl (by rw [e168]; rfl) (by decide) rfl (fun ls hl => ?_)
                            refine lv_goto (tgt := 65) hx hb dX5_hours_171 (by decide) ?_
                            have tb : v168.toInt = i.toInt + 1 := by rw [e168]; exact ww_inc t70
                            exact ih65 v168 S116 H locs (by omega) (by omega) (by omega) (by first | exact iH65 | (rw [m168]; exact iv_h_mvS i iH65)) (by first | exact i365 | (rw [m168, fd_of (mvS_fr S1 i 56 (by decide))]; exact i365)) (by first | (rw [m168, e168]; simp only [mv_go, if_neg c70, if_pos c83, if_neg c121, if_pos c137, if_pos c160] at hgo65; exact hgo65) | (rw [e168]; simp only [mv_go, if_neg c70, if_pos c83, if_neg c121, if_pos c137, if_pos c160] at hgo65; exact hgo65)) hW hS ls (lv_sub hl [0, 2, 3, 4] rfl)
                          · skip
                            refine lv_aload_n hx hb dX5_hours_163 rfl (lv_at hl 3 rfl) ?_
                            refine lv_iconst (v := 1) hx hb dX5_hours_164 (by decide) ?_
                            refine mm_puti hx hb hts hown hK hW hS 25 rfl (by decide) rfl rfl rfl q1710 dX5_hours_165 (fun S165 H locs f165 hW hS => ?_)
                            have m168 : S165 = S165 := rfl
                            try have m168 : S165 = mv_S S1 i := by unfold mv_S mv_2; rw [← n116]; first | rw [if_pos c121] | rw [if_neg c121, if_neg (by rw [← e132]; exact c137)] | rw [if_neg c121, if_pos (by rw [← e132]; exact c137), if_pos (by rw [← e148, ← e157]; exact c160)] | (rw [if_neg c121, if_pos (by rw [← e132]; exact c137), if_neg (by rw [← e148, ← e157]; exact c160)]; exact f165)
                            obtain ⟨v168, e168⟩ : ∃ yQ : Int32, yQ = i + 1 := ⟨_, rfl⟩
                            refine lv_iinc (v := v168) (lv' := [(3, .int v168), (4, .int v95), (2, .int k), (0, .ref o), (1, .int n)]) hx hb dX5_hours_168 hl (k := 1) rfl (by rw [e168]; rfl) (by decide) rfl (fun ls hl => ?_)
                            refine lv_goto (tgt := 65) hx hb dX5_hours_171 (by decide) ?_
                            have tb : v168.toInt = i.toInt + 1 := by rw [e168]; exact ww_inc t70
                            exact ih65 v168 S165 H locs (by omega) (by omega) (by omega) (by first | exact iH65 | (rw [m168]; exact iv_h_mvS i iH65)) (by first | exact i365 | (rw [m168, fd_of (mvS_fr S1 i 56 (by decide))]; exact i365)) (by first | (rw [m168, e168]; simp only [mv_go, if_neg c70, if_pos c83, if_neg c121, if_pos c137, if_neg c160] at hgo65; exact hgo65) | (rw [e168]; simp only [mv_go, if_neg c70, if_pos c83, if_neg c121, if_pos c137, if_neg c160] at hgo65; exact hgo65)) hW hS ls (lv_sub hl [0, 2, 3, 4] rfl)
                    · skip
                      refine lv_goto (tgt := 168) hx hb dX5_hours_86 (by decide) ?_
                      have m168 : S1 = S1 := rfl
                      try have m168 : S1 = mv_S S1 i := by unfold mv_S mv_2; rw [← n116]; first | rw [if_pos c121] | rw [if_neg c121, if_neg (by rw [← e132]; exact c137)] | rw [if_neg c121, if_pos (by rw [← e132]; exact c137), if_pos (by rw [← e148, ← e157]; exact c160)] | (rw [if_neg c121, if_pos (by rw [← e132]; exact c137), if_neg (by rw [← e148, ← e157]; exact c160)]; exact f165)
                      obtain ⟨v168, e168⟩ : ∃ yQ : Int32, yQ = i + 1 := ⟨_, rfl⟩
                      refine lv_iinc (v := v168) (lv' := [(3, .int v168), (2, .int k), (0, .ref o), (1, .int n)]) hx hb dX5_hours_168 hl (k := 0) rfl (by rw [e168]; rfl) (by decide) rfl (fun ls hl => ?_)
                      refine lv_goto (tgt := 65) hx hb dX5_hours_171 (by decide) ?_
                      have tb : v168.toInt = i.toInt + 1 := by rw [e168]; exact ww_inc t70
                      exact ih65 v168 S1 H locs (by omega) (by omega) (by omega) (by first | exact iH65 | (rw [m168]; exact iv_h_mvS i iH65)) (by first | exact i365 | (rw [m168, fd_of (mvS_fr S1 i 56 (by decide))]; exact i365)) (by first | (rw [m168, e168]; simp only [mv_go, if_neg c70, if_neg c83] at hgo65; exact hgo65) | (rw [e168]; simp only [mv_go, if_neg c70, if_neg c83] at hgo65; exact hgo65)) hW hS ls (lv_sub hl [0, 1, 2, 3] rfl)
              exact L65 61 0 S60 H locs (by have := iH26.2.2.2.2.2.2.1; show _ - 0 < _; omega) (by decide) iH26.2.2.2.2.2.1 (by first | (rw [f60]; exact iv_h_eat h46) | exact h46) (by first | (rw [f60, fd_of (eat_fr _ 56 (by decide))]; exact x46) | exact x46) (by unfold hr_S hr_2; rw [← n46]; first | rw [if_pos (by rw [← e55]; exact c56), ← f60] | rw [if_neg (by rw [← e55]; exact c56)]) hW hS ls (lv_sub hl [0, 1, 2, 3] rfl)
      exact L26 49 0 S H locs (by show _ - 0 < _; omega) (by decide) (by show 0 ≤ _; omega) hh (by subst e4 e15; simp only [ff_hours, if_neg c7, if_pos c19]) hW hS ls (lv_sub hl [0, 1, 2] rfl)
    · have t19 : 1699 < (v15).toInt := ww_nle c19
      refine lv_iconst (v := (-1)) hx hb dX5_hours_22 (by decide) ?_
      refine mm_iret hx hb hr hlocks hW hS ?_ dX5_hours_23
      have hres : ff_hours S n = ((-1), S) := by subst e4 e15; simp only [ff_hours, if_neg c7, if_neg c19]
      exact ⟨by rw [hres], by rw [hres], rfl⟩

set_option maxHeartbeats 4000000 in
theorem mc_lastsBy (lQ : Launch) (G : wm_G) (o : Nat) (S : mm_S) (E : mm_E) (a : Int32) (y : Int32) (hB : iv_B S) : mm_Met lQ G o yX5_lastsBy (ws_ yX5_lastsBy cX5_lastsBy 8 (some .int)) 1 S E [.int a, .int y] (some (.int (ff_lastsBy S a y).1)) (ff_lastsBy S a y).2 E := by
  refine mm_start (by decide +kernel) (Nat.le_of_ble_eq_true rfl) rfl (fun pQ eQ sQ mQ belowQ methQ cQ hx hb hml hr hlocks hts hown hK H hW hS ls hl => ?_)
  have hl : lv_has ls 8 [(0, .ref o), (1, .int a), (2, .int y)] := hl
  generalize hlc : ([] : List Loc) = locs at hS ⊢
  refine lv_iconst (v := 0) hx hb dX5_lastsBy_0 (by decide) ?_
  refine lv_istore_n (lv' := [(3, .int 0), (0, .ref o), (1, .int a), (2, .int y)]) hx hb dX5_lastsBy_1 rfl hl (by decide) rfl (fun ls hl => ?_)
  have L2 : ∀ (fu2 : Nat) (b : Int32) (Sb : mm_S) (H : Heap) (locs : List Loc), ((fd_ S 4).toInt - b.toInt < fu2) → (0 ≤ b.toInt) → (b.toInt ≤ (fd_ S 4).toInt) → (fr_ [61] S Sb) → (tr_go fu2 Sb b = tr_S S) → mm_W G o Sb E H → va_S (mm_F o) sQ.heap H locs → ∀ ls : Array Slot, lv_has ls 8 [(3, .int b), (0, .ref o), (1, .int a), (2, .int y)] → W pQ lQ eQ (wm_rm 1) sQ mQ (Value.ref o :: [.int a, .int y]).toArray belowQ methQ cQ H locs 0 0 (MQ belowQ (wm_Q (fun vQ HQ => vQ = some (.int (ff_lastsBy S a y).1) ∧ mm_W G o (ff_lastsBy S a y).2 E HQ) (mm_F o)) (Value.ref o :: [.int a, .int y]).toArray sQ 0 0 (mm_F o)) (F0 mQ 2 ls []) := by
    intro fu2
    induction fu2 with
    | zero =>
      intro b Sb H locs hm2 i02 i12 iF2 hgo2 hW hS ls hl
      exact absurd hm2 (by omega)
    | succ fu2 ih2 =>
      intro b Sb H locs hm2 i02 i12 iF2 hgo2 hW hS ls hl
      have e4 : (fd_ Sb 4).toInt = (fd_ S 4).toInt := by rw [fd_of (iF2 4 (by decide))]
      have hb2 := hB.2
      refine lv_iload_n hx hb dX5_lastsBy_2 rfl (lv_at hl 0 rfl) ?_
      refine lv_aload_n hx hb dX5_lastsBy_3 rfl (lv_at hl 1 rfl) ?_
      refine mm_geti hx hb hts hown hK hW 4 rfl (by decide) q1689 dX5_lastsBy_4 ?_
      refine lv_icmp_ge (tgt := 28) hx hb dX5_lastsBy_7 (by decide) (fun c7 => ?_) (fun c7 => ?_)
      · have t7 : ((fd_ Sb 4)).toInt ≤ (b).toInt := ww_le c7
        have hs : Sb = tr_S S := by simp only [tr_go, if_pos c7] at hgo2; exact hgo2
        clear hgo2
        refine lv_aload_n hx hb dX5_lastsBy_28 rfl (lv_at hl 1 rfl) ?_
        refine mm_geti hx hb hts hown hK hW 54 rfl (by decide) q1739 dX5_lastsBy_29 ?_
        refine lv_istore_n (lv' := [(3, .int (fd_ Sb 54)), (0, .ref o), (1, .int a), (2, .int y)]) hx hb dX5_lastsBy_32 rfl hl (by decide) rfl (fun ls hl => ?_)
        refine lv_iconst (v := 1) hx hb dX5_lastsBy_33 (by decide) ?_
        refine lv_istore (lv' := [(4, .int 1), (3, .int (fd_ Sb 54)), (0, .ref o), (1, .int a), (2, .int y)]) hx hb dX5_lastsBy_34 hl (by decide) rfl (fun ls hl => ?_)
        have L36 : ∀ (fu36 : Nat) (l0 : Int32) (d : Int32) (S0 : mm_S) (H : Heap) (locs : List Loc), (60 - d.toInt + 1 < fu36) → (1 ≤ d.toInt) → (d.toInt ≤ 61) → (fr_ [61] S S0) → (ld_d fu36 S0 a y l0 d = ff_lastsBy S a y) → mm_W G o S0 E H → va_S (mm_F o) sQ.heap H locs → ∀ ls : Array Slot, lv_has ls 8 [(4, .int d), (3, .int l0), (0, .ref o), (1, .int a), (2, .int y)] → W pQ lQ eQ (wm_rm 1) sQ mQ (Value.ref o :: [.int a, .int y]).toArray belowQ methQ cQ H locs 0 0 (MQ belowQ (wm_Q (fun vQ HQ => vQ = some (.int (ff_lastsBy S a y).1) ∧ mm_W G o (ff_lastsBy S a y).2 E HQ) (mm_F o)) (Value.ref o :: [.int a, .int y]).toArray sQ 0 0 (mm_F o)) (F0 mQ 36 ls []) := by
          intro fu36
          induction fu36 with
          | zero =>
            intro l0 d S0 H locs hm36 i036 i136 iF36 hgo36 hW hS ls hl
            exact absurd hm36 (by omega)
          | succ fu36 ih36 =>
            intro l0 d S0 H locs hm36 i036 i136 iF36 hgo36 hW hS ls hl
            refine lv_iload hx hb dX5_lastsBy_36 (lv_at hl 0 rfl) ?_
            refine lv_bipush (v := 60) hx hb dX5_lastsBy_38 (by decide) ?_
            refine lv_icmp_gt (tgt := 162) hx hb dX5_lastsBy_40 (by decide) (fun c40 => ?_) (fun c40 => ?_)
            · have t40 : 60 < (d).toInt := ww_lt c40
              refine lv_bipush (v := 60) hx hb dX5_lastsBy_162 (by decide) ?_
              refine mm_iret hx hb hr hlocks hW hS ?_ dX5_lastsBy_164
              have hres : ff_lastsBy S a y = (60, S0) := by rw [← hgo36]; simp only [ld_d, if_pos c40]
              exact ⟨by rw [hres], by rw [hres], rfl⟩
            · have t40 : (d).toInt ≤ 60 := ww_nlt c40
              refine lv_iconst (v := 1) hx hb dX5_lastsBy_43 (by decide) ?_
              refine lv_istore (lv' := [(5, .int 1), (4, .int d), (3, .int l0), (0, .ref o), (1, .int a), (2, .int y)]) hx hb dX5_lastsBy_44 hl (by decide) rfl (fun ls hl => ?_)
              refine lv_iconst (v := 0) hx hb dX5_lastsBy_46 (by decide) ?_
              refine lv_istore (lv' := [(6, .int 0), (5, .int 1), (4, .int d), (3, .int l0), (0, .ref o), (1, .int a), (2, .int y)]) hx hb dX5_lastsBy_47 hl (by decide) rfl (fun ls hl => ?_)
              have L49 : ∀ (fu49 : Nat) (l : Int32) (al : Int32) (m : Int32) (S1 : mm_S) (H : Heap) (locs : List Loc), ((fd_ S 4).toInt - m.toInt < fu49) → (0 ≤ m.toInt) → (m.toInt ≤ (fd_ S 4).toInt) → (fr_ [61] S S1) → (ld_m fu49 S1 a y l al m = ld_ms S0 a y l0) → mm_W G o S1 E H → va_S (mm_F o) sQ.heap H locs → ∀ ls : Array Slot, lv_has ls 8 [(6, .int m), (5, .int al), (4, .int d), (3, .int l), (0, .ref o), (1, .int a), (2, .int y)] → W pQ lQ eQ (wm_rm 1) sQ mQ (Value.ref o :: [.int a, .int y]).toArray belowQ methQ cQ H locs 0 0 (MQ belowQ (wm_Q (fun vQ HQ => vQ = some (.int (ff_lastsBy S a y).1) ∧ mm_W G o (ff_lastsBy S a y).2 E HQ) (mm_F o)) (Value.ref o :: [.int a, .int y]).toArray sQ 0 0 (mm_F o)) (F0 mQ 49 ls []) := by
                intro fu49
                induction fu49 with
                | zero =>
                  intro l al m S1 H locs hm49 i049 i149 iF49 hgo49 hW hS ls hl
                  exact absurd hm49 (by omega)
                | succ fu49 ih49 =>
                  intro l al m S1 H locs hm49 i049 i149 iF49 hgo49 hW hS ls hl
                  have e4 : (fd_ S1 4).toInt = (fd_ S 4).toInt := by rw [fd_of (iF49 4 (by decide))]
                  have hb2 := hB.2
                  refine lv_iload hx hb dX5_lastsBy_49 (lv_at hl 0 rfl) ?_
                  refine lv_aload_n hx hb dX5_lastsBy_51 rfl (lv_at hl 4 rfl) ?_
                  refine mm_geti hx hb hts hown hK hW 4 rfl (by decide) q1689 dX5_lastsBy_52 ?_
                  refine lv_icmp_ge (tgt := 146) hx hb dX5_lastsBy_55 (by decide) (fun c55 => ?_) (fun c55 => ?_)
                  · have t55 : ((fd_ S1 4)).toInt ≤ (m).toInt := ww_le c55
                    have hs : (l, al, S1) = ld_ms S0 a y l0 := by simp only [ld_m, if_pos c55] at hgo49; exact hgo49
                    have hs1 : l = (ld_ms S0 a y l0).1 := congrArg Prod.fst hs
                    have hs2 : al = (ld_ms S0 a y l0).2.1 := congrArg (fun z => z.2.1) hs
                    have hs3 : S1 = (ld_ms S0 a y l0).2.2 := congrArg (fun z => z.2.2) hs
                    clear hs hgo49
                    refine lv_iload hx hb dX5_lastsBy_146 (lv_at hl 1 rfl) ?_
                    refine lv_if_ne (tgt := 156) hx hb dX5_lastsBy_148 (by decide) (fun c148 => ?_) (fun c148 => ?_)
                    · skip
                      obtain ⟨v156, e156⟩ : ∃ yQ : Int32, yQ = d + 1 := ⟨_, rfl⟩
                      refine lv_iinc (v := v156) (lv' := [(4, .int v156), (6, .int m), (5, .int al), (3, .int l), (0, .ref o), (1, .int a), (2, .int y)]) hx hb dX5_lastsBy_156 hl (k := 2) rfl (by rw [e156]; rfl) (by decide) rfl (fun ls hl => ?_)
                      refine lv_goto (tgt := 36) hx hb dX5_lastsBy_159 (by decide) ?_
                      have tb : v156.toInt = d.toInt + 1 := by rw [e156]; exact ww_inc' (by omega)
                      exact ih36 l v156 S1 H locs (by omega) (by omega) (by omega) iF49 (by subst hs1 hs2 hs3 e156; simp only [ld_d, if_neg c40, if_pos c55, if_neg c148] at hgo36; exact hgo36) hW hS ls (lv_sub hl [0, 3, 4, 5, 6] rfl)
                    · skip
                      refine lv_iload hx hb dX5_lastsBy_151 (lv_at hl 2 rfl) ?_
                      refine lv_iconst (v := 1) hx hb dX5_lastsBy_153 (by decide) ?_
                      refine nv_isub hx hb dX5_lastsBy_154 (fun v154 e154 => ?_)
                      refine mm_iret hx hb hr hlocks hW hS ?_ dX5_lastsBy_155
                      have hres : ff_lastsBy S a y = (v154, S1) := by rw [← hgo36]; subst hs1 hs2 hs3 e154; simp only [ld_d, if_neg c40, if_pos c55, if_pos c148]
                      exact ⟨by rw [hres], by rw [hres], rfl⟩
                  · have t55 : (m).toInt < ((fd_ S1 4)).toInt := ww_nle c55
                    refine lv_aload_n hx hb dX5_lastsBy_58 rfl (lv_at hl 4 rfl) ?_
                    refine mm_geta hx hb hts hown hK hW 20 rfl q1705 dX5_lastsBy_59 ?_
                    refine lv_iload hx hb dX5_lastsBy_62 (lv_at hl 0 rfl) ?_
                    refine mm_zald hx hb hK hW 20 rfl (ww_in (by omega) (by omega)) dX5_lastsBy_64 ?_
                    refine lv_if_ne (tgt := 71) hx hb dX5_lastsBy_65 (by decide) (fun c65 => ?_) (fun c65 => ?_)
                    · skip
                      refine wm_join (P := fun w81 : Int32 => w81 = ld_e y l) (j := 81) (rest := []) (ls := ls) (fun w81 ew81 => ?_) (fun J81 => ?_)
                      · skip
                        refine lv_istore (lv' := [(7, .int w81), (6, .int m), (5, .int al), (4, .int d), (3, .int l), (0, .ref o), (1, .int a), (2, .int y)]) hx hb dX5_lastsBy_81 hl (by decide) rfl (fun ls hl => ?_)
                        refine lv_iload_n hx hb dX5_lastsBy_83 rfl (lv_at hl 4 rfl) ?_
                        refine lv_iload hx hb dX5_lastsBy_84 (lv_at hl 0 rfl) ?_
                        refine nv_isub hx hb dX5_lastsBy_86 (fun v86 e86 => ?_)
                        refine lv_istore_n (lv' := [(3, .int v86), (7, .int w81), (6, .int m), (5, .int al), (4, .int d), (0, .ref o), (1, .int a), (2, .int y)]) hx hb dX5_lastsBy_87 rfl hl (by decide) rfl (fun ls hl => ?_)
                        refine lv_aload_n hx hb dX5_lastsBy_88 rfl (lv_at hl 5 rfl) ?_
                        refine mm_geta hx hb hts hown hK hW 61 rfl q1746 dX5_lastsBy_89 ?_
                        refine lv_iload hx hb dX5_lastsBy_92 (lv_at hl 2 rfl) ?_
                        refine lv_aload_n hx hb dX5_lastsBy_94 rfl (lv_at hl 5 rfl) ?_
                        refine mm_geta hx hb hts hown hK hW 61 rfl q1746 dX5_lastsBy_95 ?_
                        refine lv_iload hx hb dX5_lastsBy_98 (lv_at hl 2 rfl) ?_
                        refine mm_iald hx hb hK hW 61 rfl (ww_in (by omega) (by omega)) dX5_lastsBy_100 ?_
                        refine lv_bipush (v := 6) hx hb dX5_lastsBy_101 (by decide) ?_
                        refine nv_isub hx hb dX5_lastsBy_103 (fun v103 e103 => ?_)
                        refine lv_iconst (v := 2) hx hb dX5_lastsBy_104 (by decide) ?_
                        refine lv_iload hx hb dX5_lastsBy_105 (lv_at hl 1 rfl) ?_
                        refine nv_imul hx hb dX5_lastsBy_107 (fun v107 e107 => ?_)
                        refine nv_iadd hx hb dX5_lastsBy_108 (fun v108 e108 => ?_)
                        refine lv_iconst (v := 0) hx hb dX5_lastsBy_109 (by decide) ?_
                        refine lv_sipush (v := 999) hx hb dX5_lastsBy_110 (by decide) ?_
                        refine pp_calli (As := [.int v108, .int 0, .int 999]) (rest := [.int m, .ref (o + 42)]) (n := 3) ⟨hx, hb, hml, hown, hts⟩ (mc_held lQ v108 0 999) (lw_S q2089 q2090 q92 q2091) (by decide +kernel) rfl ⟨Nat.le_of_ble_eq_true rfl, Nat.le_of_ble_eq_true rfl⟩ hl.1 rfl (Nat.le_of_ble_eq_true rfl) dX5_lastsBy_113 ⟨Nat.le_of_ble_eq_true rfl, Nat.le_of_ble_eq_true rfl⟩ (fun v113 e113 => ?_)
                        refine mm_iast hx hb hK hW hS 61 rfl (ww_in (by omega) (by omega)) dX5_lastsBy_116 (fun S116 H locs f116 hW hS => ?_)
                        have n116 : S116 = ld_S S1 m y l := by rw [f116, e113, e108, e103, e107, ew81]; rfl
                        refine wm_join (P := fun w138 : Int32 => w138 = ld_a S116 m a al) (j := 138) (rest := []) (ls := ls) (fun w138 ew138 => ?_) (fun J138 => ?_)
                        · skip
                          refine lv_istore (lv' := [(5, .int w138), (3, .int v86), (7, .int w81), (6, .int m), (4, .int d), (0, .ref o), (1, .int a), (2, .int y)]) hx hb dX5_lastsBy_138 hl (by decide) rfl (fun ls hl => ?_)
                          obtain ⟨v140, e140⟩ : ∃ yQ : Int32, yQ = m + 1 := ⟨_, rfl⟩
                          refine lv_iinc (v := v140) (lv' := [(6, .int v140), (5, .int w138), (3, .int v86), (7, .int w81), (4, .int d), (0, .ref o), (1, .int a), (2, .int y)]) hx hb dX5_lastsBy_140 hl (k := 3) rfl (by rw [e140]; rfl) (by decide) rfl (fun ls hl => ?_)
                          refine lv_goto (tgt := 49) hx hb dX5_lastsBy_143 (by decide) ?_
                          have tb : v140.toInt = m.toInt + 1 := by rw [e140]; exact ww_inc t55
                          have fr : fr_ [61] S S116 := by first | exact iF49 | (rw [n116]; exact iF49.wr (by decide))
                          exact ih49 v86 w138 v140 S116 H locs (by omega) (by omega) (by omega) fr (by first | (rw [e140]; simp only [ld_m, if_neg c55, if_neg c65] at hgo49; exact hgo49) | (rw [ew138, e86, ew81, n116, e140]; simp only [ld_m, if_neg c55, if_neg c65] at hgo49; exact hgo49)) hW hS ls (lv_sub hl [0, 1, 4, 2, 5, 6, 7] rfl)
                        refine lv_iload hx hb dX5_lastsBy_117 (lv_at hl 3 rfl) ?_
                        refine lv_if_eq (tgt := 137) hx hb dX5_lastsBy_119 (by decide) (fun c119 => ?_) (fun c119 => ?_)
                        · skip
                          refine lv_iconst (v := 0) hx hb dX5_lastsBy_137 (by decide) ?_
                          exact J138 _ (by simp only [ld_a, if_neg c55, if_neg c65, if_pos c119])
                        · skip
                          refine lv_aload_n hx hb dX5_lastsBy_122 rfl (lv_at hl 5 rfl) ?_
                          refine mm_geta hx hb hts hown hK hW 61 rfl q1746 dX5_lastsBy_123 ?_
                          refine lv_iload hx hb dX5_lastsBy_126 (lv_at hl 2 rfl) ?_
                          refine mm_iald hx hb hK hW 61 rfl (ww_in (by omega) (by omega)) dX5_lastsBy_128 ?_
                          refine lv_iload_n hx hb dX5_lastsBy_129 rfl (lv_at hl 6 rfl) ?_
                          refine lv_icmp_le (tgt := 137) hx hb dX5_lastsBy_130 (by decide) (fun c130 => ?_) (fun c130 => ?_)
                          · have t130 : ((rd_ S116 61 m)).toInt ≤ (a).toInt := ww_le c130
                            refine lv_iconst (v := 0) hx hb dX5_lastsBy_137 (by decide) ?_
                            exact J138 _ (by simp only [ld_a, if_neg c55, if_neg c65, if_neg c119, if_pos c130])
                          · have t130 : (a).toInt < ((rd_ S116 61 m)).toInt := ww_nle c130
                            refine lv_iconst (v := 1) hx hb dX5_lastsBy_133 (by decide) ?_
                            refine lv_goto (tgt := 138) hx hb dX5_lastsBy_134 (by decide) ?_
                            exact J138 _ (by simp only [ld_a, if_neg c55, if_neg c65, if_neg c119, if_neg c130])
                      refine lv_iload_n hx hb dX5_lastsBy_71 rfl (lv_at hl 6 rfl) ?_
                      refine lv_iload_n hx hb dX5_lastsBy_72 rfl (lv_at hl 3 rfl) ?_
                      refine lv_icmp_ge (tgt := 80) hx hb dX5_lastsBy_73 (by decide) (fun c73 => ?_) (fun c73 => ?_)
                      · have t73 : (l).toInt ≤ (y).toInt := ww_le c73
                        refine lv_iload_n hx hb dX5_lastsBy_80 rfl (lv_at hl 3 rfl) ?_
                        exact J81 _ (by simp only [ld_e, if_neg c55, if_neg c65, if_pos c73])
                      · have t73 : (y).toInt < (l).toInt := ww_nle c73
                        refine lv_iload_n hx hb dX5_lastsBy_76 rfl (lv_at hl 6 rfl) ?_
                        refine lv_goto (tgt := 81) hx hb dX5_lastsBy_77 (by decide) ?_
                        exact J81 _ (by simp only [ld_e, if_neg c55, if_neg c65, if_neg c73])
                    · skip
                      refine lv_goto (tgt := 140) hx hb dX5_lastsBy_68 (by decide) ?_
                      obtain ⟨v140, e140⟩ : ∃ yQ : Int32, yQ = m + 1 := ⟨_, rfl⟩
                      refine lv_iinc (v := v140) (lv' := [(6, .int v140), (5, .int al), (4, .int d), (3, .int l), (0, .ref o), (1, .int a), (2, .int y)]) hx hb dX5_lastsBy_140 hl (k := 0) rfl (by rw [e140]; rfl) (by decide) rfl (fun ls hl => ?_)
                      refine lv_goto (tgt := 49) hx hb dX5_lastsBy_143 (by decide) ?_
                      have tb : v140.toInt = m.toInt + 1 := by rw [e140]; exact ww_inc t55
                      have fr : fr_ [61] S S1 := by first | exact iF49 | (rw [n116]; exact iF49.wr (by decide))
                      exact ih49 l al v140 S1 H locs (by omega) (by omega) (by omega) fr (by first | (rw [e140]; simp only [ld_m, if_neg c55, if_pos c65] at hgo49; exact hgo49) | (rw [ew138, e86, ew81, n116, e140]; simp only [ld_m, if_neg c55, if_pos c65] at hgo49; exact hgo49)) hW hS ls (lv_sub hl [0, 1, 2, 3, 4, 5, 6] rfl)
              exact L49 121 l0 1 0 S0 H locs (by have := hB.2; show _ - 0 < _; omega) (by decide) hB.1 iF36 (rfl) hW hS ls (lv_sub hl [0, 1, 2, 3, 4, 5, 6] rfl)
        exact L36 61 (fd_ Sb 54) 1 Sb H locs (by show (60 : Int) - 1 + 1 < 61; omega) (by decide) (by decide) iF2 (by rw [hs]; rfl) hW hS ls (lv_sub hl [0, 1, 2, 3, 4] rfl)
      · have t7 : (b).toInt < ((fd_ Sb 4)).toInt := ww_nle c7
        refine lv_aload_n hx hb dX5_lastsBy_10 rfl (lv_at hl 1 rfl) ?_
        refine mm_geta hx hb hts hown hK hW 61 rfl q1746 dX5_lastsBy_11 ?_
        refine lv_iload_n hx hb dX5_lastsBy_14 rfl (lv_at hl 0 rfl) ?_
        refine lv_aload_n hx hb dX5_lastsBy_15 rfl (lv_at hl 1 rfl) ?_
        refine mm_geta hx hb hts hown hK hW 17 rfl q1702 dX5_lastsBy_16 ?_
        refine lv_iload_n hx hb dX5_lastsBy_19 rfl (lv_at hl 0 rfl) ?_
        refine mm_iald hx hb hK hW 17 rfl (ww_in (by omega) (by omega)) dX5_lastsBy_20 ?_
        refine mm_iast hx hb hK hW hS 61 rfl (ww_in (by omega) (by omega)) dX5_lastsBy_21 (fun S21 H locs f21 hW hS => ?_)
        obtain ⟨v22, e22⟩ : ∃ yQ : Int32, yQ = b + 1 := ⟨_, rfl⟩
        refine lv_iinc (v := v22) (lv' := [(3, .int v22), (0, .ref o), (1, .int a), (2, .int y)]) hx hb dX5_lastsBy_22 hl (k := 0) rfl (by rw [e22]; rfl) (by decide) rfl (fun ls hl => ?_)
        refine lv_goto (tgt := 2) hx hb dX5_lastsBy_25 (by decide) ?_
        have tb : v22.toInt = b.toInt + 1 := by rw [e22]; exact ww_inc t7
        exact ih2 v22 S21 H locs (by omega) (by omega) (by omega) (by rw [f21]; exact iF2.wr (by decide)) (by subst f21 e22; simp only [tr_go, if_neg c7] at hgo2; exact hgo2) hW hS ls (lv_sub hl [0, 1, 2, 3] rfl)
  exact L2 121 0 S H locs (by have := hB.2; show _ - 0 < _; omega) (by decide) hB.1 (fr_.rf S) (rfl) hW hS ls (lv_sub hl [0, 1, 2, 3] rfl)

set_option maxHeartbeats 4000000 in
theorem mc_last (lQ : Launch) (G : wm_G) (o : Nat) (S : mm_S) (E : mm_E) (s : Int32) (n : Int32) (hB : iv_B S) : mm_Met lQ G o yX5_last (ws_ yX5_last cX5_last 3 (some .int)) 2 S E [.int s, .int n] (some (.int (ff_last S s n).1)) (ff_last S s n).2 E := by
  refine mm_start (by decide +kernel) (Nat.le_of_ble_eq_true rfl) rfl (fun pQ eQ sQ mQ belowQ methQ cQ hx hb hml hr hlocks hts hown hK H hW hS ls hl => ?_)
  have hl : lv_has ls 3 [(0, .ref o), (1, .int s), (2, .int n)] := hl
  generalize hlc : ([] : List Loc) = locs at hS ⊢
  refine lv_iload_n hx hb dX5_last_0 rfl (lv_at hl 1 rfl) ?_
  refine lv_iconst (v := 0) hx hb dX5_last_1 (by decide) ?_
  refine lv_sipush (v := 999) hx hb dX5_last_2 (by decide) ?_
  refine pp_calli (As := [.int s, .int 0, .int 999]) (rest := []) (n := 3) ⟨hx, hb, hml, hown, hts⟩ (mc_in lQ s 0 999) (lw_S q1979 q1980 q92 q1981) (by decide +kernel) rfl ⟨Nat.le_of_ble_eq_true rfl, Nat.le_of_ble_eq_true rfl⟩ hl.1 rfl (Nat.le_of_ble_eq_true rfl) dX5_last_5 ⟨Nat.le_of_ble_eq_true rfl, Nat.le_of_ble_eq_true rfl⟩ (fun v5 e5 => ?_)
  refine lv_if_eq (tgt := 21) hx hb dX5_last_8 (by decide) (fun c8 => ?_) (fun c8 => ?_)
  · skip
    refine lv_iconst (v := (-1)) hx hb dX5_last_21 (by decide) ?_
    refine mm_iret hx hb hr hlocks hW hS ?_ dX5_last_22
    have hres : ff_last S s n = ((-1), S) := by subst e5; simp only [ff_last, if_pos c8]
    exact ⟨by rw [hres], by rw [hres], rfl⟩
  · skip
    refine lv_iload_n hx hb dX5_last_11 rfl (lv_at hl 2 rfl) ?_
    refine lv_iconst (v := 0) hx hb dX5_last_12 (by decide) ?_
    refine lv_bipush (v := 9) hx hb dX5_last_13 (by decide) ?_
    refine pp_calli (As := [.int n, .int 0, .int 9]) (rest := []) (n := 3) ⟨hx, hb, hml, hown, hts⟩ (mc_in lQ n 0 9) (lw_S q1979 q1980 q92 q1981) (by decide +kernel) rfl ⟨Nat.le_of_ble_eq_true rfl, Nat.le_of_ble_eq_true rfl⟩ hl.1 rfl (Nat.le_of_ble_eq_true rfl) dX5_last_15 ⟨Nat.le_of_ble_eq_true rfl, Nat.le_of_ble_eq_true rfl⟩ (fun v15 e15 => ?_)
    refine lv_if_ne (tgt := 23) hx hb dX5_last_18 (by decide) (fun c18 => ?_) (fun c18 => ?_)
    · skip
      refine lv_aload_n hx hb dX5_last_23 rfl (lv_at hl 0 rfl) ?_
      refine mm_callp (As := []) (rest := []) (n := 0) ⟨hx, hb, hml, hown, hts⟩ hK (mc_menBelow lQ G o S E hB) (lw_V q2205 q2207 qs61 q92 q2208) (by decide +kernel) rfl ⟨Nat.le_of_ble_eq_true rfl, Nat.le_of_ble_eq_true rfl⟩ hW hS hl.1 rfl (Nat.le_of_ble_eq_true rfl) dX5_last_24 ⟨Nat.le_of_ble_eq_true rfl, Nat.le_of_ble_eq_true rfl⟩ (fun v24 H locs e24 hW hS => ?_)
      refine lv_if_ne (tgt := 35) hx hb dX5_last_27 (by decide) (fun c27 => ?_) (fun c27 => ?_)
      · skip
        refine lv_aload_n hx hb dX5_last_35 rfl (lv_at hl 0 rfl) ?_
        refine lv_iload_n hx hb dX5_last_36 rfl (lv_at hl 1 rfl) ?_
        refine lv_iload_n hx hb dX5_last_37 rfl (lv_at hl 2 rfl) ?_
        refine mm_calli (As := [.int s, .int n]) (rest := []) (n := 2) ⟨hx, hb, hml, hown, hts⟩ hK (mc_lastsBy lQ G o S E s n hB) (lw_V q2252 q2254 qs68 q92 q2255) (by decide +kernel) rfl ⟨Nat.le_of_ble_eq_true rfl, Nat.le_of_ble_eq_true rfl⟩ hW hS hl.1 rfl (Nat.le_of_ble_eq_true rfl) dX5_last_38 ⟨Nat.le_of_ble_eq_true rfl, Nat.le_of_ble_eq_true rfl⟩ (fun v38 S38 H locs e38 f38 hW hS => ?_)
        refine mm_iret hx hb hr hlocks hW hS ?_ dX5_last_41
        have hres : ff_last S s n = (v38, S38) := by subst e5 e15 e24 e38 f38; simp only [ff_last, if_neg c8, if_neg c18, if_neg c27]
        exact ⟨by rw [hres], by rw [hres], rfl⟩
      · skip
        refine lv_bipush (v := (-2)) hx hb dX5_last_30 (by decide) ?_
        refine lv_goto (tgt := 41) hx hb dX5_last_32 (by decide) ?_
        refine mm_iret hx hb hr hlocks hW hS ?_ dX5_last_41
        have hres : ff_last S s n = ((-2), S) := by subst e5 e15 e24; simp only [ff_last, if_neg c8, if_neg c18, if_pos c27]
        exact ⟨by rw [hres], by rw [hres], rfl⟩
    · skip
      refine lv_iconst (v := (-1)) hx hb dX5_last_21 (by decide) ?_
      refine mm_iret hx hb hr hlocks hW hS ?_ dX5_last_22
      have hres : ff_last S s n = ((-1), S) := by subst e5 e15; simp only [ff_last, if_neg c8, if_pos c18]
      exact ⟨by rw [hres], by rw [hres], rfl⟩

set_option maxHeartbeats 4000000 in
theorem mc_best (lQ : Launch) (G : wm_G) (o : Nat) (S : mm_S) (E : mm_E) (s : Int32) (hB : iv_B S) : mm_Met lQ G o yX5_best (ws_ yX5_best cX5_best 4 (some .int)) 2 S E [.int s] (some (.int (ff_best S s).1)) (ff_best S s).2 E := by
  refine mm_start (by decide +kernel) (Nat.le_of_ble_eq_true rfl) rfl (fun pQ eQ sQ mQ belowQ methQ cQ hx hb hml hr hlocks hts hown hK H hW hS ls hl => ?_)
  have hl : lv_has ls 4 [(0, .ref o), (1, .int s)] := hl
  generalize hlc : ([] : List Loc) = locs at hS ⊢
  refine lv_iload_n hx hb dX5_best_0 rfl (lv_at hl 1 rfl) ?_
  refine lv_iconst (v := 0) hx hb dX5_best_1 (by decide) ?_
  refine lv_sipush (v := 999) hx hb dX5_best_2 (by decide) ?_
  refine pp_calli (As := [.int s, .int 0, .int 999]) (rest := []) (n := 3) ⟨hx, hb, hml, hown, hts⟩ (mc_in lQ s 0 999) (lw_S q1979 q1980 q92 q1981) (by decide +kernel) rfl ⟨Nat.le_of_ble_eq_true rfl, Nat.le_of_ble_eq_true rfl⟩ hl.1 rfl (Nat.le_of_ble_eq_true rfl) dX5_best_5 ⟨Nat.le_of_ble_eq_true rfl, Nat.le_of_ble_eq_true rfl⟩ (fun v5 e5 => ?_)
  refine lv_if_ne (tgt := 13) hx hb dX5_best_8 (by decide) (fun c8 => ?_) (fun c8 => ?_)
  · skip
    refine lv_aload_n hx hb dX5_best_13 rfl (lv_at hl 0 rfl) ?_
    refine mm_callp (As := []) (rest := []) (n := 0) ⟨hx, hb, hml, hown, hts⟩ hK (mc_menBelow lQ G o S E hB) (lw_V q2205 q2207 qs61 q92 q2208) (by decide +kernel) rfl ⟨Nat.le_of_ble_eq_true rfl, Nat.le_of_ble_eq_true rfl⟩ hW hS hl.1 rfl (Nat.le_of_ble_eq_true rfl) dX5_best_14 ⟨Nat.le_of_ble_eq_true rfl, Nat.le_of_ble_eq_true rfl⟩ (fun v14 H locs e14 hW hS => ?_)
    refine lv_if_ne (tgt := 23) hx hb dX5_best_17 (by decide) (fun c17 => ?_) (fun c17 => ?_)
    · skip
      refine lv_iconst (v := 0) hx hb dX5_best_23 (by decide) ?_
      refine lv_istore_n (lv' := [(2, .int 0), (0, .ref o), (1, .int s)]) hx hb dX5_best_24 rfl hl (by decide) rfl (fun ls hl => ?_)
      refine lv_iconst (v := 1) hx hb dX5_best_25 (by decide) ?_
      refine lv_istore_n (lv' := [(3, .int 1), (2, .int 0), (0, .ref o), (1, .int s)]) hx hb dX5_best_26 rfl hl (by decide) rfl (fun ls hl => ?_)
      have L27 : ∀ (fu27 : Nat) (b : Int32) (n : Int32) (S0 : mm_S) (H : Heap) (locs : List Loc), (10 - n.toInt < fu27) → (1 ≤ n.toInt) → (n.toInt ≤ 10) → (fr_ [61] S S0) → (be_go fu27 S0 s b n = ff_best S s) → mm_W G o S0 E H → va_S (mm_F o) sQ.heap H locs → ∀ ls : Array Slot, lv_has ls 4 [(3, .int n), (2, .int b), (0, .ref o), (1, .int s)] → W pQ lQ eQ (wm_rm 2) sQ mQ (Value.ref o :: [.int s]).toArray belowQ methQ cQ H locs 0 0 (MQ belowQ (wm_Q (fun vQ HQ => vQ = some (.int (ff_best S s).1) ∧ mm_W G o (ff_best S s).2 E HQ) (mm_F o)) (Value.ref o :: [.int s]).toArray sQ 0 0 (mm_F o)) (F0 mQ 27 ls []) := by
        intro fu27
        induction fu27 with
        | zero =>
          intro b n S0 H locs hm27 i027 i127 iF27 hgo27 hW hS ls hl
          exact absurd hm27 (by omega)
        | succ fu27 ih27 =>
          intro b n S0 H locs hm27 i027 i127 iF27 hgo27 hW hS ls hl
          refine lv_iload_n hx hb dX5_best_27 rfl (lv_at hl 0 rfl) ?_
          refine lv_bipush (v := 10) hx hb dX5_best_28 (by decide) ?_
          refine lv_icmp_ge (tgt := 56) hx hb dX5_best_30 (by decide) (fun c30 => ?_) (fun c30 => ?_)
          · have t30 : 10 ≤ (n).toInt := ww_le c30
            refine lv_iload_n hx hb dX5_best_56 rfl (lv_at hl 1 rfl) ?_
            refine mm_iret hx hb hr hlocks hW hS ?_ dX5_best_57
            have hres : ff_best S s = (b, S0) := by rw [← hgo27]; simp only [be_go, if_pos c30]
            exact ⟨by rw [hres], by rw [hres], rfl⟩
          · have t30 : (n).toInt < 10 := ww_nle c30
            refine lv_aload_n hx hb dX5_best_33 rfl (lv_at hl 2 rfl) ?_
            refine lv_iload_n hx hb dX5_best_34 rfl (lv_at hl 3 rfl) ?_
            refine lv_iload_n hx hb dX5_best_35 rfl (lv_at hl 0 rfl) ?_
            refine mm_calli (As := [.int s, .int n]) (rest := []) (n := 2) ⟨hx, hb, hml, hown, hts⟩ hK (mc_lastsBy lQ G o S0 E s n (iv_B_of (iF27 4 (by decide)) hB)) (lw_V q2252 q2254 qs68 q92 q2255) (by decide +kernel) rfl ⟨Nat.le_of_ble_eq_true rfl, Nat.le_of_ble_eq_true rfl⟩ hW hS hl.1 rfl (Nat.le_of_ble_eq_true rfl) dX5_best_36 ⟨Nat.le_of_ble_eq_true rfl, Nat.le_of_ble_eq_true rfl⟩ (fun v36 S36 H locs e36 f36 hW hS => ?_)
            have fr39 : fr_ [61] S S36 := by rw [f36]; exact iF27.tr (lastsBy_fr _ _ _)
            refine lv_aload_n hx hb dX5_best_39 rfl (lv_at hl 2 rfl) ?_
            refine lv_iload_n hx hb dX5_best_40 rfl (lv_at hl 3 rfl) ?_
            refine lv_iload_n hx hb dX5_best_41 rfl (lv_at hl 1 rfl) ?_
            refine mm_calli (As := [.int s, .int b]) (rest := [.int v36]) (n := 2) ⟨hx, hb, hml, hown, hts⟩ hK (mc_lastsBy lQ G o S36 E s b (iv_B_of (fr39 4 (by decide)) hB)) (lw_V q2252 q2254 qs68 q92 q2255) (by decide +kernel) rfl ⟨Nat.le_of_ble_eq_true rfl, Nat.le_of_ble_eq_true rfl⟩ hW hS hl.1 rfl (Nat.le_of_ble_eq_true rfl) dX5_best_42 ⟨Nat.le_of_ble_eq_true rfl, Nat.le_of_ble_eq_true rfl⟩ (fun v42 S42 H locs e42 f42 hW hS => ?_)
            refine lv_icmp_le (tgt := 50) hx hb dX5_best_45 (by decide) (fun c45 => ?_) (fun c45 => ?_)
            · have t45 : (v36).toInt ≤ (v42).toInt := ww_le c45
              obtain ⟨v50, e50⟩ : ∃ yQ : Int32, yQ = n + 1 := ⟨_, rfl⟩
              refine lv_iinc (v := v50) (lv' := [(3, .int v50), (2, .int b), (0, .ref o), (1, .int s)]) hx hb dX5_best_50 hl (k := 0) rfl (by rw [e50]; rfl) (by decide) rfl (fun ls hl => ?_)
              refine lv_goto (tgt := 27) hx hb dX5_best_53 (by decide) ?_
              have tb : v50.toInt = n.toInt + 1 := by rw [e50]; exact ww_inc' (by omega)
              exact ih27 b v50 S42 H locs (by omega) (by omega) (by omega) (by rw [f42]; exact fr39.tr (lastsBy_fr _ _ _)) (by rw [be_go, if_neg c30] at hgo27; (first | rw [if_pos (by rw [← e36, ← f36, ← e42]; exact c45)] at hgo27 | rw [if_neg (by rw [← e36, ← f36, ← e42]; exact c45)] at hgo27); rw [← f36, ← f42, ← e50] at hgo27; exact hgo27) hW hS ls (lv_sub hl [0, 1, 2, 3] rfl)
            · have t45 : (v42).toInt < (v36).toInt := ww_nle c45
              refine lv_iload_n hx hb dX5_best_48 rfl (lv_at hl 0 rfl) ?_
              refine lv_istore_n (lv' := [(2, .int n), (3, .int n), (0, .ref o), (1, .int s)]) hx hb dX5_best_49 rfl hl (by decide) rfl (fun ls hl => ?_)
              obtain ⟨v50, e50⟩ : ∃ yQ : Int32, yQ = n + 1 := ⟨_, rfl⟩
              refine lv_iinc (v := v50) (lv' := [(3, .int v50), (2, .int n), (0, .ref o), (1, .int s)]) hx hb dX5_best_50 hl (k := 1) rfl (by rw [e50]; rfl) (by decide) rfl (fun ls hl => ?_)
              refine lv_goto (tgt := 27) hx hb dX5_best_53 (by decide) ?_
              have tb : v50.toInt = n.toInt + 1 := by rw [e50]; exact ww_inc' (by omega)
              exact ih27 n v50 S42 H locs (by omega) (by omega) (by omega) (by rw [f42]; exact fr39.tr (lastsBy_fr _ _ _)) (by rw [be_go, if_neg c30] at hgo27; (first | rw [if_pos (by rw [← e36, ← f36, ← e42]; exact c45)] at hgo27 | rw [if_neg (by rw [← e36, ← f36, ← e42]; exact c45)] at hgo27); rw [← f36, ← f42, ← e50] at hgo27; exact hgo27) hW hS ls (lv_sub hl [0, 1, 2, 3] rfl)
      exact L27 10 0 1 S H locs (by decide) (by decide) (by decide) (fr_.rf S) (by subst e5 e14; simp only [ff_best, if_neg c8, if_neg c17]) hW hS ls (lv_sub hl [0, 1, 2, 3] rfl)
    · skip
      refine lv_bipush (v := (-2)) hx hb dX5_best_20 (by decide) ?_
      refine mm_iret hx hb hr hlocks hW hS ?_ dX5_best_22
      have hres : ff_best S s = ((-2), S) := by subst e5 e14; simp only [ff_best, if_neg c8, if_pos c17]
      exact ⟨by rw [hres], by rw [hres], rfl⟩
  · skip
    refine lv_iconst (v := (-1)) hx hb dX5_best_11 (by decide) ?_
    refine mm_iret hx hb hr hlocks hW hS ?_ dX5_best_12
    have hres : ff_best S s = ((-1), S) := by subst e5; simp only [ff_best, if_pos c8]
    exact ⟨by rw [hres], by rw [hres], rfl⟩

set_option maxHeartbeats 4000000 in
theorem mc_down (lQ : Launch) (G : wm_G) (o : Nat) (S : mm_S) (E : mm_E) (t : Int32) (w : Int32) (h : Int32) (hB : iv_B S) (hw : iv_W S) : mm_Met lQ G o yX5_down (ws_ yX5_down cX5_down 6 (some .int)) 2 S E [.int t, .int w, .int h] (some (.int (ff_down S t w h).1)) (ff_down S t w h).2 E := by
  refine mm_start (by decide +kernel) (Nat.le_of_ble_eq_true rfl) rfl (fun pQ eQ sQ mQ belowQ methQ cQ hx hb hml hr hlocks hts hown hK H hW hS ls hl => ?_)
  have hl : lv_has ls 6 [(0, .ref o), (1, .int t), (2, .int w), (3, .int h)] := hl
  generalize hlc : ([] : List Loc) = locs at hS ⊢
  refine lv_aload_n hx hb dX5_down_0 rfl (lv_at hl 0 rfl) ?_
  refine lv_iload_n hx hb dX5_down_1 rfl (lv_at hl 1 rfl) ?_
  refine mm_callp (As := [.int t]) (rest := []) (n := 1) ⟨hx, hb, hml, hown, hts⟩ hK (mc_isBody lQ G o S E t) (lw_V q2020 q2022 qs38 q92 q2023) (by decide +kernel) rfl ⟨Nat.le_of_ble_eq_true rfl, Nat.le_of_ble_eq_true rfl⟩ hW hS hl.1 rfl (Nat.le_of_ble_eq_true rfl) dX5_down_2 ⟨Nat.le_of_ble_eq_true rfl, Nat.le_of_ble_eq_true rfl⟩ (fun v2 H locs e2 hW hS => ?_)
  refine lv_if_eq (tgt := 28) hx hb dX5_down_5 (by decide) (fun c5 => ?_) (fun c5 => ?_)
  · skip
    refine lv_iconst (v := (-1)) hx hb dX5_down_28 (by decide) ?_
    refine mm_iret hx hb hr hlocks hW hS ?_ dX5_down_29
    have hres : ff_down S t w h = ((-1), S) := by subst e2; simp only [ff_down, dn_go, if_pos c5]
    exact ⟨by rw [hres], by rw [hres], rfl⟩
  · skip
    obtain ⟨b0, b1, b2⟩ := ff_isBody_t hB (by rw [← e2]; exact c5)
    refine lv_aload_n hx hb dX5_down_8 rfl (lv_at hl 0 rfl) ?_
    refine mm_geta hx hb hts hown hK hW 5 rfl q1690 dX5_down_9 ?_
    refine lv_iload_n hx hb dX5_down_12 rfl (lv_at hl 1 rfl) ?_
    refine mm_iald hx hb hK hW 5 rfl (ww_in (by omega) (by omega)) dX5_down_13 ?_
    refine lv_iconst (v := 3) hx hb dX5_down_14 (by decide) ?_
    refine lv_icmp_ne (tgt := 28) hx hb dX5_down_15 (by decide) (fun c15 => ?_) (fun c15 => ?_)
    · skip
      refine lv_iconst (v := (-1)) hx hb dX5_down_28 (by decide) ?_
      refine mm_iret hx hb hr hlocks hW hS ?_ dX5_down_29
      have hres : ff_down S t w h = ((-1), S) := by subst e2; simp only [ff_down, dn_go, if_neg c5, if_neg c15]
      exact ⟨by rw [hres], by rw [hres], rfl⟩
    · skip
      refine lv_iload_n hx hb dX5_down_18 rfl (lv_at hl 3 rfl) ?_
      refine lv_iconst (v := 1) hx hb dX5_down_19 (by decide) ?_
      refine lv_bipush (v := 9) hx hb dX5_down_20 (by decide) ?_
      refine pp_calli (As := [.int h, .int 1, .int 9]) (rest := []) (n := 3) ⟨hx, hb, hml, hown, hts⟩ (mc_in lQ h 1 9) (lw_S q1979 q1980 q92 q1981) (by decide +kernel) rfl ⟨Nat.le_of_ble_eq_true rfl, Nat.le_of_ble_eq_true rfl⟩ hl.1 rfl (Nat.le_of_ble_eq_true rfl) dX5_down_22 ⟨Nat.le_of_ble_eq_true rfl, Nat.le_of_ble_eq_true rfl⟩ (fun v22 e22 => ?_)
      refine lv_if_ne (tgt := 30) hx hb dX5_down_25 (by decide) (fun c25 => ?_) (fun c25 => ?_)
      · skip
        refine wm_join (P := fun w56 : Int32 => w56 = dn_sp w) (j := 56) (rest := []) (ls := ls) (fun w56 ew56 => ?_) (fun J56 => ?_)
        · skip
          refine lv_istore (lv' := [(4, .int w56), (0, .ref o), (1, .int t), (2, .int w), (3, .int h)]) hx hb dX5_down_56 hl (by decide) rfl (fun ls hl => ?_)
          refine lv_iload hx hb dX5_down_58 (lv_at hl 0 rfl) ?_
          refine lv_if_ne (tgt := 76) hx hb dX5_down_60 (by decide) (fun c60 => ?_) (fun c60 => ?_)
          · skip
            refine lv_aload_n hx hb dX5_down_76 rfl (lv_at hl 1 rfl) ?_
            refine mm_geta hx hb hts hown hK hW 12 rfl q1697 dX5_down_77 ?_
            refine lv_iload_n hx hb dX5_down_80 rfl (lv_at hl 2 rfl) ?_
            refine mm_iald hx hb hK hW 12 rfl (ww_in (by omega) (by omega)) dX5_down_81 ?_
            refine lv_if_ne (tgt := 88) hx hb dX5_down_82 (by decide) (fun c82 => ?_) (fun c82 => ?_)
            · skip
              refine lv_aload_n hx hb dX5_down_88 rfl (lv_at hl 1 rfl) ?_
              refine mm_geti hx hb hts hown hK hW 62 rfl (by decide) q1747 dX5_down_89 ?_
              refine lv_bipush (v := 40) hx hb dX5_down_92 (by decide) ?_
              refine lv_icmp_ne (tgt := 100) hx hb dX5_down_94 (by decide) (fun c94 => ?_) (fun c94 => ?_)
              · skip
                have hlt : (fd_ S 62).toInt < 40 := by
                  have q1 := ww_ne c94
                  have q2 := hw.2.1
                  have q3 : (40 : Int32).toInt = 40 := by decide
                  omega
                have hge := hw.1
                refine wm_join (P := fun w126 : Int32 => w126 = dn_fr S t) (j := 126) (rest := []) (ls := ls) (fun w126 ew126 => ?_) (fun J126 => ?_)
                · skip
                  refine lv_istore (lv' := [(5, .int w126), (4, .int w56), (0, .ref o), (1, .int t), (2, .int w), (3, .int h)]) hx hb dX5_down_126 hl (by decide) rfl (fun ls hl => ?_)
                  refine lv_aload_n hx hb dX5_down_128 rfl (lv_at hl 2 rfl) ?_
                  refine mm_geta hx hb hts hown hK hW 65 rfl q1750 dX5_down_129 ?_
                  refine lv_iload_n hx hb dX5_down_132 rfl (lv_at hl 3 rfl) ?_
                  refine lv_iload hx hb dX5_down_133 (lv_at hl 0 rfl) ?_
                  refine lv_iload_n hx hb dX5_down_135 rfl (lv_at hl 5 rfl) ?_
                  refine nv_iadd hx hb dX5_down_136 (fun v136 e136 => ?_)
                  refine mm_iast hx hb hK hW hS 65 rfl (ww_in (by omega) (by omega)) dX5_down_137 (fun S137 H locs f137 hW hS => ?_)
                  refine lv_aload_n hx hb dX5_down_138 rfl (lv_at hl 2 rfl) ?_
                  refine mm_geta hx hb hts hown hK hW 63 rfl q1748 dX5_down_139 ?_
                  refine lv_aload_n hx hb dX5_down_142 rfl (lv_at hl 2 rfl) ?_
                  refine mm_geti hx hb hts hown hK hW 62 rfl (by decide) q1747 dX5_down_143 ?_
                  refine lv_iload_n hx hb dX5_down_146 rfl (lv_at hl 4 rfl) ?_
                  refine mm_iast hx hb hK hW hS 63 rfl (by rw [f137, fd_wn (by decide)]; exact ww_in hge hlt) dX5_down_147 (fun S147 H locs f147 hW hS => ?_)
                  refine lv_aload_n hx hb dX5_down_148 rfl (lv_at hl 2 rfl) ?_
                  refine mm_geta hx hb hts hown hK hW 64 rfl q1749 dX5_down_149 ?_
                  refine lv_aload_n hx hb dX5_down_152 rfl (lv_at hl 2 rfl) ?_
                  refine mm_geti hx hb hts hown hK hW 62 rfl (by decide) q1747 dX5_down_153 ?_
                  refine lv_iload hx hb dX5_down_156 (lv_at hl 0 rfl) ?_
                  refine lv_iload_n hx hb dX5_down_158 rfl (lv_at hl 5 rfl) ?_
                  refine nv_iadd hx hb dX5_down_159 (fun v159 e159 => ?_)
                  refine mm_iast hx hb hK hW hS 64 rfl (by rw [f147, fd_wn (by decide), f137, fd_wn (by decide)]; exact ww_in hge hlt) dX5_down_160 (fun S160 H locs f160 hW hS => ?_)
                  have n137 : S137 = dn_1 S t (dn_fr S t + h) := by rw [f137, e136, ew126]; rfl
                  have n147 : S147 = dn_2 S137 w := f147
                  have n160 : S160 = dn_3 S147 (dn_fr S t + h) := by rw [f160, e159, ew126]; rfl
                  refine lv_aload_n hx hb dX5_down_161 rfl (lv_at hl 2 rfl) ?_
                  refine lv_dup hx hb dX5_down_162 rfl ?_
                  refine mm_geti hx hb hts hown hK hW 62 rfl (by decide) q1747 dX5_down_163 ?_
                  refine lv_iconst (v := 1) hx hb dX5_down_166 (by decide) ?_
                  refine nv_iadd hx hb dX5_down_167 (fun v167 e167 => ?_)
                  refine mm_puti hx hb hts hown hK hW hS 62 rfl (by decide) rfl rfl rfl q1747 dX5_down_168 (fun S168 H locs f168 hW hS => ?_)
                  have n168 : S168 = dn_S S t w (dn_fr S t + h) := by rw [f168, e167, n160, n147, n137]; rfl
                  refine lv_iload hx hb dX5_down_171 (lv_at hl 0 rfl) ?_
                  refine lv_iload_n hx hb dX5_down_173 rfl (lv_at hl 5 rfl) ?_
                  refine nv_iadd hx hb dX5_down_174 (fun v174 e174 => ?_)
                  refine mm_iret hx hb hr hlocks hW hS ?_ dX5_down_175
                  have hres : ff_down S t w h = (v174, S168) := by rw [e174, ew126, n168]; simp only [ff_down, dn_go, if_neg (show ¬ ff_isBody S t = 0 from by rw [← e2]; exact c5), if_pos c15, if_neg (show ¬ ff_in h 1 9 = 0 from by rw [← e22]; exact c25), if_neg c82, if_neg c94]; first | rw [if_neg (by rw [← ew56]; exact c60)] | rw [if_pos (by rw [← ew56]; exact c60), if_neg (by rw [← e68]; exact c71)]
                  exact ⟨by rw [hres], by rw [hres], rfl⟩
                refine lv_aload_n hx hb dX5_down_100 rfl (lv_at hl 1 rfl) ?_
                refine mm_geta hx hb hts hown hK hW 65 rfl q1750 dX5_down_101 ?_
                refine lv_iload_n hx hb dX5_down_104 rfl (lv_at hl 2 rfl) ?_
                refine mm_iald hx hb hK hW 65 rfl (ww_in (by omega) (by omega)) dX5_down_105 ?_
                refine lv_aload_n hx hb dX5_down_106 rfl (lv_at hl 1 rfl) ?_
                refine mm_geti hx hb hts hown hK hW 1 rfl (by decide) q1686 dX5_down_107 ?_
                refine lv_icmp_le (tgt := 122) hx hb dX5_down_110 (by decide) (fun c110 => ?_) (fun c110 => ?_)
                · have t110 : ((rd_ S 65 t)).toInt ≤ ((fd_ S 1)).toInt := ww_le c110
                  refine lv_aload_n hx hb dX5_down_122 rfl (lv_at hl 1 rfl) ?_
                  refine mm_geti hx hb hts hown hK hW 1 rfl (by decide) q1686 dX5_down_123 ?_
                  exact J126 _ (by simp only [dn_fr, if_neg c5, if_pos c15, if_neg c25, if_neg c60, if_neg c82, if_neg c94, if_pos c110])
                · have t110 : ((fd_ S 1)).toInt < ((rd_ S 65 t)).toInt := ww_nle c110
                  refine lv_aload_n hx hb dX5_down_113 rfl (lv_at hl 1 rfl) ?_
                  refine mm_geta hx hb hts hown hK hW 65 rfl q1750 dX5_down_114 ?_
                  refine lv_iload_n hx hb dX5_down_117 rfl (lv_at hl 2 rfl) ?_
                  refine mm_iald hx hb hK hW 65 rfl (ww_in (by omega) (by omega)) dX5_down_118 ?_
                  refine lv_goto (tgt := 126) hx hb dX5_down_119 (by decide) ?_
                  exact J126 _ (by simp only [dn_fr, if_neg c5, if_pos c15, if_neg c25, if_neg c60, if_neg c82, if_neg c94, if_neg c110])
              · skip
                refine lv_bipush (v := (-3)) hx hb dX5_down_97 (by decide) ?_
                refine mm_iret hx hb hr hlocks hW hS ?_ dX5_down_99
                have hres : ff_down S t w h = ((-3), S) := by subst e2 e22 ew56; simp only [ff_down, dn_go, if_neg c5, if_pos c15, if_neg c25, if_neg c60, if_neg c82, if_pos c94]
                exact ⟨by rw [hres], by rw [hres], rfl⟩
            · skip
              refine lv_bipush (v := (-2)) hx hb dX5_down_85 (by decide) ?_
              refine mm_iret hx hb hr hlocks hW hS ?_ dX5_down_87
              have hres : ff_down S t w h = ((-2), S) := by subst e2 e22 ew56; simp only [ff_down, dn_go, if_neg c5, if_pos c15, if_neg c25, if_neg c60, if_pos c82]
              exact ⟨by rw [hres], by rw [hres], rfl⟩
          · skip
            refine lv_iload_n hx hb dX5_down_63 rfl (lv_at hl 3 rfl) ?_
            refine lv_bipush (v := 11) hx hb dX5_down_64 (by decide) ?_
            refine lv_bipush (v := 19) hx hb dX5_down_66 (by decide) ?_
            refine pp_calli (As := [.int w, .int 11, .int 19]) (rest := []) (n := 3) ⟨hx, hb, hml, hown, hts⟩ (mc_in lQ w 11 19) (lw_S q1979 q1980 q92 q1981) (by decide +kernel) rfl ⟨Nat.le_of_ble_eq_true rfl, Nat.le_of_ble_eq_true rfl⟩ hl.1 rfl (Nat.le_of_ble_eq_true rfl) dX5_down_68 ⟨Nat.le_of_ble_eq_true rfl, Nat.le_of_ble_eq_true rfl⟩ (fun v68 e68 => ?_)
            refine lv_if_ne (tgt := 76) hx hb dX5_down_71 (by decide) (fun c71 => ?_) (fun c71 => ?_)
            · skip
              refine lv_aload_n hx hb dX5_down_76 rfl (lv_at hl 1 rfl) ?_
              refine mm_geta hx hb hts hown hK hW 12 rfl q1697 dX5_down_77 ?_
              refine lv_iload_n hx hb dX5_down_80 rfl (lv_at hl 2 rfl) ?_
              refine mm_iald hx hb hK hW 12 rfl (ww_in (by omega) (by omega)) dX5_down_81 ?_
              refine lv_if_ne (tgt := 88) hx hb dX5_down_82 (by decide) (fun c82 => ?_) (fun c82 => ?_)
              · skip
                refine lv_aload_n hx hb dX5_down_88 rfl (lv_at hl 1 rfl) ?_
                refine mm_geti hx hb hts hown hK hW 62 rfl (by decide) q1747 dX5_down_89 ?_
                refine lv_bipush (v := 40) hx hb dX5_down_92 (by decide) ?_
                refine lv_icmp_ne (tgt := 100) hx hb dX5_down_94 (by decide) (fun c94 => ?_) (fun c94 => ?_)
                · skip
                  have hlt : (fd_ S 62).toInt < 40 := by
                    have q1 := ww_ne c94
                    have q2 := hw.2.1
                    have q3 : (40 : Int32).toInt = 40 := by decide
                    omega
                  have hge := hw.1
                  refine wm_join (P := fun w126 : Int32 => w126 = dn_fr S t) (j := 126) (rest := []) (ls := ls) (fun w126 ew126 => ?_) (fun J126 => ?_)
                  · skip
                    refine lv_istore (lv' := [(5, .int w126), (4, .int w56), (0, .ref o), (1, .int t), (2, .int w), (3, .int h)]) hx hb dX5_down_126 hl (by decide) rfl (fun ls hl => ?_)
                    refine lv_aload_n hx hb dX5_down_128 rfl (lv_at hl 2 rfl) ?_
                    refine mm_geta hx hb hts hown hK hW 65 rfl q1750 dX5_down_129 ?_
                    refine lv_iload_n hx hb dX5_down_132 rfl (lv_at hl 3 rfl) ?_
                    refine lv_iload hx hb dX5_down_133 (lv_at hl 0 rfl) ?_
                    refine lv_iload_n hx hb dX5_down_135 rfl (lv_at hl 5 rfl) ?_
                    refine nv_iadd hx hb dX5_down_136 (fun v136 e136 => ?_)
                    refine mm_iast hx hb hK hW hS 65 rfl (ww_in (by omega) (by omega)) dX5_down_137 (fun S137 H locs f137 hW hS => ?_)
                    refine lv_aload_n hx hb dX5_down_138 rfl (lv_at hl 2 rfl) ?_
                    refine mm_geta hx hb hts hown hK hW 63 rfl q1748 dX5_down_139 ?_
                    refine lv_aload_n hx hb dX5_down_142 rfl (lv_at hl 2 rfl) ?_
                    refine mm_geti hx hb hts hown hK hW 62 rfl (by decide) q1747 dX5_down_143 ?_
                    refine lv_iload_n hx hb dX5_down_146 rfl (lv_at hl 4 rfl) ?_
                    refine mm_iast hx hb hK hW hS 63 rfl (by rw [f137, fd_wn (by decide)]; exact ww_in hge hlt) dX5_down_147 (fun S147 H locs f147 hW hS => ?_)
                    refine lv_aload_n hx hb dX5_down_148 rfl (lv_at hl 2 rfl) ?_
                    refine mm_geta hx hb hts hown hK hW 64 rfl q1749 dX5_down_149 ?_
                    refine lv_aload_n hx hb dX5_down_152 rfl (lv_at hl 2 rfl) ?_
                    refine mm_geti hx hb hts hown hK hW 62 rfl (by decide) q1747 dX5_down_153 ?_
                    refine lv_iload hx hb dX5_down_156 (lv_at hl 0 rfl) ?_
                    refine lv_iload_n hx hb dX5_down_158 rfl (lv_at hl 5 rfl) ?_
                    refine nv_iadd hx hb dX5_down_159 (fun v159 e159 => ?_)
                    refine mm_iast hx hb hK hW hS 64 rfl (by rw [f147, fd_wn (by decide), f137, fd_wn (by decide)]; exact ww_in hge hlt) dX5_down_160 (fun S160 H locs f160 hW hS => ?_)
                    have n137 : S137 = dn_1 S t (dn_fr S t + h) := by rw [f137, e136, ew126]; rfl
                    have n147 : S147 = dn_2 S137 w := f147
                    have n160 : S160 = dn_3 S147 (dn_fr S t + h) := by rw [f160, e159, ew126]; rfl
                    refine lv_aload_n hx hb dX5_down_161 rfl (lv_at hl 2 rfl) ?_
                    refine lv_dup hx hb dX5_down_162 rfl ?_
                    refine mm_geti hx hb hts hown hK hW 62 rfl (by decide) q1747 dX5_down_163 ?_
                    refine lv_iconst (v := 1) hx hb dX5_down_166 (by decide) ?_
                    refine nv_iadd hx hb dX5_down_167 (fun v167 e167 => ?_)
                    refine mm_puti hx hb hts hown hK hW hS 62 rfl (by decide) rfl rfl rfl q1747 dX5_down_168 (fun S168 H locs f168 hW hS => ?_)
                    have n168 : S168 = dn_S S t w (dn_fr S t + h) := by rw [f168, e167, n160, n147, n137]; rfl
                    refine lv_iload hx hb dX5_down_171 (lv_at hl 0 rfl) ?_
                    refine lv_iload_n hx hb dX5_down_173 rfl (lv_at hl 5 rfl) ?_
                    refine nv_iadd hx hb dX5_down_174 (fun v174 e174 => ?_)
                    refine mm_iret hx hb hr hlocks hW hS ?_ dX5_down_175
                    have hres : ff_down S t w h = (v174, S168) := by rw [e174, ew126, n168]; simp only [ff_down, dn_go, if_neg (show ¬ ff_isBody S t = 0 from by rw [← e2]; exact c5), if_pos c15, if_neg (show ¬ ff_in h 1 9 = 0 from by rw [← e22]; exact c25), if_neg c82, if_neg c94]; first | rw [if_neg (by rw [← ew56]; exact c60)] | rw [if_pos (by rw [← ew56]; exact c60), if_neg (by rw [← e68]; exact c71)]
                    exact ⟨by rw [hres], by rw [hres], rfl⟩
                  refine lv_aload_n hx hb dX5_down_100 rfl (lv_at hl 1 rfl) ?_
                  refine mm_geta hx hb hts hown hK hW 65 rfl q1750 dX5_down_101 ?_
                  refine lv_iload_n hx hb dX5_down_104 rfl (lv_at hl 2 rfl) ?_
                  refine mm_iald hx hb hK hW 65 rfl (ww_in (by omega) (by omega)) dX5_down_105 ?_
                  refine lv_aload_n hx hb dX5_down_106 rfl (lv_at hl 1 rfl) ?_
                  refine mm_geti hx hb hts hown hK hW 1 rfl (by decide) q1686 dX5_down_107 ?_
                  refine lv_icmp_le (tgt := 122) hx hb dX5_down_110 (by decide) (fun c110 => ?_) (fun c110 => ?_)
                  · have t110 : ((rd_ S 65 t)).toInt ≤ ((fd_ S 1)).toInt := ww_le c110
                    refine lv_aload_n hx hb dX5_down_122 rfl (lv_at hl 1 rfl) ?_
                    refine mm_geti hx hb hts hown hK hW 1 rfl (by decide) q1686 dX5_down_123 ?_
                    exact J126 _ (by simp only [dn_fr, if_neg c5, if_pos c15, if_neg c25, if_pos c60, if_neg c71, if_neg c82, if_neg c94, if_pos c110])
                  · have t110 : ((fd_ S 1)).toInt < ((rd_ S 65 t)).toInt := ww_nle c110
                    refine lv_aload_n hx hb dX5_down_113 rfl (lv_at hl 1 rfl) ?_
                    refine mm_geta hx hb hts hown hK hW 65 rfl q1750 dX5_down_114 ?_
                    refine lv_iload_n hx hb dX5_down_117 rfl (lv_at hl 2 rfl) ?_
                    refine mm_iald hx hb hK hW 65 rfl (ww_in (by omega) (by omega)) dX5_down_118 ?_
                    refine lv_goto (tgt := 126) hx hb dX5_down_119 (by decide) ?_
                    exact J126 _ (by simp only [dn_fr, if_neg c5, if_pos c15, if_neg c25, if_pos c60, if_neg c71, if_neg c82, if_neg c94, if_neg c110])
                · skip
                  refine lv_bipush (v := (-3)) hx hb dX5_down_97 (by decide) ?_
                  refine mm_iret hx hb hr hlocks hW hS ?_ dX5_down_99
                  have hres : ff_down S t w h = ((-3), S) := by subst e2 e22 ew56 e68; simp only [ff_down, dn_go, if_neg c5, if_pos c15, if_neg c25, if_pos c60, if_neg c71, if_neg c82, if_pos c94]
                  exact ⟨by rw [hres], by rw [hres], rfl⟩
              · skip
                refine lv_bipush (v := (-2)) hx hb dX5_down_85 (by decide) ?_
                refine mm_iret hx hb hr hlocks hW hS ?_ dX5_down_87
                have hres : ff_down S t w h = ((-2), S) := by subst e2 e22 ew56 e68; simp only [ff_down, dn_go, if_neg c5, if_pos c15, if_neg c25, if_pos c60, if_neg c71, if_pos c82]
                exact ⟨by rw [hres], by rw [hres], rfl⟩
            · skip
              refine lv_iconst (v := (-1)) hx hb dX5_down_74 (by decide) ?_
              refine mm_iret hx hb hr hlocks hW hS ?_ dX5_down_75
              have hres : ff_down S t w h = ((-1), S) := by subst e2 e22 ew56 e68; simp only [ff_down, dn_go, if_neg c5, if_pos c15, if_neg c25, if_pos c60, if_pos c71]
              exact ⟨by rw [hres], by rw [hres], rfl⟩
        refine lv_iload_n hx hb dX5_down_30 rfl (lv_at hl 2 rfl) ?_
        refine lv_if_le (tgt := 55) hx hb dX5_down_31 (by decide) (fun c31 => ?_) (fun c31 => ?_)
        · have t31 : (w).toInt ≤ 0 := ww_le c31
          refine lv_iconst (v := 0) hx hb dX5_down_55 (by decide) ?_
          exact J56 _ (by subst e2 e22; simp only [dn_sp, if_neg c5, if_pos c15, if_neg c25, if_pos c31])
        · have t31 : 0 < (w).toInt := ww_nle c31
          refine lv_iload_n hx hb dX5_down_34 rfl (lv_at hl 2 rfl) ?_
          refine lv_bipush (v := 10) hx hb dX5_down_35 (by decide) ?_
          refine nv_irem hx hb dX5_down_37 (by decide) (fun v37 e37 => ?_)
          refine lv_if_ne (tgt := 55) hx hb dX5_down_38 (by decide) (fun c38 => ?_) (fun c38 => ?_)
          · skip
            refine lv_iconst (v := 0) hx hb dX5_down_55 (by decide) ?_
            exact J56 _ (by subst e2 e22 e37; simp only [dn_sp, if_neg c5, if_pos c15, if_neg c25, if_neg c31, if_neg c38])
          · skip
            refine lv_iload_n hx hb dX5_down_41 rfl (lv_at hl 2 rfl) ?_
            refine lv_bipush (v := 10) hx hb dX5_down_42 (by decide) ?_
            refine nv_idiv hx hb dX5_down_44 (by decide) (fun v44 e44 => ?_)
            refine lv_sipush (v := 999) hx hb dX5_down_45 (by decide) ?_
            refine lv_icmp_gt (tgt := 55) hx hb dX5_down_48 (by decide) (fun c48 => ?_) (fun c48 => ?_)
            · have t48 : 999 < (v44).toInt := ww_lt c48
              refine lv_iconst (v := 0) hx hb dX5_down_55 (by decide) ?_
              exact J56 _ (by subst e2 e22 e37 e44; simp only [dn_sp, if_neg c5, if_pos c15, if_neg c25, if_neg c31, if_pos c38, if_pos c48])
            · have t48 : (v44).toInt ≤ 999 := ww_nlt c48
              refine lv_iconst (v := 1) hx hb dX5_down_51 (by decide) ?_
              refine lv_goto (tgt := 56) hx hb dX5_down_52 (by decide) ?_
              exact J56 _ (by subst e2 e22 e37 e44; simp only [dn_sp, if_neg c5, if_pos c15, if_neg c25, if_neg c31, if_pos c38, if_neg c48])
      · skip
        refine lv_iconst (v := (-1)) hx hb dX5_down_28 (by decide) ?_
        refine mm_iret hx hb hr hlocks hW hS ?_ dX5_down_29
        have hres : ff_down S t w h = ((-1), S) := by subst e2 e22; simp only [ff_down, dn_go, if_neg c5, if_pos c15, if_pos c25]
        exact ⟨by rw [hres], by rw [hres], rfl⟩

set_option maxHeartbeats 4000000 in
theorem mc_below (lQ : Launch) (G : wm_G) (o : Nat) (S : mm_S) (E : mm_E) (s : Int32) : mm_Met lQ G o yX5_below (ws_ yX5_below cX5_below 2 (some .int)) 1 S E [.int s] (some (.int (ff_below S s))) S E := by
  refine mm_start (by decide +kernel) (Nat.le_of_ble_eq_true rfl) rfl (fun pQ eQ sQ mQ belowQ methQ cQ hx hb hml hr hlocks hts hown hK H hW hS ls hl => ?_)
  have hl : lv_has ls 2 [(0, .ref o), (1, .int s)] := hl
  generalize hlc : ([] : List Loc) = locs at hS ⊢
  refine lv_iload_n hx hb dX5_below_0 rfl (lv_at hl 1 rfl) ?_
  refine lv_iconst (v := 0) hx hb dX5_below_1 (by decide) ?_
  refine lv_bipush (v := 9) hx hb dX5_below_2 (by decide) ?_
  refine pp_calli (As := [.int s, .int 0, .int 9]) (rest := []) (n := 3) ⟨hx, hb, hml, hown, hts⟩ (mc_in lQ s 0 9) (lw_S q1979 q1980 q92 q1981) (by decide +kernel) rfl ⟨Nat.le_of_ble_eq_true rfl, Nat.le_of_ble_eq_true rfl⟩ hl.1 rfl (Nat.le_of_ble_eq_true rfl) dX5_below_4 ⟨Nat.le_of_ble_eq_true rfl, Nat.le_of_ble_eq_true rfl⟩ (fun v4 e4 => ?_)
  refine lv_if_ne (tgt := 14) hx hb dX5_below_7 (by decide) (fun c7 => ?_) (fun c7 => ?_)
  · skip
    obtain ⟨s0, s1⟩ := ff_in_t (v := s) (a := 0) (b := 9) (by rw [← e4]; exact c7)
    have s0 : 0 ≤ s.toInt := s0
    have s1 : s.toInt ≤ 9 := s1
    refine lv_iload_n hx hb dX5_below_14 rfl (lv_at hl 1 rfl) ?_
    refine lv_if_ne (tgt := 25) hx hb dX5_below_15 (by decide) (fun c15 => ?_) (fun c15 => ?_)
    · skip
      refine lv_aload_n hx hb dX5_below_25 rfl (lv_at hl 0 rfl) ?_
      refine mm_geta hx hb hts hown hK hW 66 rfl q1751 dX5_below_26 ?_
      refine lv_iload_n hx hb dX5_below_29 rfl (lv_at hl 1 rfl) ?_
      refine mm_iald hx hb hK hW 66 rfl (ww_in (by omega) (by omega)) dX5_below_30 ?_
      refine mm_iret hx hb hr hlocks hW hS ?_ dX5_below_31
      have hres : ff_below S s = (rd_ S 66 s) := by subst e4; simp only [ff_below, if_neg c7, if_neg c15]
      exact ⟨by rw [hres], rfl, rfl⟩
    · skip
      refine lv_aload_n hx hb dX5_below_18 rfl (lv_at hl 0 rfl) ?_
      refine mm_geti hx hb hts hown hK hW 54 rfl (by decide) q1739 dX5_below_19 ?_
      refine lv_goto (tgt := 31) hx hb dX5_below_22 (by decide) ?_
      refine mm_iret hx hb hr hlocks hW hS ?_ dX5_below_31
      have hres : ff_below S s = (fd_ S 54) := by subst e4; simp only [ff_below, if_neg c7, if_pos c15]
      exact ⟨by rw [hres], rfl, rfl⟩
  · skip
    refine lv_iconst (v := (-1)) hx hb dX5_below_10 (by decide) ?_
    refine lv_goto (tgt := 31) hx hb dX5_below_11 (by decide) ?_
    refine mm_iret hx hb hr hlocks hW hS ?_ dX5_below_31
    have hres : ff_below S s = (-1) := by subst e4; simp only [ff_below, if_pos c7]
    exact ⟨by rw [hres], rfl, rfl⟩

set_option maxHeartbeats 4000000 in
theorem mc_need (lQ : Launch) (G : wm_G) (o : Nat) (S : mm_S) (E : mm_E) (w : Int32) (b : Int32) (hN : iv_N S) : mm_Met lQ G o yX5_need (ws_ yX5_need cX5_need 3 (some .int)) 1 S E [.int w, .int b] (some (.int (ff_need S w b).1)) (ff_need S w b).2 E := by
  refine mm_start (by decide +kernel) (Nat.le_of_ble_eq_true rfl) rfl (fun pQ eQ sQ mQ belowQ methQ cQ hx hb hml hr hlocks hts hown hK H hW hS ls hl => ?_)
  have hl : lv_has ls 3 [(0, .ref o), (1, .int w), (2, .int b)] := hl
  generalize hlc : ([] : List Loc) = locs at hS ⊢
  refine lv_iload_n hx hb dX5_need_0 rfl (lv_at hl 1 rfl) ?_
  refine lv_if_lt (tgt := 34) hx hb dX5_need_1 (by decide) (fun c1 => ?_) (fun c1 => ?_)
  · have t1 : (w).toInt < 0 := ww_lt c1
    refine lv_iconst (v := (-1)) hx hb dX5_need_34 (by decide) ?_
    refine mm_iret hx hb hr hlocks hW hS ?_ dX5_need_35
    have hres : ff_need S w b = ((-1), S) := by simp only [ff_need, if_pos c1]
    exact ⟨by rw [hres], by rw [hres], rfl⟩
  · have t1 : 0 ≤ (w).toInt := ww_nlt c1
    refine lv_iload_n hx hb dX5_need_4 rfl (lv_at hl 1 rfl) ?_
    refine lv_bipush (v := 100) hx hb dX5_need_5 (by decide) ?_
    refine nv_idiv hx hb dX5_need_7 (by decide) (fun v7 e7 => ?_)
    refine lv_iconst (v := 1) hx hb dX5_need_8 (by decide) ?_
    refine lv_bipush (v := 9) hx hb dX5_need_9 (by decide) ?_
    refine pp_calli (As := [.int v7, .int 1, .int 9]) (rest := []) (n := 3) ⟨hx, hb, hml, hown, hts⟩ (mc_in lQ v7 1 9) (lw_S q1979 q1980 q92 q1981) (by decide +kernel) rfl ⟨Nat.le_of_ble_eq_true rfl, Nat.le_of_ble_eq_true rfl⟩ hl.1 rfl (Nat.le_of_ble_eq_true rfl) dX5_need_11 ⟨Nat.le_of_ble_eq_true rfl, Nat.le_of_ble_eq_true rfl⟩ (fun v11 e11 => ?_)
    refine lv_if_eq (tgt := 34) hx hb dX5_need_14 (by decide) (fun c14 => ?_) (fun c14 => ?_)
    · skip
      refine lv_iconst (v := (-1)) hx hb dX5_need_34 (by decide) ?_
      refine mm_iret hx hb hr hlocks hW hS ?_ dX5_need_35
      have hres : ff_need S w b = ((-1), S) := by subst e7 e11; simp only [ff_need, if_neg c1, if_pos c14]
      exact ⟨by rw [hres], by rw [hres], rfl⟩
    · skip
      refine lv_iload_n hx hb dX5_need_17 rfl (lv_at hl 1 rfl) ?_
      refine lv_bipush (v := 100) hx hb dX5_need_18 (by decide) ?_
      refine nv_irem hx hb dX5_need_20 (by decide) (fun v20 e20 => ?_)
      refine lv_if_eq (tgt := 34) hx hb dX5_need_21 (by decide) (fun c21 => ?_) (fun c21 => ?_)
      · skip
        refine lv_iconst (v := (-1)) hx hb dX5_need_34 (by decide) ?_
        refine mm_iret hx hb hr hlocks hW hS ?_ dX5_need_35
        have hres : ff_need S w b = ((-1), S) := by subst e7 e11 e20; simp only [ff_need, if_neg c1, if_neg c14, if_pos c21]
        exact ⟨by rw [hres], by rw [hres], rfl⟩
      · skip
        refine lv_iload_n hx hb dX5_need_24 rfl (lv_at hl 2 rfl) ?_
        refine lv_iconst (v := 0) hx hb dX5_need_25 (by decide) ?_
        refine lv_bipush (v := 99) hx hb dX5_need_26 (by decide) ?_
        refine pp_calli (As := [.int b, .int 0, .int 99]) (rest := []) (n := 3) ⟨hx, hb, hml, hown, hts⟩ (mc_in lQ b 0 99) (lw_S q1979 q1980 q92 q1981) (by decide +kernel) rfl ⟨Nat.le_of_ble_eq_true rfl, Nat.le_of_ble_eq_true rfl⟩ hl.1 rfl (Nat.le_of_ble_eq_true rfl) dX5_need_28 ⟨Nat.le_of_ble_eq_true rfl, Nat.le_of_ble_eq_true rfl⟩ (fun v28 e28 => ?_)
        refine lv_if_ne (tgt := 36) hx hb dX5_need_31 (by decide) (fun c31 => ?_) (fun c31 => ?_)
        · skip
          refine lv_aload_n hx hb dX5_need_36 rfl (lv_at hl 0 rfl) ?_
          refine mm_geti hx hb hts hown hK hW 67 rfl (by decide) q1752 dX5_need_37 ?_
          refine lv_bipush (v := 10) hx hb dX5_need_40 (by decide) ?_
          refine lv_icmp_ne (tgt := 48) hx hb dX5_need_42 (by decide) (fun c42 => ?_) (fun c42 => ?_)
          · skip
            have hlt : (fd_ S 67).toInt < 10 := by
              have q1 := ww_ne c42
              have q2 := hN.2.1
              have q3 : (10 : Int32).toInt = 10 := by decide
              omega
            have hge := hN.1
            refine lv_aload_n hx hb dX5_need_48 rfl (lv_at hl 0 rfl) ?_
            refine mm_geta hx hb hts hown hK hW 68 rfl q1753 dX5_need_49 ?_
            refine lv_aload_n hx hb dX5_need_52 rfl (lv_at hl 0 rfl) ?_
            refine mm_geti hx hb hts hown hK hW 67 rfl (by decide) q1752 dX5_need_53 ?_
            refine lv_iload_n hx hb dX5_need_56 rfl (lv_at hl 1 rfl) ?_
            refine lv_bipush (v := 100) hx hb dX5_need_57 (by decide) ?_
            refine nv_idiv hx hb dX5_need_59 (by decide) (fun v59 e59 => ?_)
            refine mm_iast hx hb hK hW hS 68 rfl (ww_in (by omega) (by omega)) dX5_need_60 (fun S60 H locs f60 hW hS => ?_)
            refine lv_aload_n hx hb dX5_need_61 rfl (lv_at hl 0 rfl) ?_
            refine mm_geta hx hb hts hown hK hW 69 rfl q1754 dX5_need_62 ?_
            refine lv_aload_n hx hb dX5_need_65 rfl (lv_at hl 0 rfl) ?_
            refine mm_geti hx hb hts hown hK hW 67 rfl (by decide) q1752 dX5_need_66 ?_
            refine lv_iload_n hx hb dX5_need_69 rfl (lv_at hl 1 rfl) ?_
            refine lv_bipush (v := 100) hx hb dX5_need_70 (by decide) ?_
            refine nv_irem hx hb dX5_need_72 (by decide) (fun v72 e72 => ?_)
            refine mm_iast hx hb hK hW hS 69 rfl (by rw [f60, fd_wn (by decide)]; exact ww_in hge hlt) dX5_need_73 (fun S73 H locs f73 hW hS => ?_)
            refine lv_aload_n hx hb dX5_need_74 rfl (lv_at hl 0 rfl) ?_
            refine mm_geta hx hb hts hown hK hW 70 rfl q1755 dX5_need_75 ?_
            refine lv_aload_n hx hb dX5_need_78 rfl (lv_at hl 0 rfl) ?_
            refine mm_geti hx hb hts hown hK hW 67 rfl (by decide) q1752 dX5_need_79 ?_
            refine lv_iload_n hx hb dX5_need_82 rfl (lv_at hl 2 rfl) ?_
            refine mm_iast hx hb hK hW hS 70 rfl (by rw [f73, fd_wn (by decide), f60, fd_wn (by decide)]; exact ww_in hge hlt) dX5_need_83 (fun S83 H locs f83 hW hS => ?_)
            refine lv_aload_n hx hb dX5_need_84 rfl (lv_at hl 0 rfl) ?_
            refine lv_dup hx hb dX5_need_85 rfl ?_
            refine mm_geti hx hb hts hown hK hW 67 rfl (by decide) q1752 dX5_need_86 ?_
            refine lv_iconst (v := 1) hx hb dX5_need_89 (by decide) ?_
            refine nv_iadd hx hb dX5_need_90 (fun v90 e90 => ?_)
            have n83 : S83 = nd_3 (nd_2 (nd_1 S w) w) b := by rw [f83, f73, f60, e59, e72]; rfl
            refine mm_puti hx hb hts hown hK hW hS 67 rfl (by decide) rfl rfl rfl q1752 dX5_need_91 (fun S91 H locs f91 hW hS => ?_)
            have n91 : S91 = nd_S S w b := by rw [f91, e90, n83]; rfl
            refine lv_aload_n hx hb dX5_need_94 rfl (lv_at hl 0 rfl) ?_
            refine mm_geti hx hb hts hown hK hW 67 rfl (by decide) q1752 dX5_need_95 ?_
            refine mm_iret hx hb hr hlocks hW hS ?_ dX5_need_98
            have hres : ff_need S w b = (fd_ S91 67, S91) := by rw [n91]; subst e7 e11 e20 e28; simp only [ff_need, if_neg c1, if_neg c14, if_neg c21, if_neg c31, if_neg c42]
            exact ⟨by rw [hres], by rw [hres], rfl⟩
          · skip
            refine lv_bipush (v := (-3)) hx hb dX5_need_45 (by decide) ?_
            refine mm_iret hx hb hr hlocks hW hS ?_ dX5_need_47
            have hres : ff_need S w b = ((-3), S) := by subst e7 e11 e20 e28; simp only [ff_need, if_neg c1, if_neg c14, if_neg c21, if_neg c31, if_pos c42]
            exact ⟨by rw [hres], by rw [hres], rfl⟩
        · skip
          refine lv_iconst (v := (-1)) hx hb dX5_need_34 (by decide) ?_
          refine mm_iret hx hb hr hlocks hW hS ?_ dX5_need_35
          have hres : ff_need S w b = ((-1), S) := by subst e7 e11 e20 e28; simp only [ff_need, if_neg c1, if_neg c14, if_neg c21, if_pos c31]
          exact ⟨by rw [hres], by rw [hres], rfl⟩

set_option maxHeartbeats 4000000 in
theorem mc_costNext (lQ : Launch) (G : wm_G) (o : Nat) (S : mm_S) (E : mm_E) (k : Int32) (s : Int32) (h0 : 0 ≤ (fd_ S 67).toInt) (h1 : (fd_ S 67).toInt ≤ 10) (k0 : 0 ≤ k.toInt) (k1 : k.toInt < 10) : mm_Met lQ G o yX5_costNext (ws_ yX5_costNext cX5_costNext 5 (some .int)) 0 S E [.int k, .int s] (some (.int (ff_costNext S k s))) S E := by
  refine mm_start (by decide +kernel) (Nat.le_of_ble_eq_true rfl) rfl (fun pQ eQ sQ mQ belowQ methQ cQ hx hb hml hr hlocks hts hown hK H hW hS ls hl => ?_)
  have hl : lv_has ls 5 [(0, .ref o), (1, .int k), (2, .int s)] := hl
  generalize hlc : ([] : List Loc) = locs at hS ⊢
  refine lv_iconst (v := 0) hx hb dX5_costNext_0 (by decide) ?_
  refine lv_istore_n (lv' := [(3, .int 0), (0, .ref o), (1, .int k), (2, .int s)]) hx hb dX5_costNext_1 rfl hl (by decide) rfl (fun ls hl => ?_)
  refine lv_iconst (v := 0) hx hb dX5_costNext_2 (by decide) ?_
  refine lv_istore (lv' := [(4, .int 0), (3, .int 0), (0, .ref o), (1, .int k), (2, .int s)]) hx hb dX5_costNext_3 hl (by decide) rfl (fun ls hl => ?_)
  have L5 : ∀ (fu5 : Nat) (b : Int32) (i : Int32), ((fd_ S 67).toInt - i.toInt < fu5) → (0 ≤ i.toInt) → (i.toInt ≤ (fd_ S 67).toInt) → (cn_go fu5 S s b i = cn_s S s) → ∀ ls : Array Slot, lv_has ls 5 [(4, .int i), (3, .int b), (0, .ref o), (1, .int k), (2, .int s)] → W pQ lQ eQ (wm_rm 0) sQ mQ (Value.ref o :: [.int k, .int s]).toArray belowQ methQ cQ H locs 0 0 (MQ belowQ (wm_Q (fun vQ HQ => vQ = some (.int (ff_costNext S k s)) ∧ mm_W G o S E HQ) (mm_F o)) (Value.ref o :: [.int k, .int s]).toArray sQ 0 0 (mm_F o)) (F0 mQ 5 ls []) := by
    intro fu5
    induction fu5 with
    | zero =>
      intro b i hm5 i05 i15 hgo5 ls hl
      exact absurd hm5 (by omega)
    | succ fu5 ih5 =>
      intro b i hm5 i05 i15 hgo5 ls hl
      refine lv_iload hx hb dX5_costNext_5 (lv_at hl 0 rfl) ?_
      refine lv_aload_n hx hb dX5_costNext_7 rfl (lv_at hl 2 rfl) ?_
      refine mm_geti hx hb hts hown hK hW 67 rfl (by decide) q1752 dX5_costNext_8 ?_
      refine lv_icmp_ge (tgt := 43) hx hb dX5_costNext_11 (by decide) (fun c11 => ?_) (fun c11 => ?_)
      · have t11 : ((fd_ S 67)).toInt ≤ (i).toInt := ww_le c11
        have hs : b = cn_s S s := by simp only [cn_go, if_pos c11] at hgo5; exact hgo5
        refine lv_iload_n hx hb dX5_costNext_43 rfl (lv_at hl 1 rfl) ?_
        refine lv_aload_n hx hb dX5_costNext_44 rfl (lv_at hl 2 rfl) ?_
        refine mm_geta hx hb hts hown hK hW 68 rfl q1753 dX5_costNext_45 ?_
        refine lv_iload_n hx hb dX5_costNext_48 rfl (lv_at hl 3 rfl) ?_
        refine mm_iald hx hb hK hW 68 rfl (ww_in (by omega) (by omega)) dX5_costNext_49 ?_
        refine nv_iadd hx hb dX5_costNext_50 (fun v50 e50 => ?_)
        refine lv_aload_n hx hb dX5_costNext_51 rfl (lv_at hl 2 rfl) ?_
        refine mm_geta hx hb hts hown hK hW 70 rfl q1755 dX5_costNext_52 ?_
        refine lv_iload_n hx hb dX5_costNext_55 rfl (lv_at hl 3 rfl) ?_
        refine mm_iald hx hb hK hW 70 rfl (ww_in (by omega) (by omega)) dX5_costNext_56 ?_
        refine nv_isub hx hb dX5_costNext_57 (fun v57 e57 => ?_)
        refine lv_istore (lv' := [(4, .int v57), (3, .int b), (0, .ref o), (1, .int k), (2, .int s)]) hx hb dX5_costNext_58 hl (by decide) rfl (fun ls hl => ?_)
        refine lv_iload hx hb dX5_costNext_60 (lv_at hl 0 rfl) ?_
        refine lv_if_le (tgt := 77) hx hb dX5_costNext_62 (by decide) (fun c62 => ?_) (fun c62 => ?_)
        · have t62 : (v57).toInt ≤ 0 := ww_le c62
          refine lv_iconst (v := 0) hx hb dX5_costNext_77 (by decide) ?_
          refine mm_iret hx hb hr hlocks hW hS ?_ dX5_costNext_78
          have hres : ff_costNext S k s = 0 := by subst hs e50 e57; simp only [ff_costNext, cn_late, if_pos c11, if_pos c62]
          exact ⟨by rw [hres], rfl, rfl⟩
        · have t62 : 0 < (v57).toInt := ww_nle c62
          refine lv_iload hx hb dX5_costNext_65 (lv_at hl 0 rfl) ?_
          refine lv_aload_n hx hb dX5_costNext_67 rfl (lv_at hl 2 rfl) ?_
          refine mm_geta hx hb hts hown hK hW 69 rfl q1754 dX5_costNext_68 ?_
          refine lv_iload_n hx hb dX5_costNext_71 rfl (lv_at hl 3 rfl) ?_
          refine mm_iald hx hb hK hW 69 rfl (ww_in (by omega) (by omega)) dX5_costNext_72 ?_
          refine nv_imul hx hb dX5_costNext_73 (fun v73 e73 => ?_)
          refine lv_goto (tgt := 78) hx hb dX5_costNext_74 (by decide) ?_
          refine mm_iret hx hb hr hlocks hW hS ?_ dX5_costNext_78
          have hres : ff_costNext S k s = v73 := by subst hs e50 e57 e73; simp only [ff_costNext, cn_late, if_pos c11, if_neg c62]
          exact ⟨by rw [hres], rfl, rfl⟩
      · have t11 : (i).toInt < ((fd_ S 67)).toInt := ww_nle c11
        refine lv_iload_n hx hb dX5_costNext_14 rfl (lv_at hl 1 rfl) ?_
        refine wm_join (P := fun w35 : Int32 => w35 = (if nb_ s i = 0 then rd_ S 68 i else 0)) (j := 35) (rest := [.int b]) (ls := ls) (fun w35 ew35 => ?_) (fun J35 => ?_)
        · skip
          refine nv_iadd hx hb dX5_costNext_35 (fun v35 e35 => ?_)
          refine lv_istore_n (lv' := [(3, .int v35), (4, .int i), (0, .ref o), (1, .int k), (2, .int s)]) hx hb dX5_costNext_36 rfl hl (by decide) rfl (fun ls hl => ?_)
          obtain ⟨v37, e37⟩ : ∃ yQ : Int32, yQ = i + 1 := ⟨_, rfl⟩
          refine lv_iinc (v := v37) (lv' := [(4, .int v37), (3, .int v35), (0, .ref o), (1, .int k), (2, .int s)]) hx hb dX5_costNext_37 hl (k := 1) rfl (by rw [e37]; rfl) (by decide) rfl (fun ls hl => ?_)
          refine lv_goto (tgt := 5) hx hb dX5_costNext_40 (by decide) ?_
          have tb : v37.toInt = i.toInt + 1 := by rw [e37]; exact ww_inc t11
          exact ih5 v35 v37 (by omega) (by omega) (by omega) (by subst ew35 e35 e37; simp only [cn_go, if_neg c11] at hgo5; exact hgo5) ls (lv_sub hl [0, 1, 2, 3, 4] rfl)
        refine lv_iload_n hx hb dX5_costNext_15 rfl (lv_at hl 4 rfl) ?_
        refine lv_iload hx hb dX5_costNext_16 (lv_at hl 0 rfl) ?_
        refine nv_ishr hx hb dX5_costNext_18 (fun v18 e18 => ?_)
        refine lv_iconst (v := 1) hx hb dX5_costNext_19 (by decide) ?_
        refine nv_iand hx hb dX5_costNext_20 (fun v20 e20 => ?_)
        refine lv_if_ne (tgt := 34) hx hb dX5_costNext_21 (by decide) (fun c21 => ?_) (fun c21 => ?_)
        · skip
          refine lv_iconst (v := 0) hx hb dX5_costNext_34 (by decide) ?_
          exact J35 _ (by subst e18 e20; simp only [nb_, if_neg c11, if_neg c21])
        · skip
          refine lv_aload_n hx hb dX5_costNext_24 rfl (lv_at hl 2 rfl) ?_
          refine mm_geta hx hb hts hown hK hW 68 rfl q1753 dX5_costNext_25 ?_
          refine lv_iload hx hb dX5_costNext_28 (lv_at hl 0 rfl) ?_
          refine mm_iald hx hb hK hW 68 rfl (ww_in (by omega) (by omega)) dX5_costNext_30 ?_
          refine lv_goto (tgt := 35) hx hb dX5_costNext_31 (by decide) ?_
          exact J35 _ (by subst e18 e20; simp only [nb_, if_neg c11, if_pos c21])
  exact L5 11 0 0 (by show _ - 0 < _; omega) (by decide) h0 (rfl) ls (lv_sub hl [0, 1, 2, 3, 4] rfl)
