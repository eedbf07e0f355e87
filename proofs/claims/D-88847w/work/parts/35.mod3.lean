set_option maxHeartbeats 4000000 in
theorem mc_isShelf (lQ : Launch) (s : Int32) : pp_Met lQ yX5_isShelf (ws_ yX5_isShelf cX5_isShelf 1 (some .boolean)) 1 [.int s] (some (.int (ff_isShelf s))) := by
  refine pp_start (own := RX5) (by decide +kernel) (Nat.le_of_ble_eq_true rfl) rfl (fun pQ eQ sQ mQ belowQ methQ cQ hx hb hml hr hlocks hts hown ls hl => ?_)
  have hl : lv_has ls 1 [(0, .int s)] := hl
  refine lv_iload_n hx hb dX5_isShelf_0 rfl (lv_at hl 0 rfl) ?_
  refine lv_iconst (v := 0) hx hb dX5_isShelf_1 (by decide) ?_
  refine lv_iconst (v := 5) hx hb dX5_isShelf_2 (by decide) ?_
  refine pp_calli (As := [.int s, .int 0, .int 5]) (rest := []) (n := 3) ⟨hx, hb, hml, hown, hts⟩ (mc_in lQ s 0 5) (lw_S q1979 q1980 q92 q1981) (by decide +kernel) rfl ⟨Nat.le_of_ble_eq_true rfl, Nat.le_of_ble_eq_true rfl⟩ hl.1 rfl (Nat.le_of_ble_eq_true rfl) dX5_isShelf_3 ⟨Nat.le_of_ble_eq_true rfl, Nat.le_of_ble_eq_true rfl⟩ (fun v3 e3 => ?_)
  refine pp_zret hx hb hr hlocks (by rw [e3]; exact nz_ (ff_in_b _ _ _)) ?_ dX5_isShelf_6
  have hres : ff_isShelf s = v3 := by subst e3; simp only [ff_isShelf]
  rw [hres]

set_option maxHeartbeats 4000000 in
theorem mc_isReals (lQ : Launch) (G : wm_G) (o : Nat) (S : mm_S) (E : mm_E) (s : Int32) (h0 : 0 ≤ s.toInt) (h1 : s.toInt < 6) : mm_Met lQ G o yX5_isReals (ws_ yX5_isReals cX5_isReals 2 (some .boolean)) 0 S E [.int s] (some (.int (ff_isReals S s))) S E := by
  refine mm_start (by decide +kernel) (Nat.le_of_ble_eq_true rfl) rfl (fun pQ eQ sQ mQ belowQ methQ cQ hx hb hml hr hlocks hts hown hK H hW hS ls hl => ?_)
  have hl : lv_has ls 2 [(0, .ref o), (1, .int s)] := hl
  generalize hlc : ([] : List Loc) = locs at hS ⊢
  refine lv_aload_n hx hb dX5_isReals_0 rfl (lv_at hl 0 rfl) ?_
  refine mm_geta hx hb hts hown hK hW 89 rfl q1774 dX5_isReals_1 ?_
  refine lv_iload_n hx hb dX5_isReals_4 rfl (lv_at hl 1 rfl) ?_
  refine mm_iald hx hb hK hW 89 rfl (ww_in h0 h1) dX5_isReals_5 ?_
  refine lv_bipush (v := (-5)) hx hb dX5_isReals_6 (by decide) ?_
  refine lv_icmp_eq (tgt := 22) hx hb dX5_isReals_8 (by decide) (fun c8 => ?_) (fun c8 => ?_)
  · skip
    refine lv_iconst (v := 1) hx hb dX5_isReals_22 (by decide) ?_
    refine lv_goto (tgt := 27) hx hb dX5_isReals_23 (by decide) ?_
    refine mm_zret hx hb hr hlocks hW hS rfl ?_ dX5_isReals_27
    have hres : ff_isReals S s = 1 := by simp only [ff_isReals, if_pos c8]
    exact ⟨by rw [hres], rfl, rfl⟩
  · skip
    refine lv_aload_n hx hb dX5_isReals_11 rfl (lv_at hl 0 rfl) ?_
    refine mm_geta hx hb hts hown hK hW 89 rfl q1774 dX5_isReals_12 ?_
    refine lv_iload_n hx hb dX5_isReals_15 rfl (lv_at hl 1 rfl) ?_
    refine mm_iald hx hb hK hW 89 rfl (ww_in h0 h1) dX5_isReals_16 ?_
    refine lv_bipush (v := (-6)) hx hb dX5_isReals_17 (by decide) ?_
    refine lv_icmp_ne (tgt := 26) hx hb dX5_isReals_19 (by decide) (fun c19 => ?_) (fun c19 => ?_)
    · skip
      refine lv_iconst (v := 0) hx hb dX5_isReals_26 (by decide) ?_
      refine mm_zret hx hb hr hlocks hW hS rfl ?_ dX5_isReals_27
      have hres : ff_isReals S s = 0 := by simp only [ff_isReals, if_neg c8, if_neg c19]
      exact ⟨by rw [hres], rfl, rfl⟩
    · skip
      refine lv_iconst (v := 1) hx hb dX5_isReals_22 (by decide) ?_
      refine lv_goto (tgt := 27) hx hb dX5_isReals_23 (by decide) ?_
      refine mm_zret hx hb hr hlocks hW hS rfl ?_ dX5_isReals_27
      have hres : ff_isReals S s = 1 := by simp only [ff_isReals, if_neg c8, if_pos c19]
      exact ⟨by rw [hres], rfl, rfl⟩

set_option maxHeartbeats 4000000 in
theorem mc_log (lQ : Launch) (G : wm_G) (o : Nat) (S : mm_S) (E : mm_E) (h : Int32) (s : Int32) (i : Int32) (y : Int32) (n : Int32) (hB : iv_B S) (hZ : iv_Z S) : mm_Met lQ G o yX5_log (ws_ yX5_log cX5_log 12 (some .int)) 3 S E [.int h, .int s, .int i, .int y, .int n] (some (.int (ff_log S E h s i y n).1)) (ff_log S E h s i y n).2 E := by
  refine mm_start (by decide +kernel) (Nat.le_of_ble_eq_true rfl) rfl (fun pQ eQ sQ mQ belowQ methQ cQ hx hb hml hr hlocks hts hown hK H hW hS ls hl => ?_)
  have hl : lv_has ls 12 [(0, .ref o), (1, .int h), (2, .int s), (3, .int i), (4, .int y), (5, .int n)] := hl
  generalize hlc : ([] : List Loc) = locs at hS ⊢
  refine lv_aload_n hx hb dX5_log_0 rfl (lv_at hl 0 rfl) ?_
  refine lv_iload_n hx hb dX5_log_1 rfl (lv_at hl 1 rfl) ?_
  refine mm_callp (As := [.int h]) (rest := []) (n := 1) ⟨hx, hb, hml, hown, hts⟩ hK (mc_isHole lQ G o S E h hB) (lw_V q2025 q2027 qs39 q92 q2028) (by decide +kernel) rfl ⟨Nat.le_of_ble_eq_true rfl, Nat.le_of_ble_eq_true rfl⟩ hW hS hl.1 rfl (Nat.le_of_ble_eq_true rfl) dX5_log_2 ⟨Nat.le_of_ble_eq_true rfl, Nat.le_of_ble_eq_true rfl⟩ (fun v2 H locs e2 hW hS => ?_)
  refine lv_if_eq (tgt := 37) hx hb dX5_log_5 (by decide) (fun c5 => ?_) (fun c5 => ?_)
  · skip
    refine lv_iconst (v := (-1)) hx hb dX5_log_37 (by decide) ?_
    refine mm_iret hx hb hr hlocks hW hS ?_ dX5_log_38
    have hres : ff_log S E h s i y n = ((-1), S) := by subst e2; simp only [ff_log, if_pos c5]
    exact ⟨by rw [hres], by rw [hres], rfl⟩
  · skip
    obtain ⟨h0, hb1, h1⟩ := ff_isHole_t hB (by rw [← e2]; exact c5)
    refine lv_iload_n hx hb dX5_log_8 rfl (lv_at hl 2 rfl) ?_
    refine pp_calli (As := [.int s]) (rest := []) (n := 1) ⟨hx, hb, hml, hown, hts⟩ (mc_isShelf lQ s) (lw_S q2071 q2072 q92 q2073) (by decide +kernel) rfl ⟨Nat.le_of_ble_eq_true rfl, Nat.le_of_ble_eq_true rfl⟩ hl.1 rfl (Nat.le_of_ble_eq_true rfl) dX5_log_9 ⟨Nat.le_of_ble_eq_true rfl, Nat.le_of_ble_eq_true rfl⟩ (fun v9 e9 => ?_)
    refine lv_if_eq (tgt := 37) hx hb dX5_log_12 (by decide) (fun c12 => ?_) (fun c12 => ?_)
    · skip
      refine lv_iconst (v := (-1)) hx hb dX5_log_37 (by decide) ?_
      refine mm_iret hx hb hr hlocks hW hS ?_ dX5_log_38
      have hres : ff_log S E h s i y n = ((-1), S) := by subst e2 e9; simp only [ff_log, if_neg c5, if_pos c12]
      exact ⟨by rw [hres], by rw [hres], rfl⟩
    · skip
      obtain ⟨s0, s1⟩ := ff_isShelf_t (s := s) (by rw [← e9]; exact c12)
      refine lv_iload hx hb dX5_log_15 (lv_at hl 4 rfl) ?_
      refine lv_iconst (v := 1) hx hb dX5_log_17 (by decide) ?_
      refine lv_bipush (v := 60) hx hb dX5_log_18 (by decide) ?_
      refine pp_calli (As := [.int y, .int 1, .int 60]) (rest := []) (n := 3) ⟨hx, hb, hml, hown, hts⟩ (mc_in lQ y 1 60) (lw_S q1979 q1980 q92 q1981) (by decide +kernel) rfl ⟨Nat.le_of_ble_eq_true rfl, Nat.le_of_ble_eq_true rfl⟩ hl.1 rfl (Nat.le_of_ble_eq_true rfl) dX5_log_20 ⟨Nat.le_of_ble_eq_true rfl, Nat.le_of_ble_eq_true rfl⟩ (fun v20 e20 => ?_)
      refine lv_if_eq (tgt := 37) hx hb dX5_log_23 (by decide) (fun c23 => ?_) (fun c23 => ?_)
      · skip
        refine lv_iconst (v := (-1)) hx hb dX5_log_37 (by decide) ?_
        refine mm_iret hx hb hr hlocks hW hS ?_ dX5_log_38
        have hres : ff_log S E h s i y n = ((-1), S) := by subst e2 e9 e20; simp only [ff_log, if_neg c5, if_neg c12, if_pos c23]
        exact ⟨by rw [hres], by rw [hres], rfl⟩
      · skip
        obtain ⟨y0, y1⟩ := ff_in_t (v := y) (a := 1) (b := 60) (by rw [← e20]; exact c23)
        have y0 : 1 ≤ y.toInt := y0
        have y1 : y.toInt ≤ 60 := y1
        refine lv_iload hx hb dX5_log_26 (lv_at hl 5 rfl) ?_
        refine lv_iconst (v := 1) hx hb dX5_log_28 (by decide) ?_
        refine lv_bipush (v := 60) hx hb dX5_log_29 (by decide) ?_
        refine pp_calli (As := [.int n, .int 1, .int 60]) (rest := []) (n := 3) ⟨hx, hb, hml, hown, hts⟩ (mc_in lQ n 1 60) (lw_S q1979 q1980 q92 q1981) (by decide +kernel) rfl ⟨Nat.le_of_ble_eq_true rfl, Nat.le_of_ble_eq_true rfl⟩ hl.1 rfl (Nat.le_of_ble_eq_true rfl) dX5_log_31 ⟨Nat.le_of_ble_eq_true rfl, Nat.le_of_ble_eq_true rfl⟩ (fun v31 e31 => ?_)
        refine lv_if_ne (tgt := 39) hx hb dX5_log_34 (by decide) (fun c34 => ?_) (fun c34 => ?_)
        · skip
          obtain ⟨n0, n1⟩ := ff_in_t (v := n) (a := 1) (b := 60) (by rw [← e31]; exact c34)
          have n0 : 1 ≤ n.toInt := n0
          have n1 : n.toInt ≤ 60 := n1
          refine lv_aload_n hx hb dX5_log_39 rfl (lv_at hl 0 rfl) ?_
          refine mm_geta hx hb hts hown hK hW 89 rfl q1774 dX5_log_40 ?_
          refine lv_iload_n hx hb dX5_log_43 rfl (lv_at hl 2 rfl) ?_
          refine mm_iald hx hb hK hW 89 rfl (ww_in (by omega) (by omega)) dX5_log_44 ?_
          refine lv_iconst (v := (-1)) hx hb dX5_log_45 (by decide) ?_
          refine lv_icmp_eq (tgt := 60) hx hb dX5_log_46 (by decide) (fun c46 => ?_) (fun c46 => ?_)
          · skip
            refine lv_iconst (v := 0) hx hb dX5_log_60 (by decide) ?_
            refine lv_istore (lv' := [(6, .int 0), (0, .ref o), (1, .int h), (2, .int s), (3, .int i), (4, .int y), (5, .int n)]) hx hb dX5_log_61 hl (by decide) rfl (fun ls hl => ?_)
            have L63 : ∀ (fu63 : Nat) (k : Int32) (S0 : mm_S) (H : Heap) (locs : List Loc), (n.toInt - k.toInt < fu63) → (0 ≤ k.toInt) → (k.toInt ≤ n.toInt) → (iv_Z S0) → (ff_log_go fu63 S0 E h s i y n k = ff_log S E h s i y n) → mm_W G o S0 E H → va_S (mm_F o) sQ.heap H locs → ∀ ls : Array Slot, lv_has ls 12 [(6, .int k), (0, .ref o), (1, .int h), (2, .int s), (3, .int i), (4, .int y), (5, .int n)] → W pQ lQ eQ (wm_rm 3) sQ mQ (Value.ref o :: [.int h, .int s, .int i, .int y, .int n]).toArray belowQ methQ cQ H locs 0 0 (MQ belowQ (wm_Q (fun vQ HQ => vQ = some (.int (ff_log S E h s i y n).1) ∧ mm_W G o (ff_log S E h s i y n).2 E HQ) (mm_F o)) (Value.ref o :: [.int h, .int s, .int i, .int y, .int n]).toArray sQ 0 0 (mm_F o)) (F0 mQ 63 ls []) := by
              intro fu63
              induction fu63 with
              | zero =>
                intro k S0 H locs hm63 i063 i163 iZ63 hgo63 hW hS ls hl
                exact absurd hm63 (by omega)
              | succ fu63 ih63 =>
                intro k S0 H locs hm63 i063 i163 iZ63 hgo63 hW hS ls hl
                refine lv_iload hx hb dX5_log_63 (lv_at hl 0 rfl) ?_
                refine lv_iload hx hb dX5_log_65 (lv_at hl 6 rfl) ?_
                refine lv_icmp_ge (tgt := 265) hx hb dX5_log_67 (by decide) (fun c67 => ?_) (fun c67 => ?_)
                · have t67 : (n).toInt ≤ (k).toInt := ww_le c67
                  refine lv_iload hx hb dX5_log_265 (lv_at hl 6 rfl) ?_
                  refine mm_iret hx hb hr hlocks hW hS ?_ dX5_log_267
                  have hres : ff_log S E h s i y n = (n, S0) := by rw [← hgo63]; simp only [ff_log_go, if_pos c67]
                  exact ⟨by rw [hres], by rw [hres], rfl⟩
                · have t67 : (k).toInt < (n).toInt := ww_nle c67
                  refine lv_iload hx hb dX5_log_70 (lv_at hl 5 rfl) ?_
                  refine lv_iload hx hb dX5_log_72 (lv_at hl 0 rfl) ?_
                  refine nv_iadd hx hb dX5_log_74 (fun v74 e74 => ?_)
                  refine lv_istore (lv' := [(7, .int v74), (6, .int k), (0, .ref o), (1, .int h), (2, .int s), (3, .int i), (4, .int y), (5, .int n)]) hx hb dX5_log_75 hl (by decide) rfl (fun ls hl => ?_)
                  have ty : v74.toInt = y.toInt + k.toInt := by rw [e74]; exact ww_add _ _ (by omega) (by omega)
                  refine lv_iload hx hb dX5_log_77 (lv_at hl 0 rfl) ?_
                  refine lv_bipush (v := 60) hx hb dX5_log_79 (by decide) ?_
                  refine lv_icmp_le (tgt := 87) hx hb dX5_log_81 (by decide) (fun c81 => ?_) (fun c81 => ?_)
                  · have t81 : (v74).toInt ≤ 60 := ww_le c81
                    refine lv_iload_n hx hb dX5_log_87 rfl (lv_at hl 5 rfl) ?_
                    refine nv_i2l hx hb dX5_log_88 (fun v88 e88 => ?_)
                    refine lv_iload hx hb dX5_log_89 (lv_at hl 1 rfl) ?_
                    refine nv_i2l hx hb dX5_log_91 (fun v91 e91 => ?_)
                    refine nv_ladd hx hb dX5_log_92 (fun v92 e92 => ?_)
                    refine lv_lstore (lv' := [(8, .long v92), (7, .int v74), (6, .int k), (0, .ref o), (1, .int h), (2, .int s), (3, .int i), (4, .int y), (5, .int n)]) hx hb dX5_log_93 hl (by decide) rfl (fun ls hl => ?_)
                    refine lv_aload_n hx hb dX5_log_95 rfl (lv_at hl 3 rfl) ?_
                    refine mm_geta hx hb hts hown hK hW 89 rfl q1774 dX5_log_96 ?_
                    refine lv_iload_n hx hb dX5_log_99 rfl (lv_at hl 5 rfl) ?_
                    refine mm_iald hx hb hK hW 89 rfl (ww_in (by omega) (by omega)) dX5_log_100 ?_
                    refine lv_iconst (v := (-1)) hx hb dX5_log_101 (by decide) ?_
                    refine lv_icmp_eq (tgt := 125) hx hb dX5_log_102 (by decide) (fun c102 => ?_) (fun c102 => ?_)
                    · skip
                      refine lv_iload hx hb dX5_log_125 (lv_at hl 1 rfl) ?_
                      refine lv_istore (lv' := [(10, .int v74), (8, .long v92), (7, .int v74), (6, .int k), (0, .ref o), (1, .int h), (2, .int s), (3, .int i), (4, .int y), (5, .int n)]) hx hb dX5_log_127 hl (by decide) rfl (fun ls hl => ?_)
                      have L129 : ∀ (fu129 : Nat) (z : Int32) (S1 : mm_S) (H : Heap) (locs : List Loc), (60 - z.toInt + 1 < fu129) → (1 ≤ z.toInt) → (z.toInt ≤ 61) → ((k, ff_clr fu129 S1 h z) = ff_log S E h s i y n) → mm_W G o S1 E H → va_S (mm_F o) sQ.heap H locs → ∀ ls : Array Slot, lv_has ls 12 [(10, .int z), (8, .long v92), (7, .int v74), (6, .int k), (0, .ref o), (1, .int h), (2, .int s), (3, .int i), (4, .int y), (5, .int n)] → W pQ lQ eQ (wm_rm 3) sQ mQ (Value.ref o :: [.int h, .int s, .int i, .int y, .int n]).toArray belowQ methQ cQ H locs 0 0 (MQ belowQ (wm_Q (fun vQ HQ => vQ = some (.int (ff_log S E h s i y n).1) ∧ mm_W G o (ff_log S E h s i y n).2 E HQ) (mm_F o)) (Value.ref o :: [.int h, .int s, .int i, .int y, .int n]).toArray sQ 0 0 (mm_F o)) (F0 mQ 129 ls []) := by
                        intro fu129
                        induction fu129 with
                        | zero =>
                          intro z S1 H locs hm129 z0129 z1129 hgo129 hW hS ls hl
                          exact absurd hm129 (by omega)
                        | succ fu129 ih129 =>
                          intro z S1 H locs hm129 z0129 z1129 hgo129 hW hS ls hl
                          refine lv_iload hx hb dX5_log_129 (lv_at hl 0 rfl) ?_
                          refine lv_bipush (v := 60) hx hb dX5_log_131 (by decide) ?_
                          refine lv_icmp_gt (tgt := 155) hx hb dX5_log_133 (by decide) (fun c133 => ?_) (fun c133 => ?_)
                          · have t133 : 60 < (z).toInt := ww_lt c133
                            refine lv_iload hx hb dX5_log_155 (lv_at hl 3 rfl) ?_
                            refine mm_iret hx hb hr hlocks hW hS ?_ dX5_log_157
                            have hres : ff_log S E h s i y n = (k, S1) := by rw [← hgo129]; simp only [ff_clr, if_pos c133]
                            exact ⟨by rw [hres], by rw [hres], rfl⟩
                          · have t133 : (z).toInt ≤ 60 := ww_nlt c133
                            refine lv_aload_n hx hb dX5_log_136 rfl (lv_at hl 4 rfl) ?_
                            refine mm_geta hx hb hts hown hK hW 15 rfl q1700 dX5_log_137 ?_
                            refine lv_bipush (v := 61) hx hb dX5_log_140 (by decide) ?_
                            refine lv_iload_n hx hb dX5_log_142 rfl (lv_at hl 5 rfl) ?_
                            refine nv_imul hx hb dX5_log_143 (fun v143 e143 => ?_)
                            refine lv_iload hx hb dX5_log_144 (lv_at hl 0 rfl) ?_
                            refine nv_iadd hx hb dX5_log_146 (fun v146 e146 => ?_)
                            refine lv_iconst (v := 0) hx hb dX5_log_147 (by decide) ?_
                            refine mm_zast hx hb hK hW hS 15 rfl rfl (by rw [e146, e143]; exact ix_61 h0 h1 (by omega) (by omega)) dX5_log_148 (fun S148 H locs f148 hW hS => ?_)
                            obtain ⟨v149, e149⟩ : ∃ yQ : Int32, yQ = z + 1 := ⟨_, rfl⟩
                            refine lv_iinc (v := v149) (lv' := [(10, .int v149), (8, .long v92), (7, .int v74), (6, .int k), (0, .ref o), (1, .int h), (2, .int s), (3, .int i), (4, .int y), (5, .int n)]) hx hb dX5_log_149 hl (k := 0) rfl (by rw [e149]; rfl) (by decide) rfl (fun ls hl => ?_)
                            refine lv_goto (tgt := 129) hx hb dX5_log_152 (by decide) ?_
                            have tb : v149.toInt = z.toInt + 1 := by rw [e149]; exact ww_inc' (by omega)
                            exact ih129 v149 S148 H locs (by omega) (by omega) (by omega) (by subst e143 e146 f148 e149; simp only [ff_clr, if_neg c133] at hgo129; exact hgo129) hW hS ls (lv_sub hl [0, 1, 2, 3, 4, 5, 6, 7, 8, 9] rfl)
                      exact L129 61 v74 S0 H locs (by show _ < (61 : Int); omega) (by omega) (by omega) (by rw [← hgo63]; subst e74 e88 e91 e92; simp only [ff_log_go, if_neg c67, if_pos c81, if_pos c102]) hW hS ls (lv_sub hl [0, 1, 2, 3, 4, 5, 6, 7, 8, 9] rfl)
                    · skip
                      refine lv_lload hx hb dX5_log_105 (lv_at hl 0 rfl) ?_
                      refine lv_lconst (v := 0) hx hb dX5_log_107 (by decide) ?_
                      refine W.lcmp hx hb dX5_log_108 ?_
                      refine lv_if_lt (tgt := 125) hx hb dX5_log_109 (by decide) (fun c109 => ?_) (fun c109 => ?_)
                      · have t109 : ((lg_cmp v92 0)).toInt < 0 := ww_lt c109
                        refine lv_iload hx hb dX5_log_125 (lv_at hl 1 rfl) ?_
                        refine lv_istore (lv' := [(10, .int v74), (8, .long v92), (7, .int v74), (6, .int k), (0, .ref o), (1, .int h), (2, .int s), (3, .int i), (4, .int y), (5, .int n)]) hx hb dX5_log_127 hl (by decide) rfl (fun ls hl => ?_)
                        have L129 : ∀ (fu129 : Nat) (z : Int32) (S1 : mm_S) (H : Heap) (locs : List Loc), (60 - z.toInt + 1 < fu129) → (1 ≤ z.toInt) → (z.toInt ≤ 61) → ((k, ff_clr fu129 S1 h z) = ff_log S E h s i y n) → mm_W G o S1 E H → va_S (mm_F o) sQ.heap H locs → ∀ ls : Array Slot, lv_has ls 12 [(10, .int z), (8, .long v92), (7, .int v74), (6, .int k), (0, .ref o), (1, .int h), (2, .int s), (3, .int i), (4, .int y), (5, .int n)] → W pQ lQ eQ (wm_rm 3) sQ mQ (Value.ref o :: [.int h, .int s, .int i, .int y, .int n]).toArray belowQ methQ cQ H locs 0 0 (MQ belowQ (wm_Q (fun vQ HQ => vQ = some (.int (ff_log S E h s i y n).1) ∧ mm_W G o (ff_log S E h s i y n).2 E HQ) (mm_F o)) (Value.ref o :: [.int h, .int s, .int i, .int y, .int n]).toArray sQ 0 0 (mm_F o)) (F0 mQ 129 ls []) := by
                          intro fu129
                          induction fu129 with
                          | zero =>
                            intro z S1 H locs hm129 z0129 z1129 hgo129 hW hS ls hl
                            exact absurd hm129 (by omega)
                          | succ fu129 ih129 =>
                            intro z S1 H locs hm129 z0129 z1129 hgo129 hW hS ls hl
                            refine lv_iload hx hb dX5_log_129 (lv_at hl 0 rfl) ?_
                            refine lv_bipush (v := 60) hx hb dX5_log_131 (by decide) ?_
                            refine lv_icmp_gt (tgt := 155) hx hb dX5_log_133 (by decide) (fun c133 => ?_) (fun c133 => ?_)
                            · have t133 : 60 < (z).toInt := ww_lt c133
                              refine lv_iload hx hb dX5_log_155 (lv_at hl 3 rfl) ?_
                              refine mm_iret hx hb hr hlocks hW hS ?_ dX5_log_157
                              have hres : ff_log S E h s i y n = (k, S1) := by rw [← hgo129]; simp only [ff_clr, if_pos c133]
                              exact ⟨by rw [hres], by rw [hres], rfl⟩
                            · have t133 : (z).toInt ≤ 60 := ww_nlt c133
                              refine lv_aload_n hx hb dX5_log_136 rfl (lv_at hl 4 rfl) ?_
                              refine mm_geta hx hb hts hown hK hW 15 rfl q1700 dX5_log_137 ?_
                              refine lv_bipush (v := 61) hx hb dX5_log_140 (by decide) ?_
                              refine lv_iload_n hx hb dX5_log_142 rfl (lv_at hl 5 rfl) ?_
                              refine nv_imul hx hb dX5_log_143 (fun v143 e143 => ?_)
                              refine lv_iload hx hb dX5_log_144 (lv_at hl 0 rfl) ?_
                              refine nv_iadd hx hb dX5_log_146 (fun v146 e146 => ?_)
                              refine lv_iconst (v := 0) hx hb dX5_log_147 (by decide) ?_
                              refine mm_zast hx hb hK hW hS 15 rfl rfl (by rw [e146, e143]; exact ix_61 h0 h1 (by omega) (by omega)) dX5_log_148 (fun S148 H locs f148 hW hS => ?_)
                              obtain ⟨v149, e149⟩ : ∃ yQ : Int32, yQ = z + 1 := ⟨_, rfl⟩
                              refine lv_iinc (v := v149) (lv' := [(10, .int v149), (8, .long v92), (7, .int v74), (6, .int k), (0, .ref o), (1, .int h), (2, .int s), (3, .int i), (4, .int y), (5, .int n)]) hx hb dX5_log_149 hl (k := 0) rfl (by rw [e149]; rfl) (by decide) rfl (fun ls hl => ?_)
                              refine lv_goto (tgt := 129) hx hb dX5_log_152 (by decide) ?_
                              have tb : v149.toInt = z.toInt + 1 := by rw [e149]; exact ww_inc' (by omega)
                              exact ih129 v149 S148 H locs (by omega) (by omega) (by omega) (by subst e143 e146 f148 e149; simp only [ff_clr, if_neg c133] at hgo129; exact hgo129) hW hS ls (lv_sub hl [0, 1, 2, 3, 4, 5, 6, 7, 8, 9] rfl)
                        exact L129 61 v74 S0 H locs (by show _ < (61 : Int); omega) (by omega) (by omega) (by rw [← hgo63]; subst e74 e88 e91 e92; simp only [ff_log_go, if_neg c67, if_pos c81, if_neg c102, if_pos c109]) hW hS ls (lv_sub hl [0, 1, 2, 3, 4, 5, 6, 7, 8, 9] rfl)
                      · have t109 : 0 ≤ ((lg_cmp v92 0)).toInt := ww_nlt c109
                        refine lv_lload hx hb dX5_log_112 (lv_at hl 0 rfl) ?_
                        refine lv_aload_n hx hb dX5_log_114 rfl (lv_at hl 3 rfl) ?_
                        refine mm_geta hx hb hts hown hK hW 90 rfl q1775 dX5_log_115 ?_
                        refine lv_iload_n hx hb dX5_log_118 rfl (lv_at hl 5 rfl) ?_
                        refine mm_iald hx hb hK hW 90 rfl (ww_in (by omega) (by omega)) dX5_log_119 ?_
                        refine nv_i2l hx hb dX5_log_120 (fun v120 e120 => ?_)
                        refine W.lcmp hx hb dX5_log_121 ?_
                        refine lv_if_lt (tgt := 158) hx hb dX5_log_122 (by decide) (fun c122 => ?_) (fun c122 => ?_)
                        · have t122 : ((lg_cmp v92 v120)).toInt < 0 := ww_lt c122
                          have tl0 : 0 ≤ v92.toInt := by
                            have q : ¬ v92.toInt < (0 : Int64).toInt := fun z => c109 (lc_lt.mpr z)
                            have e0 : (0 : Int64).toInt = 0 := by decide
                            omega
                          have tl1 : v92.toInt < (rd_ S0 90 s).toInt := by
                            have q := lc_lt.mp c122
                            rw [e120, ix_i2l] at q
                            exact q
                          have tz := iZ63 s s0 s1
                          have t164 : (v92.toInt32).toInt = v92.toInt := ix_l tl0 (by omega)
                          refine lv_bipush (v := 60) hx hb dX5_log_158 (by decide) ?_
                          refine lv_iload_n hx hb dX5_log_160 rfl (lv_at hl 5 rfl) ?_
                          refine nv_imul hx hb dX5_log_161 (fun v161 e161 => ?_)
                          refine lv_lload hx hb dX5_log_162 (lv_at hl 0 rfl) ?_
                          refine nv_l2i hx hb dX5_log_164 (fun v164 e164 => ?_)
                          refine nv_iadd hx hb dX5_log_165 (fun v165 e165 => ?_)
                          refine lv_istore (lv' := [(10, .int v165), (8, .long v92), (7, .int v74), (6, .int k), (0, .ref o), (1, .int h), (2, .int s), (3, .int i), (4, .int y), (5, .int n)]) hx hb dX5_log_166 hl (by decide) rfl (fun ls hl => ?_)
                          refine lv_iload hx hb dX5_log_168 (lv_at hl 2 rfl) ?_
                          refine lv_iconst (v := 1) hx hb dX5_log_170 (by decide) ?_
                          refine wm_join (P := fun w209 : Int32 => w209 = fl_ahead S0 h v74) (j := 209) (rest := []) (ls := ls) (fun w209 ew209 => ?_) (fun J209 => ?_)
                          · skip
                            refine lv_istore (lv' := [(11, .int w209), (10, .int v165), (8, .long v92), (7, .int v74), (6, .int k), (0, .ref o), (1, .int h), (2, .int s), (3, .int i), (4, .int y), (5, .int n)]) hx hb dX5_log_209 hl (by decide) rfl (fun ls hl => ?_)
                            refine lv_aload_n hx hb dX5_log_211 rfl (lv_at hl 5 rfl) ?_
                            refine mm_geta hx hb hts hown hK hW 16 rfl q1701 dX5_log_212 ?_
                            refine lv_bipush (v := 61) hx hb dX5_log_215 (by decide) ?_
                            refine lv_iload_n hx hb dX5_log_217 rfl (lv_at hl 6 rfl) ?_
                            refine nv_imul hx hb dX5_log_218 (fun v218 e218 => ?_)
                            refine lv_iload hx hb dX5_log_219 (lv_at hl 3 rfl) ?_
                            refine nv_iadd hx hb dX5_log_221 (fun v221 e221 => ?_)
                            refine lv_aload_n hx hb dX5_log_222 rfl (lv_at hl 5 rfl) ?_
                            refine mm_geta hx hb hts hown hK hW 92 rfl q1777 dX5_log_223 ?_
                            refine lv_iload hx hb dX5_log_226 (lv_at hl 1 rfl) ?_
                            refine mm_zald hx hb hK hW 92 rfl (by rw [e165, e161, e164]; exact ix_60 s0 s1 (by omega) (by omega)) dX5_log_228 ?_
                            refine wm_join (P := fun w245 : Int32 => w245 = (if rd_ S0 92 v165 = 0 then (re_ E 91 v165).toInt32 else w209)) (j := 245) (rest := [.int v221, .ref (o + 14)]) (ls := ls) (fun w245 ew245 => ?_) (fun J245 => ?_)
                            · skip
                              refine mm_iast hx hb hK hW hS 16 rfl (by rw [e221, e218]; exact ix_61 h0 h1 (by omega) (by omega)) dX5_log_245 (fun S245 H locs f245 hW hS => ?_)
                              refine lv_aload_n hx hb dX5_log_246 rfl (lv_at hl 5 rfl) ?_
                              refine mm_geta hx hb hts hown hK hW 15 rfl q1700 dX5_log_247 ?_
                              refine lv_bipush (v := 61) hx hb dX5_log_250 (by decide) ?_
                              refine lv_iload_n hx hb dX5_log_252 rfl (lv_at hl 6 rfl) ?_
                              refine nv_imul hx hb dX5_log_253 (fun v253 e253 => ?_)
                              refine lv_iload hx hb dX5_log_254 (lv_at hl 3 rfl) ?_
                              refine nv_iadd hx hb dX5_log_256 (fun v256 e256 => ?_)
                              refine lv_iconst (v := 1) hx hb dX5_log_257 (by decide) ?_
                              refine mm_zast hx hb hK hW hS 15 rfl rfl (by rw [e256, e253]; exact ix_61 h0 h1 (by omega) (by omega)) dX5_log_258 (fun S258 H locs f258 hW hS => ?_)
                              obtain ⟨v259, e259⟩ : ∃ yQ : Int32, yQ = k + 1 := ⟨_, rfl⟩
                              refine lv_iinc (v := v259) (lv' := [(6, .int v259), (11, .int w209), (10, .int v165), (8, .long v92), (7, .int v74), (0, .ref o), (1, .int h), (2, .int s), (3, .int i), (4, .int y), (5, .int n)]) hx hb dX5_log_259 hl (k := 4) rfl (by rw [e259]; rfl) (by decide) rfl (fun ls hl => ?_)
                              refine lv_goto (tgt := 63) hx hb dX5_log_262 (by decide) ?_
                              have tb : v259.toInt = k.toInt + 1 := by rw [e259]; exact ww_inc t67
                              have nV : w245 = fl_val S0 E h s i y k := by rw [ew245, ew209, e165, e164, e161, e92, e91, e88, e74]; rfl
                              have hs : S258 = fl_S S0 E h s i y k := by rw [f258, f245, e256, e253, e221, e218, nV, e74]; rfl
                              exact ih63 v259 S258 H locs (by omega) (by omega) (by omega) (by intro q q0 q1; rw [hs]; unfold fl_S; rw [rd_wn (by decide), rd_wn (by decide)]; exact iZ63 q q0 q1) (by rw [hs]; subst e259; simp only [ff_log_go, if_neg c67, if_pos (show y + k ≤ 60 from by rw [← e74]; exact c81), if_neg c102, if_neg (show ¬ lg_cmp (i.toInt64 + k.toInt64) 0 < 0 from by rw [← e88, ← e91, ← e92]; exact c109), if_pos (show lg_cmp (i.toInt64 + k.toInt64) (rd_ S0 90 s).toInt64 < 0 from by rw [← e88, ← e91, ← e92, ← e120]; exact c122)] at hgo63; exact hgo63) hW hS ls (lv_sub hl [0, 5, 6, 7, 8, 9, 10] rfl)
                            refine lv_if_eq (tgt := 237) hx hb dX5_log_229 (by decide) (fun c229 => ?_) (fun c229 => ?_)
                            · skip
                              refine lv_aload_n hx hb dX5_log_237 rfl (lv_at hl 5 rfl) ?_
                              refine mm_geta hx hb hts hown hK hW 91 rfl q1776 dX5_log_238 ?_
                              refine lv_iload hx hb dX5_log_241 (lv_at hl 1 rfl) ?_
                              refine mm_lald hx hb hK hW 91 rfl (by rw [e165, e161, e164]; exact ix_60 s0 s1 (by omega) (by omega)) dX5_log_243 ?_
                              refine nv_l2i hx hb dX5_log_244 (fun v244 e244 => ?_)
                              exact J245 _ (by subst e74 e88 e91 e92 e120 e161 e164 e165 ew209 e218 e221 e244; simp only [if_neg c67, if_pos c81, if_neg c102, if_neg c109, if_pos c122, if_pos c229])
                            · skip
                              refine lv_iload hx hb dX5_log_232 (lv_at hl 0 rfl) ?_
                              refine lv_goto (tgt := 245) hx hb dX5_log_234 (by decide) ?_
                              exact J245 _ (by subst e74 e88 e91 e92 e120 e161 e164 e165 ew209 e218 e221; simp only [if_neg c67, if_pos c81, if_neg c102, if_neg c109, if_pos c122, if_neg c229])
                          refine lv_icmp_le (tgt := 208) hx hb dX5_log_171 (by decide) (fun c171 => ?_) (fun c171 => ?_)
                          · have t171 : (v74).toInt ≤ 1 := ww_le c171
                            refine lv_iconst (v := 0) hx hb dX5_log_208 (by decide) ?_
                            exact J209 _ (by subst e74 e88 e91 e92 e120 e161 e164 e165; simp only [if_neg c67, if_pos c81, if_neg c102, if_neg c109, if_pos c122, if_pos c171, fl_ahead])
                          · have t171 : 1 < (v74).toInt := ww_nle c171
                            refine lv_aload_n hx hb dX5_log_174 rfl (lv_at hl 4 rfl) ?_
                            refine mm_geta hx hb hts hown hK hW 15 rfl q1700 dX5_log_175 ?_
                            refine lv_bipush (v := 61) hx hb dX5_log_178 (by decide) ?_
                            refine lv_iload_n hx hb dX5_log_180 rfl (lv_at hl 5 rfl) ?_
                            refine nv_imul hx hb dX5_log_181 (fun v181 e181 => ?_)
                            refine lv_iload hx hb dX5_log_182 (lv_at hl 2 rfl) ?_
                            refine nv_iadd hx hb dX5_log_184 (fun v184 e184 => ?_)
                            refine lv_iconst (v := 1) hx hb dX5_log_185 (by decide) ?_
                            refine nv_isub hx hb dX5_log_186 (fun v186 e186 => ?_)
                            refine mm_zald hx hb hK hW 15 rfl (by rw [e186, e184, e181]; exact ix_61p h0 h1 (by omega) (by omega)) dX5_log_187 ?_
                            refine lv_if_eq (tgt := 208) hx hb dX5_log_188 (by decide) (fun c188 => ?_) (fun c188 => ?_)
                            · skip
                              refine lv_iconst (v := 0) hx hb dX5_log_208 (by decide) ?_
                              exact J209 _ (by subst e74 e88 e91 e92 e120 e161 e164 e165 e181 e184 e186; simp only [if_neg c67, if_pos c81, if_neg c102, if_neg c109, if_pos c122, if_neg c171, if_pos c188, fl_ahead])
                            · skip
                              refine lv_aload_n hx hb dX5_log_191 rfl (lv_at hl 4 rfl) ?_
                              refine mm_geta hx hb hts hown hK hW 16 rfl q1701 dX5_log_192 ?_
                              refine lv_bipush (v := 61) hx hb dX5_log_195 (by decide) ?_
                              refine lv_iload_n hx hb dX5_log_197 rfl (lv_at hl 5 rfl) ?_
                              refine nv_imul hx hb dX5_log_198 (fun v198 e198 => ?_)
                              refine lv_iload hx hb dX5_log_199 (lv_at hl 2 rfl) ?_
                              refine nv_iadd hx hb dX5_log_201 (fun v201 e201 => ?_)
                              refine lv_iconst (v := 1) hx hb dX5_log_202 (by decide) ?_
                              refine nv_isub hx hb dX5_log_203 (fun v203 e203 => ?_)
                              refine mm_iald hx hb hK hW 16 rfl (by rw [e203, e201, e198]; exact ix_61p h0 h1 (by omega) (by omega)) dX5_log_204 ?_
                              refine lv_goto (tgt := 209) hx hb dX5_log_205 (by decide) ?_
                              exact J209 _ (by subst e74 e88 e91 e92 e120 e161 e164 e165 e181 e184 e186 e198 e201 e203; simp only [if_neg c67, if_pos c81, if_neg c102, if_neg c109, if_pos c122, if_neg c171, if_neg c188, fl_ahead])
                        · have t122 : 0 ≤ ((lg_cmp v92 v120)).toInt := ww_nlt c122
                          refine lv_iload hx hb dX5_log_125 (lv_at hl 1 rfl) ?_
                          refine lv_istore (lv' := [(10, .int v74), (8, .long v92), (7, .int v74), (6, .int k), (0, .ref o), (1, .int h), (2, .int s), (3, .int i), (4, .int y), (5, .int n)]) hx hb dX5_log_127 hl (by decide) rfl (fun ls hl => ?_)
                          have L129 : ∀ (fu129 : Nat) (z : Int32) (S1 : mm_S) (H : Heap) (locs : List Loc), (60 - z.toInt + 1 < fu129) → (1 ≤ z.toInt) → (z.toInt ≤ 61) → ((k, ff_clr fu129 S1 h z) = ff_log S E h s i y n) → mm_W G o S1 E H → va_S (mm_F o) sQ.heap H locs → ∀ ls : Array Slot, lv_has ls 12 [(10, .int z), (8, .long v92), (7, .int v74), (6, .int k), (0, .ref o), (1, .int h), (2, .int s), (3, .int i), (4, .int y), (5, .int n)] → W pQ lQ eQ (wm_rm 3) sQ mQ (Value.ref o :: [.int h, .int s, .int i, .int y, .int n]).toArray belowQ methQ cQ H locs 0 0 (MQ belowQ (wm_Q (fun vQ HQ => vQ = some (.int (ff_log S E h s i y n).1) ∧ mm_W G o (ff_log S E h s i y n).2 E HQ) (mm_F o)) (Value.ref o :: [.int h, .int s, .int i, .int y, .int n]).toArray sQ 0 0 (mm_F o)) (F0 mQ 129 ls []) := by
                            intro fu129
                            induction fu129 with
                            | zero =>
                              intro z S1 H locs hm129 z0129 z1129 hgo129 hW hS ls hl
                              exact absurd hm129 (by omega)
                            | succ fu129 ih129 =>
                              intro z S1 H locs hm129 z0129 z1129 hgo129 hW hS ls hl
                              refine lv_iload hx hb dX5_log_129 (lv_at hl 0 rfl) ?_
                              refine lv_bipush (v := 60) hx hb dX5_log_131 (by decide) ?_
                              refine lv_icmp_gt (tgt := 155) hx hb dX5_log_133 (by decide) (fun c133 => ?_) (fun c133 => ?_)
                              · have t133 : 60 < (z).toInt := ww_lt c133
                                refine lv_iload hx hb dX5_log_155 (lv_at hl 3 rfl) ?_
                                refine mm_iret hx hb hr hlocks hW hS ?_ dX5_log_157
                                have hres : ff_log S E h s i y n = (k, S1) := by rw [← hgo129]; simp only [ff_clr, if_pos c133]
                                exact ⟨by rw [hres], by rw [hres], rfl⟩
                              · have t133 : (z).toInt ≤ 60 := ww_nlt c133
                                refine lv_aload_n hx hb dX5_log_136 rfl (lv_at hl 4 rfl) ?_
                                refine mm_geta hx hb hts hown hK hW 15 rfl q1700 dX5_log_137 ?_
                                refine lv_bipush (v := 61) hx hb dX5_log_140 (by decide) ?_
                                refine lv_iload_n hx hb dX5_log_142 rfl (lv_at hl 5 rfl) ?_
                                refine nv_imul hx hb dX5_log_143 (fun v143 e143 => ?_)
                                refine lv_iload hx hb dX5_log_144 (lv_at hl 0 rfl) ?_
                                refine nv_iadd hx hb dX5_log_146 (fun v146 e146 => ?_)
                                refine lv_iconst (v := 0) hx hb dX5_log_147 (by decide) ?_
                                refine mm_zast hx hb hK hW hS 15 rfl rfl (by rw [e146, e143]; exact ix_61 h0 h1 (by omega) (by omega)) dX5_log_148 (fun S148 H locs f148 hW hS => ?_)
                                obtain ⟨v149, e149⟩ : ∃ yQ : Int32, yQ = z + 1 := ⟨_, rfl⟩
                                refine lv_iinc (v := v149) (lv' := [(10, .int v149), (8, .long v92), (7, .int v74), (6, .int k), (0, .ref o), (1, .int h), (2, .int s), (3, .int i), (4, .int y), (5, .int n)]) hx hb dX5_log_149 hl (k := 0) rfl (by rw [e149]; rfl) (by decide) rfl (fun ls hl => ?_)
                                refine lv_goto (tgt := 129) hx hb dX5_log_152 (by decide) ?_
                                have tb : v149.toInt = z.toInt + 1 := by rw [e149]; exact ww_inc' (by omega)
                                exact ih129 v149 S148 H locs (by omega) (by omega) (by omega) (by subst e143 e146 f148 e149; simp only [ff_clr, if_neg c133] at hgo129; exact hgo129) hW hS ls (lv_sub hl [0, 1, 2, 3, 4, 5, 6, 7, 8, 9] rfl)
                          exact L129 61 v74 S0 H locs (by show _ < (61 : Int); omega) (by omega) (by omega) (by rw [← hgo63]; subst e74 e88 e91 e92 e120; simp only [ff_log_go, if_neg c67, if_pos c81, if_neg c102, if_neg c109, if_neg c122]) hW hS ls (lv_sub hl [0, 1, 2, 3, 4, 5, 6, 7, 8, 9] rfl)
                  · have t81 : 60 < (v74).toInt := ww_nle c81
                    refine lv_iload hx hb dX5_log_84 (lv_at hl 1 rfl) ?_
                    refine mm_iret hx hb hr hlocks hW hS ?_ dX5_log_86
                    have hres : ff_log S E h s i y n = (k, S0) := by rw [← hgo63]; subst e74; simp only [ff_log_go, if_neg c67, if_neg c81]
                    exact ⟨by rw [hres], by rw [hres], rfl⟩
            exact L63 61 0 S H locs (by show _ - 0 < (61 : Int); omega) (by decide) (by show 0 ≤ _; omega) hZ (by subst e2 e9 e20 e31; simp only [ff_log, if_neg c5, if_neg c12, if_neg c23, if_neg c34, if_pos c46]) hW hS ls (lv_sub hl [0, 1, 2, 3, 4, 5, 6] rfl)
          · skip
            refine lv_aload_n hx hb dX5_log_49 rfl (lv_at hl 0 rfl) ?_
            refine lv_iload_n hx hb dX5_log_50 rfl (lv_at hl 2 rfl) ?_
            refine mm_callp (As := [.int s]) (rest := []) (n := 1) ⟨hx, hb, hml, hown, hts⟩ hK (mc_isReals lQ G o S E s s0 s1) (lw_V q2074 q2076 qs41 q92 q2077) (by decide +kernel) rfl ⟨Nat.le_of_ble_eq_true rfl, Nat.le_of_ble_eq_true rfl⟩ hW hS hl.1 rfl (Nat.le_of_ble_eq_true rfl) dX5_log_51 ⟨Nat.le_of_ble_eq_true rfl, Nat.le_of_ble_eq_true rfl⟩ (fun v51 H locs e51 hW hS => ?_)
            refine lv_if_ne (tgt := 60) hx hb dX5_log_54 (by decide) (fun c54 => ?_) (fun c54 => ?_)
            · skip
              refine lv_iconst (v := 0) hx hb dX5_log_60 (by decide) ?_
              refine lv_istore (lv' := [(6, .int 0), (0, .ref o), (1, .int h), (2, .int s), (3, .int i), (4, .int y), (5, .int n)]) hx hb dX5_log_61 hl (by decide) rfl (fun ls hl => ?_)
              have L63 : ∀ (fu63 : Nat) (k : Int32) (S0 : mm_S) (H : Heap) (locs : List Loc), (n.toInt - k.toInt < fu63) → (0 ≤ k.toInt) → (k.toInt ≤ n.toInt) → (iv_Z S0) → (ff_log_go fu63 S0 E h s i y n k = ff_log S E h s i y n) → mm_W G o S0 E H → va_S (mm_F o) sQ.heap H locs → ∀ ls : Array Slot, lv_has ls 12 [(6, .int k), (0, .ref o), (1, .int h), (2, .int s), (3, .int i), (4, .int y), (5, .int n)] → W pQ lQ eQ (wm_rm 3) sQ mQ (Value.ref o :: [.int h, .int s, .int i, .int y, .int n]).toArray belowQ methQ cQ H locs 0 0 (MQ belowQ (wm_Q (fun vQ HQ => vQ = some (.int (ff_log S E h s i y n).1) ∧ mm_W G o (ff_log S E h s i y n).2 E HQ) (mm_F o)) (Value.ref o :: [.int h, .int s, .int i, .int y, .int n]).toArray sQ 0 0 (mm_F o)) (F0 mQ 63 ls []) := by
                intro fu63
                induction fu63 with
                | zero =>
                  intro k S0 H locs hm63 i063 i163 iZ63 hgo63 hW hS ls hl
                  exact absurd hm63 (by omega)
                | succ fu63 ih63 =>
                  intro k S0 H locs hm63 i063 i163 iZ63 hgo63 hW hS ls hl
                  refine lv_iload hx hb dX5_log_63 (lv_at hl 0 rfl) ?_
                  refine lv_iload hx hb dX5_log_65 (lv_at hl 6 rfl) ?_
                  refine lv_icmp_ge (tgt := 265) hx hb dX5_log_67 (by decide) (fun c67 => ?_) (fun c67 => ?_)
                  · have t67 : (n).toInt ≤ (k).toInt := ww_le c67
                    refine lv_iload hx hb dX5_log_265 (lv_at hl 6 rfl) ?_
                    refine mm_iret hx hb hr hlocks hW hS ?_ dX5_log_267
                    have hres : ff_log S E h s i y n = (n, S0) := by rw [← hgo63]; simp only [ff_log_go, if_pos c67]
                    exact ⟨by rw [hres], by rw [hres], rfl⟩
                  · have t67 : (k).toInt < (n).toInt := ww_nle c67
                    refine lv_iload hx hb dX5_log_70 (lv_at hl 5 rfl) ?_
                    refine lv_iload hx hb dX5_log_72 (lv_at hl 0 rfl) ?_
                    refine nv_iadd hx hb dX5_log_74 (fun v74 e74 => ?_)
                    refine lv_istore (lv' := [(7, .int v74), (6, .int k), (0, .ref o), (1, .int h), (2, .int s), (3, .int i), (4, .int y), (5, .int n)]) hx hb dX5_log_75 hl (by decide) rfl (fun ls hl => ?_)
                    have ty : v74.toInt = y.toInt + k.toInt := by rw [e74]; exact ww_add _ _ (by omega) (by omega)
                    refine lv_iload hx hb dX5_log_77 (lv_at hl 0 rfl) ?_
                    refine lv_bipush (v := 60) hx hb dX5_log_79 (by decide) ?_
                    refine lv_icmp_le (tgt := 87) hx hb dX5_log_81 (by decide) (fun c81 => ?_) (fun c81 => ?_)
                    · have t81 : (v74).toInt ≤ 60 := ww_le c81
                      refine lv_iload_n hx hb dX5_log_87 rfl (lv_at hl 5 rfl) ?_
                      refine nv_i2l hx hb dX5_log_88 (fun v88 e88 => ?_)
                      refine lv_iload hx hb dX5_log_89 (lv_at hl 1 rfl) ?_
                      refine nv_i2l hx hb dX5_log_91 (fun v91 e91 => ?_)
                      refine nv_ladd hx hb dX5_log_92 (fun v92 e92 => ?_)
                      refine lv_lstore (lv' := [(8, .long v92), (7, .int v74), (6, .int k), (0, .ref o), (1, .int h), (2, .int s), (3, .int i), (4, .int y), (5, .int n)]) hx hb dX5_log_93 hl (by decide) rfl (fun ls hl => ?_)
                      refine lv_aload_n hx hb dX5_log_95 rfl (lv_at hl 3 rfl) ?_
                      refine mm_geta hx hb hts hown hK hW 89 rfl q1774 dX5_log_96 ?_
                      refine lv_iload_n hx hb dX5_log_99 rfl (lv_at hl 5 rfl) ?_
                      refine mm_iald hx hb hK hW 89 rfl (ww_in (by omega) (by omega)) dX5_log_100 ?_
                      refine lv_iconst (v := (-1)) hx hb dX5_log_101 (by decide) ?_
                      refine lv_icmp_eq (tgt := 125) hx hb dX5_log_102 (by decide) (fun c102 => ?_) (fun c102 => ?_)
                      · skip
                        refine lv_iload hx hb dX5_log_125 (lv_at hl 1 rfl) ?_
                        refine lv_istore (lv' := [(10, .int v74), (8, .long v92), (7, .int v74), (6, .int k), (0, .ref o), (1, .int h), (2, .int s), (3, .int i), (4, .int y), (5, .int n)]) hx hb dX5_log_127 hl (by decide) rfl (fun ls hl => ?_)
                        have L129 : ∀ (fu129 : Nat) (z : Int32) (S1 : mm_S) (H : Heap) (locs : List Loc), (60 - z.toInt + 1 < fu129) → (1 ≤ z.toInt) → (z.toInt ≤ 61) → ((k, ff_clr fu129 S1 h z) = ff_log S E h s i y n) → mm_W G o S1 E H → va_S (mm_F o) sQ.heap H locs → ∀ ls : Array Slot, lv_has ls 12 [(10, .int z), (8, .long v92), (7, .int v74), (6, .int k), (0, .ref o), (1, .int h), (2, .int s), (3, .int i), (4, .int y), (5, .int n)] → W pQ lQ eQ (wm_rm 3) sQ mQ (Value.ref o :: [.int h, .int s, .int i, .int y, .int n]).toArray belowQ methQ cQ H locs 0 0 (MQ belowQ (wm_Q (fun vQ HQ => vQ = some (.int (ff_log S E h s i y n).1) ∧ mm_W G o (ff_log S E h s i y n).2 E HQ) (mm_F o)) (Value.ref o :: [.int h, .int s, .int i, .int y, .int n]).toArray sQ 0 0 (mm_F o)) (F0 mQ 129 ls []) := by
                          intro fu129
                          induction fu129 with
                          | zero =>
                            intro z S1 H locs hm129 z0129 z1129 hgo129 hW hS ls hl
                            exact absurd hm129 (by omega)
                          | succ fu129 ih129 =>
                            intro z S1 H locs hm129 z0129 z1129 hgo129 hW hS ls hl
                            refine lv_iload hx hb dX5_log_129 (lv_at hl 0 rfl) ?_
                            refine lv_bipush (v := 60) hx hb dX5_log_131 (by decide) ?_
                            refine lv_icmp_gt (tgt := 155) hx hb dX5_log_133 (by decide) (fun c133 => ?_) (fun c133 => ?_)
                            · have t133 : 60 < (z).toInt := ww_lt c133
                              refine lv_iload hx hb dX5_log_155 (lv_at hl 3 rfl) ?_
                              refine mm_iret hx hb hr hlocks hW hS ?_ dX5_log_157
                              have hres : ff_log S E h s i y n = (k, S1) := by rw [← hgo129]; simp only [ff_clr, if_pos c133]
                              exact ⟨by rw [hres], by rw [hres], rfl⟩
                            · have t133 : (z).toInt ≤ 60 := ww_nlt c133
                              refine lv_aload_n hx hb dX5_log_136 rfl (lv_at hl 4 rfl) ?_
                              refine mm_geta hx hb hts hown hK hW 15 rfl q1700 dX5_log_137 ?_
                              refine lv_bipush (v := 61) hx hb dX5_log_140 (by decide) ?_
                              refine lv_iload_n hx hb dX5_log_142 rfl (lv_at hl 5 rfl) ?_
                              refine nv_imul hx hb dX5_log_143 (fun v143 e143 => ?_)
                              refine lv_iload hx hb dX5_log_144 (lv_at hl 0 rfl) ?_
                              refine nv_iadd hx hb dX5_log_146 (fun v146 e146 => ?_)
                              refine lv_iconst (v := 0) hx hb dX5_log_147 (by decide) ?_
                              refine mm_zast hx hb hK hW hS 15 rfl rfl (by rw [e146, e143]; exact ix_61 h0 h1 (by omega) (by omega)) dX5_log_148 (fun S148 H locs f148 hW hS => ?_)
                              obtain ⟨v149, e149⟩ : ∃ yQ : Int32, yQ = z + 1 := ⟨_, rfl⟩
                              refine lv_iinc (v := v149) (lv' := [(10, .int v149), (8, .long v92), (7, .int v74), (6, .int k), (0, .ref o), (1, .int h), (2, .int s), (3, .int i), (4, .int y), (5, .int n)]) hx hb dX5_log_149 hl (k := 0) rfl (by rw [e149]; rfl) (by decide) rfl (fun ls hl => ?_)
                              refine lv_goto (tgt := 129) hx hb dX5_log_152 (by decide) ?_
                              have tb : v149.toInt = z.toInt + 1 := by rw [e149]; exact ww_inc' (by omega)
                              exact ih129 v149 S148 H locs (by omega) (by omega) (by omega) (by subst e143 e146 f148 e149; simp only [ff_clr, if_neg c133] at hgo129; exact hgo129) hW hS ls (lv_sub hl [0, 1, 2, 3, 4, 5, 6, 7, 8, 9] rfl)
                        exact L129 61 v74 S0 H locs (by show _ < (61 : Int); omega) (by omega) (by omega) (by rw [← hgo63]; subst e74 e88 e91 e92; simp only [ff_log_go, if_neg c67, if_pos c81, if_pos c102]) hW hS ls (lv_sub hl [0, 1, 2, 3, 4, 5, 6, 7, 8, 9] rfl)
                      · skip
                        refine lv_lload hx hb dX5_log_105 (lv_at hl 0 rfl) ?_
                        refine lv_lconst (v := 0) hx hb dX5_log_107 (by decide) ?_
                        refine W.lcmp hx hb dX5_log_108 ?_
                        refine lv_if_lt (tgt := 125) hx hb dX5_log_109 (by decide) (fun c109 => ?_) (fun c109 => ?_)
                        · have t109 : ((lg_cmp v92 0)).toInt < 0 := ww_lt c109
                          refine lv_iload hx hb dX5_log_125 (lv_at hl 1 rfl) ?_
                          refine lv_istore (lv' := [(10, .int v74), (8, .long v92), (7, .int v74), (6, .int k), (0, .ref o), (1, .int h), (2, .int s), (3, .int i), (4, .int y), (5, .int n)]) hx hb dX5_log_127 hl (by decide) rfl (fun ls hl => ?_)
                          have L129 : ∀ (fu129 : Nat) (z : Int32) (S1 : mm_S) (H : Heap) (locs : List Loc), (60 - z.toInt + 1 < fu129) → (1 ≤ z.toInt) → (z.toInt ≤ 61) → ((k, ff_clr fu129 S1 h z) = ff_log S E h s i y n) → mm_W G o S1 E H → va_S (mm_F o) sQ.heap H locs → ∀ ls : Array Slot, lv_has ls 12 [(10, .int z), (8, .long v92), (7, .int v74), (6, .int k), (0, .ref o), (1, .int h), (2, .int s), (3, .int i), (4, .int y), (5, .int n)] → W pQ lQ eQ (wm_rm 3) sQ mQ (Value.ref o :: [.int h, .int s, .int i, .int y, .int n]).toArray belowQ methQ cQ H locs 0 0 (MQ belowQ (wm_Q (fun vQ HQ => vQ = some (.int (ff_log S E h s i y n).1) ∧ mm_W G o (ff_log S E h s i y n).2 E HQ) (mm_F o)) (Value.ref o :: [.int h, .int s, .int i, .int y, .int n]).toArray sQ 0 0 (mm_F o)) (F0 mQ 129 ls []) := by
                            intro fu129
                            induction fu129 with
                            | zero =>
                              intro z S1 H locs hm129 z0129 z1129 hgo129 hW hS ls hl
                              exact absurd hm129 (by omega)
                            | succ fu129 ih129 =>
                              intro z S1 H locs hm129 z0129 z1129 hgo129 hW hS ls hl
                              refine lv_iload hx hb dX5_log_129 (lv_at hl 0 rfl) ?_
                              refine lv_bipush (v := 60) hx hb dX5_log_131 (by decide) ?_
                              refine lv_icmp_gt (tgt := 155) hx hb dX5_log_133 (by decide) (fun c133 => ?_) (fun c133 => ?_)
                              · have t133 : 60 < (z).toInt := ww_lt c133
                                refine lv_iload hx hb dX5_log_155 (lv_at hl 3 rfl) ?_
                                refine mm_iret hx hb hr hlocks hW hS ?_ dX5_log_157
                                have hres : ff_log S E h s i y n = (k, S1) := by rw [← hgo129]; simp only [ff_clr, if_pos c133]
                                exact ⟨by rw [hres], by rw [hres], rfl⟩
                              · have t133 : (z).toInt ≤ 60 := ww_nlt c133
                                refine lv_aload_n hx hb dX5_log_136 rfl (lv_at hl 4 rfl) ?_
                                refine mm_geta hx hb hts hown hK hW 15 rfl q1700 dX5_log_137 ?_
                                refine lv_bipush (v := 61) hx hb dX5_log_140 (by decide) ?_
                                refine lv_iload_n hx hb dX5_log_142 rfl (lv_at hl 5 rfl) ?_
                                refine nv_imul hx hb dX5_log_143 (fun v143 e143 => ?_)
                                refine lv_iload hx hb dX5_log_144 (lv_at hl 0 rfl) ?_
                                refine nv_iadd hx hb dX5_log_146 (fun v146 e146 => ?_)
                                refine lv_iconst (v := 0) hx hb dX5_log_147 (by decide) ?_
                                refine mm_zast hx hb hK hW hS 15 rfl rfl (by rw [e146, e143]; exact ix_61 h0 h1 (by omega) (by omega)) dX5_log_148 (fun S148 H locs f148 hW hS => ?_)
                                obtain ⟨v149, e149⟩ : ∃ yQ : Int32, yQ = z + 1 := ⟨_, rfl⟩
                                refine lv_iinc (v := v149) (lv' := [(10, .int v149), (8, .long v92), (7, .int v74), (6, .int k), (0, .ref o), (1, .int h), (2, .int s), (3, .int i), (4, .int y), (5, .int n)]) hx hb dX5_log_149 hl (k := 0) rfl (by rw [e149]; rfl) (by decide) rfl (fun ls hl => ?_)
                                refine lv_goto (tgt := 129) hx hb dX5_log_152 (by decide) ?_
                                have tb : v149.toInt = z.toInt + 1 := by rw [e149]; exact ww_inc' (by omega)
                                exact ih129 v149 S148 H locs (by omega) (by omega) (by omega) (by subst e143 e146 f148 e149; simp only [ff_clr, if_neg c133] at hgo129; exact hgo129) hW hS ls (lv_sub hl [0, 1, 2, 3, 4, 5, 6, 7, 8, 9] rfl)
                          exact L129 61 v74 S0 H locs (by show _ < (61 : Int); omega) (by omega) (by omega) (by rw [← hgo63]; subst e74 e88 e91 e92; simp only [ff_log_go, if_neg c67, if_pos c81, if_neg c102, if_pos c109]) hW hS ls (lv_sub hl [0, 1, 2, 3, 4, 5, 6, 7, 8, 9] rfl)
                        · have t109 : 0 ≤ ((lg_cmp v92 0)).toInt := ww_nlt c109
                          refine lv_lload hx hb dX5_log_112 (lv_at hl 0 rfl) ?_
                          refine lv_aload_n hx hb dX5_log_114 rfl (lv_at hl 3 rfl) ?_
                          refine mm_geta hx hb hts hown hK hW 90 rfl q1775 dX5_log_115 ?_
                          refine lv_iload_n hx hb dX5_log_118 rfl (lv_at hl 5 rfl) ?_
                          refine mm_iald hx hb hK hW 90 rfl (ww_in (by omega) (by omega)) dX5_log_119 ?_
                          refine nv_i2l hx hb dX5_log_120 (fun v120 e120 => ?_)
                          refine W.lcmp hx hb dX5_log_121 ?_
                          refine lv_if_lt (tgt := 158) hx hb dX5_log_122 (by decide) (fun c122 => ?_) (fun c122 => ?_)
                          · have t122 : ((lg_cmp v92 v120)).toInt < 0 := ww_lt c122
                            have tl0 : 0 ≤ v92.toInt := by
                              have q : ¬ v92.toInt < (0 : Int64).toInt := fun z => c109 (lc_lt.mpr z)
                              have e0 : (0 : Int64).toInt = 0 := by decide
                              omega
                            have tl1 : v92.toInt < (rd_ S0 90 s).toInt := by
                              have q := lc_lt.mp c122
                              rw [e120, ix_i2l] at q
                              exact q
                            have tz := iZ63 s s0 s1
                            have t164 : (v92.toInt32).toInt = v92.toInt := ix_l tl0 (by omega)
                            refine lv_bipush (v := 60) hx hb dX5_log_158 (by decide) ?_
                            refine lv_iload_n hx hb dX5_log_160 rfl (lv_at hl 5 rfl) ?_
                            refine nv_imul hx hb dX5_log_161 (fun v161 e161 => ?_)
                            refine lv_lload hx hb dX5_log_162 (lv_at hl 0 rfl) ?_
                            refine nv_l2i hx hb dX5_log_164 (fun v164 e164 => ?_)
                            refine nv_iadd hx hb dX5_log_165 (fun v165 e165 => ?_)
                            refine lv_istore (lv' := [(10, .int v165), (8, .long v92), (7, .int v74), (6, .int k), (0, .ref o), (1, .int h), (2, .int s), (3, .int i), (4, .int y), (5, .int n)]) hx hb dX5_log_166 hl (by decide) rfl (fun ls hl => ?_)
                            refine lv_iload hx hb dX5_log_168 (lv_at hl 2 rfl) ?_
                            refine lv_iconst (v := 1) hx hb dX5_log_170 (by decide) ?_
                            refine wm_join (P := fun w209 : Int32 => w209 = fl_ahead S0 h v74) (j := 209) (rest := []) (ls := ls) (fun w209 ew209 => ?_) (fun J209 => ?_)
                            · skip
                              refine lv_istore (lv' := [(11, .int w209), (10, .int v165), (8, .long v92), (7, .int v74), (6, .int k), (0, .ref o), (1, .int h), (2, .int s), (3, .int i), (4, .int y), (5, .int n)]) hx hb dX5_log_209 hl (by decide) rfl (fun ls hl => ?_)
                              refine lv_aload_n hx hb dX5_log_211 rfl (lv_at hl 5 rfl) ?_
                              refine mm_geta hx hb hts hown hK hW 16 rfl q1701 dX5_log_212 ?_
                              refine lv_bipush (v := 61) hx hb dX5_log_215 (by decide) ?_
                              refine lv_iload_n hx hb dX5_log_217 rfl (lv_at hl 6 rfl) ?_
                              refine nv_imul hx hb dX5_log_218 (fun v218 e218 => ?_)
                              refine lv_iload hx hb dX5_log_219 (lv_at hl 3 rfl) ?_
                              refine nv_iadd hx hb dX5_log_221 (fun v221 e221 => ?_)
                              refine lv_aload_n hx hb dX5_log_222 rfl (lv_at hl 5 rfl) ?_
                              refine mm_geta hx hb hts hown hK hW 92 rfl q1777 dX5_log_223 ?_
                              refine lv_iload hx hb dX5_log_226 (lv_at hl 1 rfl) ?_
                              refine mm_zald hx hb hK hW 92 rfl (by rw [e165, e161, e164]; exact ix_60 s0 s1 (by omega) (by omega)) dX5_log_228 ?_
                              refine wm_join (P := fun w245 : Int32 => w245 = (if rd_ S0 92 v165 = 0 then (re_ E 91 v165).toInt32 else w209)) (j := 245) (rest := [.int v221, .ref (o + 14)]) (ls := ls) (fun w245 ew245 => ?_) (fun J245 => ?_)
                              · skip
                                refine mm_iast hx hb hK hW hS 16 rfl (by rw [e221, e218]; exact ix_61 h0 h1 (by omega) (by omega)) dX5_log_245 (fun S245 H locs f245 hW hS => ?_)
                                refine lv_aload_n hx hb dX5_log_246 rfl (lv_at hl 5 rfl) ?_
                                refine mm_geta hx hb hts hown hK hW 15 rfl q1700 dX5_log_247 ?_
                                refine lv_bipush (v := 61) hx hb dX5_log_250 (by decide) ?_
                                refine lv_iload_n hx hb dX5_log_252 rfl (lv_at hl 6 rfl) ?_
                                refine nv_imul hx hb dX5_log_253 (fun v253 e253 => ?_)
                                refine lv_iload hx hb dX5_log_254 (lv_at hl 3 rfl) ?_
                                refine nv_iadd hx hb dX5_log_256 (fun v256 e256 => ?_)
                                refine lv_iconst (v := 1) hx hb dX5_log_257 (by decide) ?_
                                refine mm_zast hx hb hK hW hS 15 rfl rfl (by rw [e256, e253]; exact ix_61 h0 h1 (by omega) (by omega)) dX5_log_258 (fun S258 H locs f258 hW hS => ?_)
                                obtain ⟨v259, e259⟩ : ∃ yQ : Int32, yQ = k + 1 := ⟨_, rfl⟩
                                refine lv_iinc (v := v259) (lv' := [(6, .int v259), (11, .int w209), (10, .int v165), (8, .long v92), (7, .int v74), (0, .ref o), (1, .int h), (2, .int s), (3, .int i), (4, .int y), (5, .int n)]) hx hb dX5_log_259 hl (k := 4) rfl (by rw [e259]; rfl) (by decide) rfl (fun ls hl => ?_)
                                refine lv_goto (tgt := 63) hx hb dX5_log_262 (by decide) ?_
                                have tb : v259.toInt = k.toInt + 1 := by rw [e259]; exact ww_inc t67
                                have nV : w245 = fl_val S0 E h s i y k := by rw [ew245, ew209, e165, e164, e161, e92, e91, e88, e74]; rfl
                                have hs : S258 = fl_S S0 E h s i y k := by rw [f258, f245, e256, e253, e221, e218, nV, e74]; rfl
                                exact ih63 v259 S258 H locs (by omega) (by omega) (by omega) (by intro q q0 q1; rw [hs]; unfold fl_S; rw [rd_wn (by decide), rd_wn (by decide)]; exact iZ63 q q0 q1) (by rw [hs]; subst e259; simp only [ff_log_go, if_neg c67, if_pos (show y + k ≤ 60 from by rw [← e74]; exact c81), if_neg c102, if_neg (show ¬ lg_cmp (i.toInt64 + k.toInt64) 0 < 0 from by rw [← e88, ← e91, ← e92]; exact c109), if_pos (show lg_cmp (i.toInt64 + k.toInt64) (rd_ S0 90 s).toInt64 < 0 from by rw [← e88, ← e91, ← e92, ← e120]; exact c122)] at hgo63; exact hgo63) hW hS ls (lv_sub hl [0, 5, 6, 7, 8, 9, 10] rfl)
                              refine lv_if_eq (tgt := 237) hx hb dX5_log_229 (by decide) (fun c229 => ?_) (fun c229 => ?_)
                              · skip
                                refine lv_aload_n hx hb dX5_log_237 rfl (lv_at hl 5 rfl) ?_
                                refine mm_geta hx hb hts hown hK hW 91 rfl q1776 dX5_log_238 ?_
                                refine lv_iload hx hb dX5_log_241 (lv_at hl 1 rfl) ?_
                                refine mm_lald hx hb hK hW 91 rfl (by rw [e165, e161, e164]; exact ix_60 s0 s1 (by omega) (by omega)) dX5_log_243 ?_
                                refine nv_l2i hx hb dX5_log_244 (fun v244 e244 => ?_)
                                exact J245 _ (by subst e74 e88 e91 e92 e120 e161 e164 e165 ew209 e218 e221 e244; simp only [if_neg c67, if_pos c81, if_neg c102, if_neg c109, if_pos c122, if_pos c229])
                              · skip
                                refine lv_iload hx hb dX5_log_232 (lv_at hl 0 rfl) ?_
                                refine lv_goto (tgt := 245) hx hb dX5_log_234 (by decide) ?_
                                exact J245 _ (by subst e74 e88 e91 e92 e120 e161 e164 e165 ew209 e218 e221; simp only [if_neg c67, if_pos c81, if_neg c102, if_neg c109, if_pos c122, if_neg c229])
                            refine lv_icmp_le (tgt := 208) hx hb dX5_log_171 (by decide) (fun c171 => ?_) (fun c171 => ?_)
                            · have t171 : (v74).toInt ≤ 1 := ww_le c171
                              refine lv_iconst (v := 0) hx hb dX5_log_208 (by decide) ?_
                              exact J209 _ (by subst e74 e88 e91 e92 e120 e161 e164 e165; simp only [if_neg c67, if_pos c81, if_neg c102, if_neg c109, if_pos c122, if_pos c171, fl_ahead])
                            · have t171 : 1 < (v74).toInt := ww_nle c171
                              refine lv_aload_n hx hb dX5_log_174 rfl (lv_at hl 4 rfl) ?_
                              refine mm_geta hx hb hts hown hK hW 15 rfl q1700 dX5_log_175 ?_
                              refine lv_bipush (v := 61) hx hb dX5_log_178 (by decide) ?_
                              refine lv_iload_n hx hb dX5_log_180 rfl (lv_at hl 5 rfl) ?_
                              refine nv_imul hx hb dX5_log_181 (fun v181 e181 => ?_)
                              refine lv_iload hx hb dX5_log_182 (lv_at hl 2 rfl) ?_
                              refine nv_iadd hx hb dX5_log_184 (fun v184 e184 => ?_)
                              refine lv_iconst (v := 1) hx hb dX5_log_185 (by decide) ?_
                              refine nv_isub hx hb dX5_log_186 (fun v186 e186 => ?_)
                              refine mm_zald hx hb hK hW 15 rfl (by rw [e186, e184, e181]; exact ix_61p h0 h1 (by omega) (by omega)) dX5_log_187 ?_
                              refine lv_if_eq (tgt := 208) hx hb dX5_log_188 (by decide) (fun c188 => ?_) (fun c188 => ?_)
                              · skip
                                refine lv_iconst (v := 0) hx hb dX5_log_208 (by decide) ?_
                                exact J209 _ (by subst e74 e88 e91 e92 e120 e161 e164 e165 e181 e184 e186; simp only [if_neg c67, if_pos c81, if_neg c102, if_neg c109, if_pos c122, if_neg c171, if_pos c188, fl_ahead])
                              · skip
                                refine lv_aload_n hx hb dX5_log_191 rfl (lv_at hl 4 rfl) ?_
                                refine mm_geta hx hb hts hown hK hW 16 rfl q1701 dX5_log_192 ?_
                                refine lv_bipush (v := 61) hx hb dX5_log_195 (by decide) ?_
                                refine lv_iload_n hx hb dX5_log_197 rfl (lv_at hl 5 rfl) ?_
                                refine nv_imul hx hb dX5_log_198 (fun v198 e198 => ?_)
                                refine lv_iload hx hb dX5_log_199 (lv_at hl 2 rfl) ?_
                                refine nv_iadd hx hb dX5_log_201 (fun v201 e201 => ?_)
                                refine lv_iconst (v := 1) hx hb dX5_log_202 (by decide) ?_
                                refine nv_isub hx hb dX5_log_203 (fun v203 e203 => ?_)
                                refine mm_iald hx hb hK hW 16 rfl (by rw [e203, e201, e198]; exact ix_61p h0 h1 (by omega) (by omega)) dX5_log_204 ?_
                                refine lv_goto (tgt := 209) hx hb dX5_log_205 (by decide) ?_
                                exact J209 _ (by subst e74 e88 e91 e92 e120 e161 e164 e165 e181 e184 e186 e198 e201 e203; simp only [if_neg c67, if_pos c81, if_neg c102, if_neg c109, if_pos c122, if_neg c171, if_neg c188, fl_ahead])
                          · have t122 : 0 ≤ ((lg_cmp v92 v120)).toInt := ww_nlt c122
                            refine lv_iload hx hb dX5_log_125 (lv_at hl 1 rfl) ?_
                            refine lv_istore (lv' := [(10, .int v74), (8, .long v92), (7, .int v74), (6, .int k), (0, .ref o), (1, .int h), (2, .int s), (3, .int i), (4, .int y), (5, .int n)]) hx hb dX5_log_127 hl (by decide) rfl (fun ls hl => ?_)
                            have L129 : ∀ (fu129 : Nat) (z : Int32) (S1 : mm_S) (H : Heap) (locs : List Loc), (60 - z.toInt + 1 < fu129) → (1 ≤ z.toInt) → (z.toInt ≤ 61) → ((k, ff_clr fu129 S1 h z) = ff_log S E h s i y n) → mm_W G o S1 E H → va_S (mm_F o) sQ.heap H locs → ∀ ls : Array Slot, lv_has ls 12 [(10, .int z), (8, .long v92), (7, .int v74), (6, .int k), (0, .ref o), (1, .int h), (2, .int s), (3, .int i), (4, .int y), (5, .int n)] → W pQ lQ eQ (wm_rm 3) sQ mQ (Value.ref o :: [.int h, .int s, .int i, .int y, .int n]).toArray belowQ methQ cQ H locs 0 0 (MQ belowQ (wm_Q (fun vQ HQ => vQ = some (.int (ff_log S E h s i y n).1) ∧ mm_W G o (ff_log S E h s i y n).2 E HQ) (mm_F o)) (Value.ref o :: [.int h, .int s, .int i, .int y, .int n]).toArray sQ 0 0 (mm_F o)) (F0 mQ 129 ls []) := by
                              intro fu129
                              induction fu129 with
                              | zero =>
                                intro z S1 H locs hm129 z0129 z1129 hgo129 hW hS ls hl
                                exact absurd hm129 (by omega)
                              | succ fu129 ih129 =>
                                intro z S1 H locs hm129 z0129 z1129 hgo129 hW hS ls hl
                                refine lv_iload hx hb dX5_log_129 (lv_at hl 0 rfl) ?_
                                refine lv_bipush (v := 60) hx hb dX5_log_131 (by decide) ?_
                                refine lv_icmp_gt (tgt := 155) hx hb dX5_log_133 (by decide) (fun c133 => ?_) (fun c133 => ?_)
                                · have t133 : 60 < (z).toInt := ww_lt c133
                                  refine lv_iload hx hb dX5_log_155 (lv_at hl 3 rfl) ?_
                                  refine mm_iret hx hb hr hlocks hW hS ?_ dX5_log_157
                                  have hres : ff_log S E h s i y n = (k, S1) := by rw [← hgo129]; simp only [ff_clr, if_pos c133]
                                  exact ⟨by rw [hres], by rw [hres], rfl⟩
                                · have t133 : (z).toInt ≤ 60 := ww_nlt c133
                                  refine lv_aload_n hx hb dX5_log_136 rfl (lv_at hl 4 rfl) ?_
                                  refine mm_geta hx hb hts hown hK hW 15 rfl q1700 dX5_log_137 ?_
                                  refine lv_bipush (v := 61) hx hb dX5_log_140 (by decide) ?_
                                  refine lv_iload_n hx hb dX5_log_142 rfl (lv_at hl 5 rfl) ?_
                                  refine nv_imul hx hb dX5_log_143 (fun v143 e143 => ?_)
                                  refine lv_iload hx hb dX5_log_144 (lv_at hl 0 rfl) ?_
                                  refine nv_iadd hx hb dX5_log_146 (fun v146 e146 => ?_)
                                  refine lv_iconst (v := 0) hx hb dX5_log_147 (by decide) ?_
                                  refine mm_zast hx hb hK hW hS 15 rfl rfl (by rw [e146, e143]; exact ix_61 h0 h1 (by omega) (by omega)) dX5_log_148 (fun S148 H locs f148 hW hS => ?_)
                                  obtain ⟨v149, e149⟩ : ∃ yQ : Int32, yQ = z + 1 := ⟨_, rfl⟩
                                  refine lv_iinc (v := v149) (lv' := [(10, .int v149), (8, .long v92), (7, .int v74), (6, .int k), (0, .ref o), (1, .int h), (2, .int s), (3, .int i), (4, .int y), (5, .int n)]) hx hb dX5_log_149 hl (k := 0) rfl (by rw [e149]; rfl) (by decide) rfl (fun ls hl => ?_)
                                  refine lv_goto (tgt := 129) hx hb dX5_log_152 (by decide) ?_
                                  have tb : v149.toInt = z.toInt + 1 := by rw [e149]; exact ww_inc' (by omega)
                                  exact ih129 v149 S148 H locs (by omega) (by omega) (by omega) (by subst e143 e146 f148 e149; simp only [ff_clr, if_neg c133] at hgo129; exact hgo129) hW hS ls (lv_sub hl [0, 1, 2, 3, 4, 5, 6, 7, 8, 9] rfl)
                            exact L129 61 v74 S0 H locs (by show _ < (61 : Int); omega) (by omega) (by omega) (by rw [← hgo63]; subst e74 e88 e91 e92 e120; simp only [ff_log_go, if_neg c67, if_pos c81, if_neg c102, if_neg c109, if_neg c122]) hW hS ls (lv_sub hl [0, 1, 2, 3, 4, 5, 6, 7, 8, 9] rfl)
                    · have t81 : 60 < (v74).toInt := ww_nle c81
                      refine lv_iload hx hb dX5_log_84 (lv_at hl 1 rfl) ?_
                      refine mm_iret hx hb hr hlocks hW hS ?_ dX5_log_86
                      have hres : ff_log S E h s i y n = (k, S0) := by rw [← hgo63]; subst e74; simp only [ff_log_go, if_neg c67, if_neg c81]
                      exact ⟨by rw [hres], by rw [hres], rfl⟩
              exact L63 61 0 S H locs (by show _ - 0 < (61 : Int); omega) (by decide) (by show 0 ≤ _; omega) hZ (by subst e2 e9 e20 e31 e51; simp only [ff_log, if_neg c5, if_neg c12, if_neg c23, if_neg c34, if_neg c46, if_neg c54]) hW hS ls (lv_sub hl [0, 1, 2, 3, 4, 5, 6] rfl)
            · skip
              refine lv_bipush (v := (-12)) hx hb dX5_log_57 (by decide) ?_
              refine mm_iret hx hb hr hlocks hW hS ?_ dX5_log_59
              have hres : ff_log S E h s i y n = ((-12), S) := by subst e2 e9 e20 e31 e51; simp only [ff_log, if_neg c5, if_neg c12, if_neg c23, if_neg c34, if_neg c46, if_pos c54]
              exact ⟨by rw [hres], by rw [hres], rfl⟩
        · skip
          refine lv_iconst (v := (-1)) hx hb dX5_log_37 (by decide) ?_
          refine mm_iret hx hb hr hlocks hW hS ?_ dX5_log_38
          have hres : ff_log S E h s i y n = ((-1), S) := by subst e2 e9 e20 e31; simp only [ff_log, if_neg c5, if_neg c12, if_neg c23, if_pos c34]
          exact ⟨by rw [hres], by rw [hres], rfl⟩

set_option maxHeartbeats 4000000 in
theorem mc_feed (lQ : Launch) (G : wm_G) (o : Nat) (S : mm_S) (E : mm_E) (n : Int32) (v : Int32) (hp0 : 0 ≤ (fd_ S 37).toInt) (hp1 : (fd_ S 37).toInt ≤ 160) : mm_Met lQ G o yX5_feed (ws_ yX5_feed cX5_feed 4 (some .int)) 1 S E [.int n, .int v] (some (.int (ff_feed S n v).1)) (ff_feed S n v).2 E := by
  refine mm_start (by decide +kernel) (Nat.le_of_ble_eq_true rfl) rfl (fun pQ eQ sQ mQ belowQ methQ cQ hx hb hml hr hlocks hts hown hK H hW hS ls hl => ?_)
  have hl : lv_has ls 4 [(0, .ref o), (1, .int n), (2, .int v)] := hl
  generalize hlc : ([] : List Loc) = locs at hS ⊢
  refine lv_iload_n hx hb dX5_feed_0 rfl (lv_at hl 1 rfl) ?_
  refine lv_iconst (v := 1) hx hb dX5_feed_1 (by decide) ?_
  refine lv_iconst (v := 4) hx hb dX5_feed_2 (by decide) ?_
  refine pp_calli (As := [.int n, .int 1, .int 4]) (rest := []) (n := 3) ⟨hx, hb, hml, hown, hts⟩ (mc_in lQ n 1 4) (lw_S q1979 q1980 q92 q1981) (by decide +kernel) rfl ⟨Nat.le_of_ble_eq_true rfl, Nat.le_of_ble_eq_true rfl⟩ hl.1 rfl (Nat.le_of_ble_eq_true rfl) dX5_feed_3 ⟨Nat.le_of_ble_eq_true rfl, Nat.le_of_ble_eq_true rfl⟩ (fun v3 e3 => ?_)
  refine lv_if_ne (tgt := 11) hx hb dX5_feed_6 (by decide) (fun c6 => ?_) (fun c6 => ?_)
  · skip
    obtain ⟨n0, n1⟩ := ff_in_t (v := n) (a := 1) (b := 4) (by rw [← e3]; exact c6)
    have n0 : 1 ≤ n.toInt := n0
    have n1 : n.toInt ≤ 4 := n1
    refine lv_aload_n hx hb dX5_feed_11 rfl (lv_at hl 0 rfl) ?_
    refine mm_geti hx hb hts hown hK hW 37 rfl (by decide) q1722 dX5_feed_12 ?_
    refine lv_iload_n hx hb dX5_feed_15 rfl (lv_at hl 1 rfl) ?_
    refine nv_iadd hx hb dX5_feed_16 (fun v16 e16 => ?_)
    refine lv_sipush (v := 160) hx hb dX5_feed_17 (by decide) ?_
    refine lv_icmp_le (tgt := 26) hx hb dX5_feed_20 (by decide) (fun c20 => ?_) (fun c20 => ?_)
    · have t20 : (v16).toInt ≤ 160 := ww_le c20
      have ts : (fd_ S 37).toInt + n.toInt ≤ 160 := by
        have q := ww_add (fd_ S 37) n (by omega) (by omega)
        rw [← e16] at q
        omega
      refine lv_iconst (v := 0) hx hb dX5_feed_26 (by decide) ?_
      refine lv_istore_n (lv' := [(3, .int 0), (0, .ref o), (1, .int n), (2, .int v)]) hx hb dX5_feed_27 rfl hl (by decide) rfl (fun ls hl => ?_)
      have L28 : ∀ (fu28 : Nat) (k : Int32) (S0 : mm_S) (H : Heap) (locs : List Loc), (n.toInt - k.toInt < fu28) → (0 ≤ k.toInt) → (k.toInt ≤ n.toInt) → (0 ≤ (fd_ S0 37).toInt) → ((fd_ S0 37).toInt + (n.toInt - k.toInt) ≤ 160) → (ff_feed_go fu28 S0 n v k = ff_feed S n v) → mm_W G o S0 E H → va_S (mm_F o) sQ.heap H locs → ∀ ls : Array Slot, lv_has ls 4 [(3, .int k), (0, .ref o), (1, .int n), (2, .int v)] → W pQ lQ eQ (wm_rm 1) sQ mQ (Value.ref o :: [.int n, .int v]).toArray belowQ methQ cQ H locs 0 0 (MQ belowQ (wm_Q (fun vQ HQ => vQ = some (.int (ff_feed S n v).1) ∧ mm_W G o (ff_feed S n v).2 E HQ) (mm_F o)) (Value.ref o :: [.int n, .int v]).toArray sQ 0 0 (mm_F o)) (F0 mQ 28 ls []) := by
        intro fu28
        induction fu28 with
        | zero =>
          intro k S0 H locs hm28 i028 i128 i228 i328 hgo28 hW hS ls hl
          exact absurd hm28 (by omega)
        | succ fu28 ih28 =>
          intro k S0 H locs hm28 i028 i128 i228 i328 hgo28 hW hS ls hl
          refine lv_iload_n hx hb dX5_feed_28 rfl (lv_at hl 0 rfl) ?_
          refine lv_iload_n hx hb dX5_feed_29 rfl (lv_at hl 2 rfl) ?_
          refine lv_icmp_ge (tgt := 65) hx hb dX5_feed_30 (by decide) (fun c30 => ?_) (fun c30 => ?_)
          · have t30 : (n).toInt ≤ (k).toInt := ww_le c30
            refine lv_aload_n hx hb dX5_feed_65 rfl (lv_at hl 1 rfl) ?_
            refine mm_geti hx hb hts hown hK hW 37 rfl (by decide) q1722 dX5_feed_66 ?_
            refine mm_iret hx hb hr hlocks hW hS ?_ dX5_feed_69
            have hres : ff_feed S n v = ((fd_ S0 37), S0) := by rw [← hgo28]; simp only [ff_feed_go, fb8, if_pos c30]
            exact ⟨by rw [hres], by rw [hres], rfl⟩
          · have t30 : (k).toInt < (n).toInt := ww_nle c30
            refine lv_aload_n hx hb dX5_feed_33 rfl (lv_at hl 1 rfl) ?_
            refine mm_geta hx hb hts hown hK hW 36 rfl q1721 dX5_feed_34 ?_
            refine lv_aload_n hx hb dX5_feed_37 rfl (lv_at hl 1 rfl) ?_
            refine mm_geti hx hb hts hown hK hW 37 rfl (by decide) q1722 dX5_feed_38 ?_
            refine lv_iload_n hx hb dX5_feed_41 rfl (lv_at hl 3 rfl) ?_
            refine lv_bipush (v := 8) hx hb dX5_feed_42 (by decide) ?_
            refine lv_iload_n hx hb dX5_feed_44 rfl (lv_at hl 0 rfl) ?_
            refine nv_imul hx hb dX5_feed_45 (fun v45 e45 => ?_)
            refine nv_ishr hx hb dX5_feed_46 (fun v46 e46 => ?_)
            refine nv_i2b hx hb dX5_feed_47 (fun v47 e47 => ?_)
            refine mm_bast hx hb hK hW hS 36 rfl (ww_in (by omega) (by omega)) dX5_feed_48 (fun S48 H locs f48 hW hS => ?_)
            refine lv_aload_n hx hb dX5_feed_49 rfl (lv_at hl 1 rfl) ?_
            refine lv_dup hx hb dX5_feed_50 rfl ?_
            refine mm_geti hx hb hts hown hK hW 37 rfl (by decide) q1722 dX5_feed_51 ?_
            refine lv_iconst (v := 1) hx hb dX5_feed_54 (by decide) ?_
            refine nv_iadd hx hb dX5_feed_55 (fun v55 e55 => ?_)
            refine mm_puti hx hb hts hown hK hW hS 37 rfl (by decide) rfl rfl rfl q1722 dX5_feed_56 (fun S56 H locs f56 hW hS => ?_)
            obtain ⟨v59, e59⟩ : ∃ yQ : Int32, yQ = k + 1 := ⟨_, rfl⟩
            refine lv_iinc (v := v59) (lv' := [(3, .int v59), (0, .ref o), (1, .int n), (2, .int v)]) hx hb dX5_feed_59 hl (k := 0) rfl (by rw [e59]; rfl) (by decide) rfl (fun ls hl => ?_)
            refine lv_goto (tgt := 28) hx hb dX5_feed_62 (by decide) ?_
            have tb : v59.toInt = k.toInt + 1 := by rw [e59]; exact ww_inc t30
            have tp : (fd_ S56 37).toInt = (fd_ S0 37).toInt + 1 := by rw [f56, fd_fw, e55, f48, fd_wn (by decide)]; exact ww_inc' (by omega)
            exact ih28 v59 S56 H locs (by omega) (by omega) (by omega) (by omega) (by omega) (by subst e45 e46 e47 f48 e55 f56 e59; simp only [ff_feed_go, fb8, if_neg c30] at hgo28; exact hgo28) hW hS ls (lv_sub hl [0, 1, 2, 3] rfl)
      exact L28 5 0 S H locs (by show _ - 0 < (5 : Int); omega) (by decide) (by show 0 ≤ _; omega) hp0 (by show _ + (_ - 0) ≤ _; omega) (by subst e3 e16; simp only [ff_feed, if_neg c6, if_pos c20]) hW hS ls (lv_sub hl [0, 1, 2, 3] rfl)
    · have t20 : 160 < (v16).toInt := ww_nle c20
      refine lv_bipush (v := (-3)) hx hb dX5_feed_23 (by decide) ?_
      refine mm_iret hx hb hr hlocks hW hS ?_ dX5_feed_25
      have hres : ff_feed S n v = ((-3), S) := by subst e3 e16; simp only [ff_feed, if_neg c6, if_neg c20]
      exact ⟨by rw [hres], by rw [hres], rfl⟩
  · skip
    refine lv_iconst (v := (-1)) hx hb dX5_feed_9 (by decide) ?_
    refine mm_iret hx hb hr hlocks hW hS ?_ dX5_feed_10
    have hres : ff_feed S n v = ((-1), S) := by subst e3; simp only [ff_feed, if_pos c6]
    exact ⟨by rw [hres], by rw [hres], rfl⟩

set_option maxHeartbeats 4000000 in
theorem mc_look (lQ : Launch) (G : wm_G) (o : Nat) (S : mm_S) (E : mm_E) (hP : iv_P S) : mm_Met lQ G o yX5_look (ws_ yX5_look cX5_look 1 (some .int)) 0 S E [] (some (.int (fp_look S))) S E := by
  refine mm_start (by decide +kernel) (Nat.le_of_ble_eq_true rfl) rfl (fun pQ eQ sQ mQ belowQ methQ cQ hx hb hml hr hlocks hts hown hK H hW hS ls hl => ?_)
  have hl : lv_has ls 1 [(0, .ref o)] := hl
  generalize hlc : ([] : List Loc) = locs at hS ⊢
  refine lv_aload_n hx hb dX5_look_0 rfl (lv_at hl 0 rfl) ?_
  refine mm_geti hx hb hts hown hK hW 47 rfl (by decide) q1732 dX5_look_1 ?_
  refine lv_aload_n hx hb dX5_look_4 rfl (lv_at hl 0 rfl) ?_
  refine mm_geti hx hb hts hown hK hW 37 rfl (by decide) q1722 dX5_look_5 ?_
  refine lv_icmp_ge (tgt := 23) hx hb dX5_look_8 (by decide) (fun c8 => ?_) (fun c8 => ?_)
  · have t8 : ((fd_ S 37)).toInt ≤ ((fd_ S 47)).toInt := ww_le c8
    refine lv_iconst (v := (-1)) hx hb dX5_look_23 (by decide) ?_
    refine mm_iret hx hb hr hlocks hW hS ?_ dX5_look_24
    have hres : fp_look S = (-1) := by simp only [fp_look, if_pos c8]
    exact ⟨by rw [hres], rfl, rfl⟩
  · have t8 : ((fd_ S 47)).toInt < ((fd_ S 37)).toInt := ww_nle c8
    refine lv_aload_n hx hb dX5_look_11 rfl (lv_at hl 0 rfl) ?_
    refine mm_geta hx hb hts hown hK hW 36 rfl q1721 dX5_look_12 ?_
    refine lv_aload_n hx hb dX5_look_15 rfl (lv_at hl 0 rfl) ?_
    refine mm_geti hx hb hts hown hK hW 47 rfl (by decide) q1732 dX5_look_16 ?_
    refine mm_bald hx hb hK hW 36 rfl (by obtain ⟨p1, p2, p3, _⟩ := hP; exact ww_in p1 (by omega)) dX5_look_19 ?_
    refine lv_goto (tgt := 24) hx hb dX5_look_20 (by decide) ?_
    refine mm_iret hx hb hr hlocks hW hS ?_ dX5_look_24
    have hres : fp_look S = (rd_ S 36 (fd_ S 47)) := by simp only [fp_look, if_neg c8]
    exact ⟨by rw [hres], rfl, rfl⟩

set_option maxHeartbeats 4000000 in
theorem mc_faultHere (lQ : Launch) (G : wm_G) (o : Nat) (S : mm_S) (E : mm_E) : mm_Met lQ G o yX5_faultHere (ws_ yX5_faultHere cX5_faultHere 1 none) 0 S E [] (none) (fp_fault S) E := by
  refine mm_start (by decide +kernel) (Nat.le_of_ble_eq_true rfl) rfl (fun pQ eQ sQ mQ belowQ methQ cQ hx hb hml hr hlocks hts hown hK H hW hS ls hl => ?_)
  have hl : lv_has ls 1 [(0, .ref o)] := hl
  generalize hlc : ([] : List Loc) = locs at hS ⊢
  refine lv_aload_n hx hb dX5_faultHere_0 rfl (lv_at hl 0 rfl) ?_
  refine mm_geti hx hb hts hown hK hW 48 rfl (by decide) q1733 dX5_faultHere_1 ?_
  refine lv_if_ge (tgt := 15) hx hb dX5_faultHere_4 (by decide) (fun c4 => ?_) (fun c4 => ?_)
  · have t4 : 0 ≤ ((fd_ S 48)).toInt := ww_le c4
    refine mm_vret hx hb hr hlocks hW hS ?_ dX5_faultHere_15
    have hres : fp_fault S = S := by simp only [fp_fault, if_pos c4]
    exact ⟨hres.symm, rfl⟩
  · have t4 : ((fd_ S 48)).toInt < 0 := ww_nle c4
    refine lv_aload_n hx hb dX5_faultHere_7 rfl (lv_at hl 0 rfl) ?_
    refine lv_aload_n hx hb dX5_faultHere_8 rfl (lv_at hl 0 rfl) ?_
    refine mm_geti hx hb hts hown hK hW 47 rfl (by decide) q1732 dX5_faultHere_9 ?_
    refine mm_puti hx hb hts hown hK hW hS 48 rfl (by decide) rfl rfl rfl q1733 dX5_faultHere_12 (fun S12 H locs f12 hW hS => ?_)
    refine mm_vret hx hb hr hlocks hW hS ?_ dX5_faultHere_15
    have hres : fp_fault S = S12 := by subst f12; simp only [fp_fault, if_neg c4]
    exact ⟨hres.symm, rfl⟩

set_option maxHeartbeats 4000000 in
theorem mc_lay (lQ : Launch) (G : wm_G) (o : Nat) (S : mm_S) (E : mm_E) (a : Int32) (b : Int32) (hP : iv_P S) : mm_Met lQ G o yX5_lay (ws_ yX5_lay cX5_lay 3 none) 0 S E [.int a, .int b] (none) (fp_lay S a b) E := by
  refine mm_start (by decide +kernel) (Nat.le_of_ble_eq_true rfl) rfl (fun pQ eQ sQ mQ belowQ methQ cQ hx hb hml hr hlocks hts hown hK H hW hS ls hl => ?_)
  have hl : lv_has ls 3 [(0, .ref o), (1, .int a), (2, .int b)] := hl
  generalize hlc : ([] : List Loc) = locs at hS ⊢
  refine lv_aload_n hx hb dX5_lay_0 rfl (lv_at hl 0 rfl) ?_
  refine mm_geta hx hb hts hown hK hW 45 rfl q1730 dX5_lay_1 ?_
  refine lv_sipush (v := 170) hx hb dX5_lay_4 (by decide) ?_
  refine lv_aload_n hx hb dX5_lay_7 rfl (lv_at hl 0 rfl) ?_
  refine mm_geti hx hb hts hown hK hW 50 rfl (by decide) q1735 dX5_lay_8 ?_
  refine nv_imul hx hb dX5_lay_11 (fun v11 e11 => ?_)
  refine lv_aload_n hx hb dX5_lay_12 rfl (lv_at hl 0 rfl) ?_
  refine mm_geti hx hb hts hown hK hW 51 rfl (by decide) q1736 dX5_lay_13 ?_
  refine nv_iadd hx hb dX5_lay_16 (fun v16 e16 => ?_)
  refine lv_iload_n hx hb dX5_lay_17 rfl (lv_at hl 1 rfl) ?_
  refine mm_iast hx hb hK hW hS 45 rfl (by rw [e16, e11]; exact ix_170 hP) dX5_lay_18 (fun S18 H locs f18 hW hS => ?_)
  refine lv_aload_n hx hb dX5_lay_19 rfl (lv_at hl 0 rfl) ?_
  refine mm_geta hx hb hts hown hK hW 46 rfl q1731 dX5_lay_20 ?_
  refine lv_sipush (v := 170) hx hb dX5_lay_23 (by decide) ?_
  refine lv_aload_n hx hb dX5_lay_26 rfl (lv_at hl 0 rfl) ?_
  refine mm_geti hx hb hts hown hK hW 50 rfl (by decide) q1735 dX5_lay_27 ?_
  refine nv_imul hx hb dX5_lay_30 (fun v30 e30 => ?_)
  refine lv_aload_n hx hb dX5_lay_31 rfl (lv_at hl 0 rfl) ?_
  refine mm_geti hx hb hts hown hK hW 51 rfl (by decide) q1736 dX5_lay_32 ?_
  refine nv_iadd hx hb dX5_lay_35 (fun v35 e35 => ?_)
  refine lv_iload_n hx hb dX5_lay_36 rfl (lv_at hl 2 rfl) ?_
  refine mm_iast hx hb hK hW hS 46 rfl (by rw [e35, e30, f18, fd_wn (by decide), fd_wn (by decide)]; exact ix_170 hP) dX5_lay_37 (fun S37 H locs f37 hW hS => ?_)
  refine lv_aload_n hx hb dX5_lay_38 rfl (lv_at hl 0 rfl) ?_
  refine lv_dup hx hb dX5_lay_39 rfl ?_
  refine mm_geti hx hb hts hown hK hW 51 rfl (by decide) q1736 dX5_lay_40 ?_
  refine lv_iconst (v := 1) hx hb dX5_lay_43 (by decide) ?_
  refine nv_iadd hx hb dX5_lay_44 (fun v44 e44 => ?_)
  refine mm_puti hx hb hts hown hK hW hS 51 rfl (by decide) rfl rfl rfl q1736 dX5_lay_45 (fun S45 H locs f45 hW hS => ?_)
  refine mm_vret hx hb hr hlocks hW hS ?_ dX5_lay_48
  have hres : fp_lay S a b = S45 := by subst e11 e16 f18 e30 e35 f37 e44 f45; simp only [fp_lay, fp_ix, fd_wn (show (50 : Nat) ≠ 45 by decide), fd_wn (show (51 : Nat) ≠ 45 by decide), fd_wn (show (51 : Nat) ≠ 46 by decide)]
  exact ⟨hres.symm, rfl⟩

set_option maxHeartbeats 4000000 in
theorem mc_opens (lQ : Launch) (G : wm_G) (o : Nat) (S : mm_S) (E : mm_E) : mm_Met lQ G o yX5_opens (ws_ yX5_opens cX5_opens 1 (some .boolean)) 1 S E [] (some (.int (fp_opens S).1)) (fp_opens S).2 E := by
  refine mm_start (by decide +kernel) (Nat.le_of_ble_eq_true rfl) rfl (fun pQ eQ sQ mQ belowQ methQ cQ hx hb hml hr hlocks hts hown hK H hW hS ls hl => ?_)
  have hl : lv_has ls 1 [(0, .ref o)] := hl
  generalize hlc : ([] : List Loc) = locs at hS ⊢
  refine lv_aload_n hx hb dX5_opens_0 rfl (lv_at hl 0 rfl) ?_
  refine mm_geti hx hb hts hown hK hW 49 rfl (by decide) q1734 dX5_opens_1 ?_
  refine lv_bipush (v := 8) hx hb dX5_opens_4 (by decide) ?_
  refine lv_icmp_ne (tgt := 15) hx hb dX5_opens_6 (by decide) (fun c6 => ?_) (fun c6 => ?_)
  · skip
    refine lv_aload_n hx hb dX5_opens_15 rfl (lv_at hl 0 rfl) ?_
    refine lv_dup hx hb dX5_opens_16 rfl ?_
    refine mm_geti hx hb hts hown hK hW 49 rfl (by decide) q1734 dX5_opens_17 ?_
    refine lv_iconst (v := 1) hx hb dX5_opens_20 (by decide) ?_
    refine nv_iadd hx hb dX5_opens_21 (fun v21 e21 => ?_)
    refine mm_puti hx hb hts hown hK hW hS 49 rfl (by decide) rfl rfl rfl q1734 dX5_opens_22 (fun S22 H locs f22 hW hS => ?_)
    refine lv_aload_n hx hb dX5_opens_25 rfl (lv_at hl 0 rfl) ?_
    refine lv_dup hx hb dX5_opens_26 rfl ?_
    refine mm_geti hx hb hts hown hK hW 47 rfl (by decide) q1732 dX5_opens_27 ?_
    refine lv_iconst (v := 1) hx hb dX5_opens_30 (by decide) ?_
    refine nv_iadd hx hb dX5_opens_31 (fun v31 e31 => ?_)
    refine mm_puti hx hb hts hown hK hW hS 47 rfl (by decide) rfl rfl rfl q1732 dX5_opens_32 (fun S32 H locs f32 hW hS => ?_)
    refine lv_iconst (v := 1) hx hb dX5_opens_35 (by decide) ?_
    refine mm_zret hx hb hr hlocks hW hS rfl ?_ dX5_opens_36
    have hres : fp_opens S = (1, S32) := by subst e21 f22 e31 f32; simp only [fp_opens, fp_adv, if_neg c6]
    exact ⟨by rw [hres], by rw [hres], rfl⟩
  · skip
    refine lv_aload_n hx hb dX5_opens_9 rfl (lv_at hl 0 rfl) ?_
    refine mm_callv (As := []) (rest := []) (n := 0) ⟨hx, hb, hml, hown, hts⟩ hK (mc_faultHere lQ G o S E) (lw_V q2178 q2180 qs57 q92 q2181) (by decide +kernel) rfl ⟨Nat.le_of_ble_eq_true rfl, Nat.le_of_ble_eq_true rfl⟩ hW hS hl.1 rfl (Nat.le_of_ble_eq_true rfl) dX5_opens_10 ⟨Nat.le_of_ble_eq_true rfl, Nat.le_of_ble_eq_true rfl⟩ (fun S10 H locs f10 hW hS => ?_)
    refine lv_iconst (v := 0) hx hb dX5_opens_13 (by decide) ?_
    refine mm_zret hx hb hr hlocks hW hS rfl ?_ dX5_opens_14
    have hres : fp_opens S = (0, S10) := by subst f10; simp only [fp_opens, fp_adv, if_pos c6]
    exact ⟨by rw [hres], by rw [hres], rfl⟩

set_option maxHeartbeats 4000000 in
theorem mc_nameOf (lQ : Launch) (b : Int32) : pp_Met lQ yX5_nameOf (ws_ yX5_nameOf cX5_nameOf 1 (some .int)) 0 [.int b] (some (.int (ff_nameOf b))) := by
  refine pp_start (own := RX5) (by decide +kernel) (Nat.le_of_ble_eq_true rfl) rfl (fun pQ eQ sQ mQ belowQ methQ cQ hx hb hml hr hlocks hts hown ls hl => ?_)
  have hl : lv_has ls 1 [(0, .int b)] := hl
  refine lv_iload_n hx hb dX5_nameOf_0 rfl (lv_at hl 0 rfl) ?_
  by_cases k1_100 : b = 100
  · skip
    refine lv_tableIn (off := 85) (tgt := 86) hx hb dX5_nameOf_1 (by rw [k1_100]; decide) (by rw [k1_100]; decide) (by rw [k1_100]; rfl) (by decide) ?_
    refine lv_iconst (v := 1) hx hb dX5_nameOf_86 (by decide) ?_
    refine pp_iret hx hb hr hlocks ?_ dX5_nameOf_87
    have hres : ff_nameOf b = 1 := by rw [k1_100]; decide
    rw [hres]
  · skip
    by_cases k1_101 : b = 101
    · skip
      refine lv_tableIn (off := 101) (tgt := 102) hx hb dX5_nameOf_1 (by rw [k1_101]; decide) (by rw [k1_101]; decide) (by rw [k1_101]; rfl) (by decide) ?_
      refine lv_iconst (v := (-1)) hx hb dX5_nameOf_102 (by decide) ?_
      refine pp_iret hx hb hr hlocks ?_ dX5_nameOf_103
      have hres : ff_nameOf b = (-1) := by rw [k1_101]; decide
      rw [hres]
    · skip
      by_cases k1_102 : b = 102
      · skip
        refine lv_tableIn (off := 95) (tgt := 96) hx hb dX5_nameOf_1 (by rw [k1_102]; decide) (by rw [k1_102]; decide) (by rw [k1_102]; rfl) (by decide) ?_
        refine lv_bipush (v := 6) hx hb dX5_nameOf_96 (by decide) ?_
        refine pp_iret hx hb hr hlocks ?_ dX5_nameOf_98
        have hres : ff_nameOf b = 6 := by rw [k1_102]; decide
        rw [hres]
      · skip
        by_cases k1_103 : b = 103
        · skip
          refine lv_tableIn (off := 101) (tgt := 102) hx hb dX5_nameOf_1 (by rw [k1_103]; decide) (by rw [k1_103]; decide) (by rw [k1_103]; rfl) (by decide) ?_
          refine lv_iconst (v := (-1)) hx hb dX5_nameOf_102 (by decide) ?_
          refine pp_iret hx hb hr hlocks ?_ dX5_nameOf_103
          have hres : ff_nameOf b = (-1) := by rw [k1_103]; decide
          rw [hres]
        · skip
          by_cases k1_104 : b = 104
          · skip
            refine lv_tableIn (off := 83) (tgt := 84) hx hb dX5_nameOf_1 (by rw [k1_104]; decide) (by rw [k1_104]; decide) (by rw [k1_104]; rfl) (by decide) ?_
            refine lv_iconst (v := 0) hx hb dX5_nameOf_84 (by decide) ?_
            refine pp_iret hx hb hr hlocks ?_ dX5_nameOf_85
            have hres : ff_nameOf b = 0 := by rw [k1_104]; decide
            rw [hres]
          · skip
            by_cases k1_105 : b = 105
            · skip
              refine lv_tableIn (off := 91) (tgt := 92) hx hb dX5_nameOf_1 (by rw [k1_105]; decide) (by rw [k1_105]; decide) (by rw [k1_105]; rfl) (by decide) ?_
              refine lv_iconst (v := 4) hx hb dX5_nameOf_92 (by decide) ?_
              refine pp_iret hx hb hr hlocks ?_ dX5_nameOf_93
              have hres : ff_nameOf b = 4 := by rw [k1_105]; decide
              rw [hres]
            · skip
              by_cases k1_106 : b = 106
              · skip
                refine lv_tableIn (off := 101) (tgt := 102) hx hb dX5_nameOf_1 (by rw [k1_106]; decide) (by rw [k1_106]; decide) (by rw [k1_106]; rfl) (by decide) ?_
                refine lv_iconst (v := (-1)) hx hb dX5_nameOf_102 (by decide) ?_
                refine pp_iret hx hb hr hlocks ?_ dX5_nameOf_103
                have hres : ff_nameOf b = (-1) := by rw [k1_106]; decide
                rw [hres]
              · skip
                by_cases k1_107 : b = 107
                · skip
                  refine lv_tableIn (off := 89) (tgt := 90) hx hb dX5_nameOf_1 (by rw [k1_107]; decide) (by rw [k1_107]; decide) (by rw [k1_107]; rfl) (by decide) ?_
                  refine lv_iconst (v := 3) hx hb dX5_nameOf_90 (by decide) ?_
                  refine pp_iret hx hb hr hlocks ?_ dX5_nameOf_91
                  have hres : ff_nameOf b = 3 := by rw [k1_107]; decide
                  rw [hres]
                · skip
                  by_cases k1_108 : b = 108
                  · skip
                    refine lv_tableIn (off := 101) (tgt := 102) hx hb dX5_nameOf_1 (by rw [k1_108]; decide) (by rw [k1_108]; decide) (by rw [k1_108]; rfl) (by decide) ?_
                    refine lv_iconst (v := (-1)) hx hb dX5_nameOf_102 (by decide) ?_
                    refine pp_iret hx hb hr hlocks ?_ dX5_nameOf_103
                    have hres : ff_nameOf b = (-1) := by rw [k1_108]; decide
                    rw [hres]
                  · skip
                    by_cases k1_109 : b = 109
                    · skip
                      refine lv_tableIn (off := 101) (tgt := 102) hx hb dX5_nameOf_1 (by rw [k1_109]; decide) (by rw [k1_109]; decide) (by rw [k1_109]; rfl) (by decide) ?_
                      refine lv_iconst (v := (-1)) hx hb dX5_nameOf_102 (by decide) ?_
                      refine pp_iret hx hb hr hlocks ?_ dX5_nameOf_103
                      have hres : ff_nameOf b = (-1) := by rw [k1_109]; decide
                      rw [hres]
                    · skip
                      by_cases k1_110 : b = 110
                      · skip
                        refine lv_tableIn (off := 93) (tgt := 94) hx hb dX5_nameOf_1 (by rw [k1_110]; decide) (by rw [k1_110]; decide) (by rw [k1_110]; rfl) (by decide) ?_
                        refine lv_iconst (v := 5) hx hb dX5_nameOf_94 (by decide) ?_
                        refine pp_iret hx hb hr hlocks ?_ dX5_nameOf_95
                        have hres : ff_nameOf b = 5 := by rw [k1_110]; decide
                        rw [hres]
                      · skip
                        by_cases k1_111 : b = 111
                        · skip
                          refine lv_tableIn (off := 101) (tgt := 102) hx hb dX5_nameOf_1 (by rw [k1_111]; decide) (by rw [k1_111]; decide) (by rw [k1_111]; rfl) (by decide) ?_
                          refine lv_iconst (v := (-1)) hx hb dX5_nameOf_102 (by decide) ?_
                          refine pp_iret hx hb hr hlocks ?_ dX5_nameOf_103
                          have hres : ff_nameOf b = (-1) := by rw [k1_111]; decide
                          rw [hres]
                        · skip
                          by_cases k1_112 : b = 112
                          · skip
                            refine lv_tableIn (off := 101) (tgt := 102) hx hb dX5_nameOf_1 (by rw [k1_112]; decide) (by rw [k1_112]; decide) (by rw [k1_112]; rfl) (by decide) ?_
                            refine lv_iconst (v := (-1)) hx hb dX5_nameOf_102 (by decide) ?_
                            refine pp_iret hx hb hr hlocks ?_ dX5_nameOf_103
                            have hres : ff_nameOf b = (-1) := by rw [k1_112]; decide
                            rw [hres]
                          · skip
                            by_cases k1_113 : b = 113
                            · skip
                              refine lv_tableIn (off := 101) (tgt := 102) hx hb dX5_nameOf_1 (by rw [k1_113]; decide) (by rw [k1_113]; decide) (by rw [k1_113]; rfl) (by decide) ?_
                              refine lv_iconst (v := (-1)) hx hb dX5_nameOf_102 (by decide) ?_
                              refine pp_iret hx hb hr hlocks ?_ dX5_nameOf_103
                              have hres : ff_nameOf b = (-1) := by rw [k1_113]; decide
                              rw [hres]
                            · skip
                              by_cases k1_114 : b = 114
                              · skip
                                refine lv_tableIn (off := 101) (tgt := 102) hx hb dX5_nameOf_1 (by rw [k1_114]; decide) (by rw [k1_114]; decide) (by rw [k1_114]; rfl) (by decide) ?_
                                refine lv_iconst (v := (-1)) hx hb dX5_nameOf_102 (by decide) ?_
                                refine pp_iret hx hb hr hlocks ?_ dX5_nameOf_103
                                have hres : ff_nameOf b = (-1) := by rw [k1_114]; decide
                                rw [hres]
                              · skip
                                by_cases k1_115 : b = 115
                                · skip
                                  refine lv_tableIn (off := 87) (tgt := 88) hx hb dX5_nameOf_1 (by rw [k1_115]; decide) (by rw [k1_115]; decide) (by rw [k1_115]; rfl) (by decide) ?_
                                  refine lv_iconst (v := 2) hx hb dX5_nameOf_88 (by decide) ?_
                                  refine pp_iret hx hb hr hlocks ?_ dX5_nameOf_89
                                  have hres : ff_nameOf b = 2 := by rw [k1_115]; decide
                                  rw [hres]
                                · skip
                                  by_cases k1_116 : b = 116
                                  · skip
                                    refine lv_tableIn (off := 98) (tgt := 99) hx hb dX5_nameOf_1 (by rw [k1_116]; decide) (by rw [k1_116]; decide) (by rw [k1_116]; rfl) (by decide) ?_
                                    refine lv_bipush (v := 7) hx hb dX5_nameOf_99 (by decide) ?_
                                    refine pp_iret hx hb hr hlocks ?_ dX5_nameOf_101
                                    have hres : ff_nameOf b = 7 := by rw [k1_116]; decide
                                    rw [hres]
                                  · skip
                                    refine lv_tableOut (tgt := 102) hx hb dX5_nameOf_1 (by have hk1_100 : (b).toInt ≠ 100 := ww_ne k1_100; have hk1_101 : (b).toInt ≠ 101 := ww_ne k1_101; have hk1_102 : (b).toInt ≠ 102 := ww_ne k1_102; have hk1_103 : (b).toInt ≠ 103 := ww_ne k1_103; have hk1_104 : (b).toInt ≠ 104 := ww_ne k1_104; have hk1_105 : (b).toInt ≠ 105 := ww_ne k1_105; have hk1_106 : (b).toInt ≠ 106 := ww_ne k1_106; have hk1_107 : (b).toInt ≠ 107 := ww_ne k1_107; have hk1_108 : (b).toInt ≠ 108 := ww_ne k1_108; have hk1_109 : (b).toInt ≠ 109 := ww_ne k1_109; have hk1_110 : (b).toInt ≠ 110 := ww_ne k1_110; have hk1_111 : (b).toInt ≠ 111 := ww_ne k1_111; have hk1_112 : (b).toInt ≠ 112 := ww_ne k1_112; have hk1_113 : (b).toInt ≠ 113 := ww_ne k1_113; have hk1_114 : (b).toInt ≠ 114 := ww_ne k1_114; have hk1_115 : (b).toInt ≠ 115 := ww_ne k1_115; have hk1_116 : (b).toInt ≠ 116 := ww_ne k1_116; omega) (by decide) ?_
                                    refine lv_iconst (v := (-1)) hx hb dX5_nameOf_102 (by decide) ?_
                                    refine pp_iret hx hb hr hlocks ?_ dX5_nameOf_103
                                    have hres : ff_nameOf b = (-1) := by simp only [ff_nameOf, if_neg k1_100, if_neg k1_101, if_neg k1_102, if_neg k1_103, if_neg k1_104, if_neg k1_105, if_neg k1_106, if_neg k1_107, if_neg k1_108, if_neg k1_109, if_neg k1_110, if_neg k1_111, if_neg k1_112, if_neg k1_113, if_neg k1_114, if_neg k1_115, if_neg k1_116]
                                    rw [hres]

set_option maxHeartbeats 4000000 in
theorem mc_product (lQ : Launch) (G : wm_G) (o : Nat) (S : mm_S) (E : mm_E) (fu : Nat) (IH0 : ∀ (S : mm_S) (E : mm_E), iv_Q S → 7 * (8 - (fd_ S 49).toInt) + 1 ≤ fu → mm_Met lQ G o yX5_operand (ws_ yX5_operand cX5_operand 4 none) (fu + 3) S E [] none (ff_ps fu 0 S) E) (hQ : iv_Q S) (hN : 7 * (8 - (fd_ S 49).toInt) + 2 ≤ fu + 1) : mm_Met lQ G o yX5_product (ws_ yX5_product cX5_product 2 none) (fu + 1 + 3) S E [] (none) (ff_ps (fu + 1) 1 S) E := by
  refine mm_start (by decide +kernel) (Nat.le_of_ble_eq_true rfl) rfl (fun pQ eQ sQ mQ belowQ methQ cQ hx hb hml hr hlocks hts hown hK H hW hS ls hl => ?_)
  have hl : lv_has ls 2 [(0, .ref o)] := hl
  generalize hlc : ([] : List Loc) = locs at hS ⊢
  refine lv_aload_n hx hb dX5_product_0 rfl (lv_at hl 0 rfl) ?_
  refine mm_callv (As := []) (rest := []) (n := 0) ⟨hx, hb, hml, hown, hts⟩ hK (IH0 S E hQ (by omega)) (lw_V q2159 q2161 qs53 q92 q2162) (by decide +kernel) rfl (wm_rmR (by omega) (by decide)) hW hS hl.1 rfl (Nat.le_of_ble_eq_true rfl) dX5_product_1 ⟨Nat.le_of_ble_eq_true rfl, Nat.le_of_ble_eq_true rfl⟩ (fun S1 H locs f1 hW hS => ?_)
  have L4 : ∀ (fu4 : Nat) (S0 : mm_S) (H : Heap) (locs : List Loc), ((fd_ S0 37).toInt - (fd_ S0 47).toInt < fu4) → (fp_R 0 0 S S0) → (fp_pr (ff_ps fu 0) fu4 S0 = ff_ps (fu + 1) 1 S) → mm_W G o S0 E H → va_S (mm_F o) sQ.heap H locs → ∀ ls : Array Slot, lv_has ls 2 [(0, .ref o)] → W pQ lQ eQ (wm_rm (fu + 1 + 3)) sQ mQ (Value.ref o :: []).toArray belowQ methQ cQ H locs 0 0 (MQ belowQ (wm_Q (fun vQ HQ => vQ = none ∧ mm_W G o (ff_ps (fu + 1) 1 S) E HQ) (mm_F o)) (Value.ref o :: []).toArray sQ 0 0 (mm_F o)) (F0 mQ 4 ls []) := by
    intro fu4
    induction fu4 with
    | zero =>
      intro S0 H locs hm4 R4 hgo4 hW hS ls hl
      obtain ⟨p1, p2, p3, p4, p5, p6, p7⟩ := R4.iv (by omega) hQ.1
      exact absurd hm4 (by omega)
    | succ fu4 ih4 =>
      intro S0 H locs hm4 R4 hgo4 hW hS ls hl
      have hP0 := R4.iv (by omega) hQ.1
      obtain ⟨p1, p2, p3, p4, p5, p6, p7⟩ := id hP0
      refine lv_aload_n hx hb dX5_product_4 rfl (lv_at hl 0 rfl) ?_
      refine mm_geti hx hb hts hown hK hW 48 rfl (by decide) q1733 dX5_product_5 ?_
      refine lv_if_ge (tgt := 66) hx hb dX5_product_8 (by decide) (fun c8 => ?_) (fun c8 => ?_)
      · have t8 : 0 ≤ ((fd_ S0 48)).toInt := ww_le c8
        refine mm_vret hx hb hr hlocks hW hS ?_ dX5_product_66
        have hres : ff_ps (fu + 1) 1 S = S0 := by rw [← hgo4]; simp only [fp_pr, fp_step, fp_adv, if_pos c8]
        exact ⟨hres.symm, rfl⟩
      · have t8 : ((fd_ S0 48)).toInt < 0 := ww_nle c8
        have hF0 : (fd_ S0 48).toInt < 0 := t8
        have hQ0 := R4.ivQ (by omega) hQ hF0
        have o0 := (R4.2.2.2.2.2.2 hF0).2
        refine lv_aload_n hx hb dX5_product_11 rfl (lv_at hl 0 rfl) ?_
        refine mm_callp (As := []) (rest := []) (n := 0) ⟨hx, hb, hml, hown, hts⟩ hK (mc_look lQ G o S0 E hP0) (lw_V q2163 q2165 qs54 q92 q2166) (by decide +kernel) rfl (wm_rmR (by omega) (by decide)) hW hS hl.1 rfl (Nat.le_of_ble_eq_true rfl) dX5_product_12 ⟨Nat.le_of_ble_eq_true rfl, Nat.le_of_ble_eq_true rfl⟩ (fun v12 H locs e12 hW hS => ?_)
        refine lv_bipush (v := 42) hx hb dX5_product_15 (by decide) ?_
        refine lv_icmp_eq (tgt := 38) hx hb dX5_product_17 (by decide) (fun c17 => ?_) (fun c17 => ?_)
        · skip
          have hlq : (fd_ S0 47).toInt < (fd_ S0 37).toInt := fp_look_lt (by first | rw [← e12, c17]; decide | rw [← e21, c26]; decide | rw [← e30, c35]; decide)
          refine lv_aload_n hx hb dX5_product_38 rfl (lv_at hl 0 rfl) ?_
          refine mm_callp (As := []) (rest := []) (n := 0) ⟨hx, hb, hml, hown, hts⟩ hK (mc_look lQ G o S0 E hP0) (lw_V q2163 q2165 qs54 q92 q2166) (by decide +kernel) rfl (wm_rmR (by omega) (by decide)) hW hS hl.1 rfl (Nat.le_of_ble_eq_true rfl) dX5_product_39 ⟨Nat.le_of_ble_eq_true rfl, Nat.le_of_ble_eq_true rfl⟩ (fun v39 H locs e39 hW hS => ?_)
          refine lv_istore_n (lv' := [(1, .int v39), (0, .ref o)]) hx hb dX5_product_42 rfl hl (by decide) rfl (fun ls hl => ?_)
          refine lv_aload_n hx hb dX5_product_43 rfl (lv_at hl 1 rfl) ?_
          refine lv_dup hx hb dX5_product_44 rfl ?_
          refine mm_geti hx hb hts hown hK hW 47 rfl (by decide) q1732 dX5_product_45 ?_
          refine lv_iconst (v := 1) hx hb dX5_product_48 (by decide) ?_
          refine nv_iadd hx hb dX5_product_49 (fun v49 e49 => ?_)
          refine mm_puti hx hb hts hown hK hW hS 47 rfl (by decide) rfl rfl rfl q1732 dX5_product_50 (fun S50 H locs f50 hW hS => ?_)
          have sA : S50 = fp_adv S0 := by rw [f50, e49]; rfl
          have qA : iv_Q S50 := by rw [sA]; exact fp_adv_Q hQ0 hlq
          have o50 : (fd_ S50 49).toInt = (fd_ S 49).toInt := by rw [sA, fp_adv_49, o0]; omega
          refine lv_aload_n hx hb dX5_product_53 rfl (lv_at hl 1 rfl) ?_
          refine mm_callv (As := []) (rest := []) (n := 0) ⟨hx, hb, hml, hown, hts⟩ hK (IH0 S50 E qA (by rw [o50]; omega)) (lw_V q2159 q2161 qs53 q92 q2162) (by decide +kernel) rfl (wm_rmR (by omega) (by decide)) hW hS hl.1 rfl (Nat.le_of_ble_eq_true rfl) dX5_product_54 ⟨Nat.le_of_ble_eq_true rfl, Nat.le_of_ble_eq_true rfl⟩ (fun S54 H locs f54 hW hS => ?_)
          have pB : iv_P S54 := by rw [f54]; exact (ps_ok fu 0).P qA
          refine lv_aload_n hx hb dX5_product_57 rfl (lv_at hl 1 rfl) ?_
          refine lv_iload_n hx hb dX5_product_58 rfl (lv_at hl 0 rfl) ?_
          refine lv_iconst (v := 0) hx hb dX5_product_59 (by decide) ?_
          refine mm_callv (As := [.int v39, .int 0]) (rest := []) (n := 2) ⟨hx, hb, hml, hown, hts⟩ hK (mc_lay lQ G o S54 E v39 0 pB) (lw_V q2170 q2172 qs55 q92 q2173) (by decide +kernel) rfl (wm_rmR (by omega) (by decide)) hW hS hl.1 rfl (Nat.le_of_ble_eq_true rfl) dX5_product_60 ⟨Nat.le_of_ble_eq_true rfl, Nat.le_of_ble_eq_true rfl⟩ (fun S60 H locs f60 hW hS => ?_)
          refine lv_goto (tgt := 4) hx hb dX5_product_63 (by decide) ?_
          have hs : S60 = fp_lay (ff_ps fu 0 (fp_adv S0)) (fp_look S0) 0 := by subst e12 e39 e49 f50 f54 f60; rfl
          have m1 := fp_op_47 (ps_ok fu 0) hQ0 hlq (fp_look S0) 0
          have r1 := R4.trans (fp_op_R (ps_ok fu 0) hQ0 hlq (fp_look S0) 0)
          have m2 : fd_ S60 37 = fd_ S0 37 := by rw [hs]; exact r1.1.trans R4.1.symm
          exact ih4 S60 H locs (by rw [m2, hs]; omega) (by rw [hs]; simpa using r1) (by subst e12 e39 e49 f50 f54 f60; simp only [fp_pr, fp_step, fp_adv, if_neg c8, if_pos c17] at hgo4; exact hgo4) hW hS ls (lv_sub hl [1] rfl)
        · skip
          refine lv_aload_n hx hb dX5_product_20 rfl (lv_at hl 0 rfl) ?_
          refine mm_callp (As := []) (rest := []) (n := 0) ⟨hx, hb, hml, hown, hts⟩ hK (mc_look lQ G o S0 E hP0) (lw_V q2163 q2165 qs54 q92 q2166) (by decide +kernel) rfl (wm_rmR (by omega) (by decide)) hW hS hl.1 rfl (Nat.le_of_ble_eq_true rfl) dX5_product_21 ⟨Nat.le_of_ble_eq_true rfl, Nat.le_of_ble_eq_true rfl⟩ (fun v21 H locs e21 hW hS => ?_)
          refine lv_bipush (v := 47) hx hb dX5_product_24 (by decide) ?_
          refine lv_icmp_eq (tgt := 38) hx hb dX5_product_26 (by decide) (fun c26 => ?_) (fun c26 => ?_)
          · skip
            have hlq : (fd_ S0 47).toInt < (fd_ S0 37).toInt := fp_look_lt (by first | rw [← e12, c17]; decide | rw [← e21, c26]; decide | rw [← e30, c35]; decide)
            refine lv_aload_n hx hb dX5_product_38 rfl (lv_at hl 0 rfl) ?_
            refine mm_callp (As := []) (rest := []) (n := 0) ⟨hx, hb, hml, hown, hts⟩ hK (mc_look lQ G o S0 E hP0) (lw_V q2163 q2165 qs54 q92 q2166) (by decide +kernel) rfl (wm_rmR (by omega) (by decide)) hW hS hl.1 rfl (Nat.le_of_ble_eq_true rfl) dX5_product_39 ⟨Nat.le_of_ble_eq_true rfl, Nat.le_of_ble_eq_true rfl⟩ (fun v39 H locs e39 hW hS => ?_)
            refine lv_istore_n (lv' := [(1, .int v39), (0, .ref o)]) hx hb dX5_product_42 rfl hl (by decide) rfl (fun ls hl => ?_)
            refine lv_aload_n hx hb dX5_product_43 rfl (lv_at hl 1 rfl) ?_
            refine lv_dup hx hb dX5_product_44 rfl ?_
            refine mm_geti hx hb hts hown hK hW 47 rfl (by decide) q1732 dX5_product_45 ?_
            refine lv_iconst (v := 1) hx hb dX5_product_48 (by decide) ?_
            refine nv_iadd hx hb dX5_product_49 (fun v49 e49 => ?_)
            refine mm_puti hx hb hts hown hK hW hS 47 rfl (by decide) rfl rfl rfl q1732 dX5_product_50 (fun S50 H locs f50 hW hS => ?_)
            have sA : S50 = fp_adv S0 := by rw [f50, e49]; rfl
            have qA : iv_Q S50 := by rw [sA]; exact fp_adv_Q hQ0 hlq
            have o50 : (fd_ S50 49).toInt = (fd_ S 49).toInt := by rw [sA, fp_adv_49, o0]; omega
            refine lv_aload_n hx hb dX5_product_53 rfl (lv_at hl 1 rfl) ?_
            refine mm_callv (As := []) (rest := []) (n := 0) ⟨hx, hb, hml, hown, hts⟩ hK (IH0 S50 E qA (by rw [o50]; omega)) (lw_V q2159 q2161 qs53 q92 q2162) (by decide +kernel) rfl (wm_rmR (by omega) (by decide)) hW hS hl.1 rfl (Nat.le_of_ble_eq_true rfl) dX5_product_54 ⟨Nat.le_of_ble_eq_true rfl, Nat.le_of_ble_eq_true rfl⟩ (fun S54 H locs f54 hW hS => ?_)
            have pB : iv_P S54 := by rw [f54]; exact (ps_ok fu 0).P qA
            refine lv_aload_n hx hb dX5_product_57 rfl (lv_at hl 1 rfl) ?_
            refine lv_iload_n hx hb dX5_product_58 rfl (lv_at hl 0 rfl) ?_
            refine lv_iconst (v := 0) hx hb dX5_product_59 (by decide) ?_
            refine mm_callv (As := [.int v39, .int 0]) (rest := []) (n := 2) ⟨hx, hb, hml, hown, hts⟩ hK (mc_lay lQ G o S54 E v39 0 pB) (lw_V q2170 q2172 qs55 q92 q2173) (by decide +kernel) rfl (wm_rmR (by omega) (by decide)) hW hS hl.1 rfl (Nat.le_of_ble_eq_true rfl) dX5_product_60 ⟨Nat.le_of_ble_eq_true rfl, Nat.le_of_ble_eq_true rfl⟩ (fun S60 H locs f60 hW hS => ?_)
            refine lv_goto (tgt := 4) hx hb dX5_product_63 (by decide) ?_
            have hs : S60 = fp_lay (ff_ps fu 0 (fp_adv S0)) (fp_look S0) 0 := by subst e12 e21 e39 e49 f50 f54 f60; rfl
            have m1 := fp_op_47 (ps_ok fu 0) hQ0 hlq (fp_look S0) 0
            have r1 := R4.trans (fp_op_R (ps_ok fu 0) hQ0 hlq (fp_look S0) 0)
            have m2 : fd_ S60 37 = fd_ S0 37 := by rw [hs]; exact r1.1.trans R4.1.symm
            exact ih4 S60 H locs (by rw [m2, hs]; omega) (by rw [hs]; simpa using r1) (by subst e12 e21 e39 e49 f50 f54 f60; simp only [fp_pr, fp_step, fp_adv, if_neg c8, if_neg c17, if_pos c26] at hgo4; exact hgo4) hW hS ls (lv_sub hl [1] rfl)
          · skip
            refine lv_aload_n hx hb dX5_product_29 rfl (lv_at hl 0 rfl) ?_
            refine mm_callp (As := []) (rest := []) (n := 0) ⟨hx, hb, hml, hown, hts⟩ hK (mc_look lQ G o S0 E hP0) (lw_V q2163 q2165 qs54 q92 q2166) (by decide +kernel) rfl (wm_rmR (by omega) (by decide)) hW hS hl.1 rfl (Nat.le_of_ble_eq_true rfl) dX5_product_30 ⟨Nat.le_of_ble_eq_true rfl, Nat.le_of_ble_eq_true rfl⟩ (fun v30 H locs e30 hW hS => ?_)
            refine lv_bipush (v := 37) hx hb dX5_product_33 (by decide) ?_
            refine lv_icmp_ne (tgt := 66) hx hb dX5_product_35 (by decide) (fun c35 => ?_) (fun c35 => ?_)
            · skip
              refine mm_vret hx hb hr hlocks hW hS ?_ dX5_product_66
              have hres : ff_ps (fu + 1) 1 S = S0 := by rw [← hgo4]; subst e12 e21 e30; simp only [fp_pr, fp_step, fp_adv, if_neg c8, if_neg c17, if_neg c26, if_neg c35]
              exact ⟨hres.symm, rfl⟩
            · skip
              have hlq : (fd_ S0 47).toInt < (fd_ S0 37).toInt := fp_look_lt (by first | rw [← e12, c17]; decide | rw [← e21, c26]; decide | rw [← e30, c35]; decide)
              refine lv_aload_n hx hb dX5_product_38 rfl (lv_at hl 0 rfl) ?_
              refine mm_callp (As := []) (rest := []) (n := 0) ⟨hx, hb, hml, hown, hts⟩ hK (mc_look lQ G o S0 E hP0) (lw_V q2163 q2165 qs54 q92 q2166) (by decide +kernel) rfl (wm_rmR (by omega) (by decide)) hW hS hl.1 rfl (Nat.le_of_ble_eq_true rfl) dX5_product_39 ⟨Nat.le_of_ble_eq_true rfl, Nat.le_of_ble_eq_true rfl⟩ (fun v39 H locs e39 hW hS => ?_)
              refine lv_istore_n (lv' := [(1, .int v39), (0, .ref o)]) hx hb dX5_product_42 rfl hl (by decide) rfl (fun ls hl => ?_)
              refine lv_aload_n hx hb dX5_product_43 rfl (lv_at hl 1 rfl) ?_
              refine lv_dup hx hb dX5_product_44 rfl ?_
              refine mm_geti hx hb hts hown hK hW 47 rfl (by decide) q1732 dX5_product_45 ?_
              refine lv_iconst (v := 1) hx hb dX5_product_48 (by decide) ?_
              refine nv_iadd hx hb dX5_product_49 (fun v49 e49 => ?_)
              refine mm_puti hx hb hts hown hK hW hS 47 rfl (by decide) rfl rfl rfl q1732 dX5_product_50 (fun S50 H locs f50 hW hS => ?_)
              have sA : S50 = fp_adv S0 := by rw [f50, e49]; rfl
              have qA : iv_Q S50 := by rw [sA]; exact fp_adv_Q hQ0 hlq
              have o50 : (fd_ S50 49).toInt = (fd_ S 49).toInt := by rw [sA, fp_adv_49, o0]; omega
              refine lv_aload_n hx hb dX5_product_53 rfl (lv_at hl 1 rfl) ?_
              refine mm_callv (As := []) (rest := []) (n := 0) ⟨hx, hb, hml, hown, hts⟩ hK (IH0 S50 E qA (by rw [o50]; omega)) (lw_V q2159 q2161 qs53 q92 q2162) (by decide +kernel) rfl (wm_rmR (by omega) (by decide)) hW hS hl.1 rfl (Nat.le_of_ble_eq_true rfl) dX5_product_54 ⟨Nat.le_of_ble_eq_true rfl, Nat.le_of_ble_eq_true rfl⟩ (fun S54 H locs f54 hW hS => ?_)
              have pB : iv_P S54 := by rw [f54]; exact (ps_ok fu 0).P qA
              refine lv_aload_n hx hb dX5_product_57 rfl (lv_at hl 1 rfl) ?_
              refine lv_iload_n hx hb dX5_product_58 rfl (lv_at hl 0 rfl) ?_
              refine lv_iconst (v := 0) hx hb dX5_product_59 (by decide) ?_
              refine mm_callv (As := [.int v39, .int 0]) (rest := []) (n := 2) ⟨hx, hb, hml, hown, hts⟩ hK (mc_lay lQ G o S54 E v39 0 pB) (lw_V q2170 q2172 qs55 q92 q2173) (by decide +kernel) rfl (wm_rmR (by omega) (by decide)) hW hS hl.1 rfl (Nat.le_of_ble_eq_true rfl) dX5_product_60 ⟨Nat.le_of_ble_eq_true rfl, Nat.le_of_ble_eq_true rfl⟩ (fun S60 H locs f60 hW hS => ?_)
              refine lv_goto (tgt := 4) hx hb dX5_product_63 (by decide) ?_
              have hs : S60 = fp_lay (ff_ps fu 0 (fp_adv S0)) (fp_look S0) 0 := by subst e12 e21 e30 e39 e49 f50 f54 f60; rfl
              have m1 := fp_op_47 (ps_ok fu 0) hQ0 hlq (fp_look S0) 0
              have r1 := R4.trans (fp_op_R (ps_ok fu 0) hQ0 hlq (fp_look S0) 0)
              have m2 : fd_ S60 37 = fd_ S0 37 := by rw [hs]; exact r1.1.trans R4.1.symm
              exact ih4 S60 H locs (by rw [m2, hs]; omega) (by rw [hs]; simpa using r1) (by subst e12 e21 e30 e39 e49 f50 f54 f60; simp only [fp_pr, fp_step, fp_adv, if_neg c8, if_neg c17, if_neg c26, if_pos c35] at hgo4; exact hgo4) hW hS ls (lv_sub hl [1] rfl)
  exact L4 161 S1 H locs (by rw [f1]; obtain ⟨p1, p2, p3, p4, p5, p6, p7⟩ := (ps_ok fu 0).P hQ; show _ < (161 : Int); omega) (by rw [f1]; exact ps_ok fu 0 S hQ) (by subst f1; rfl) hW hS ls (lv_sub hl [0] rfl)

set_option maxHeartbeats 4000000 in
theorem mc_sum (lQ : Launch) (G : wm_G) (o : Nat) (S : mm_S) (E : mm_E) (fu : Nat) (IH1 : ∀ (S : mm_S) (E : mm_E), iv_Q S → 7 * (8 - (fd_ S 49).toInt) + 2 ≤ fu → mm_Met lQ G o yX5_product (ws_ yX5_product cX5_product 2 none) (fu + 3) S E [] none (ff_ps fu 1 S) E) (hQ : iv_Q S) (hN : 7 * (8 - (fd_ S 49).toInt) + 3 ≤ fu + 1) : mm_Met lQ G o yX5_sum (ws_ yX5_sum cX5_sum 2 none) (fu + 1 + 3) S E [] (none) (ff_ps (fu + 1) 2 S) E := by
  refine mm_start (by decide +kernel) (Nat.le_of_ble_eq_true rfl) rfl (fun pQ eQ sQ mQ belowQ methQ cQ hx hb hml hr hlocks hts hown hK H hW hS ls hl => ?_)
  have hl : lv_has ls 2 [(0, .ref o)] := hl
  generalize hlc : ([] : List Loc) = locs at hS ⊢
  refine lv_aload_n hx hb dX5_sum_0 rfl (lv_at hl 0 rfl) ?_
  refine mm_callv (As := []) (rest := []) (n := 0) ⟨hx, hb, hml, hown, hts⟩ hK (IH1 S E hQ (by omega)) (lw_V q2155 q2157 qs52 q92 q2158) (by decide +kernel) rfl (wm_rmR (by omega) (by decide)) hW hS hl.1 rfl (Nat.le_of_ble_eq_true rfl) dX5_sum_1 ⟨Nat.le_of_ble_eq_true rfl, Nat.le_of_ble_eq_true rfl⟩ (fun S1 H locs f1 hW hS => ?_)
  have L4 : ∀ (fu4 : Nat) (S0 : mm_S) (H : Heap) (locs : List Loc), ((fd_ S0 37).toInt - (fd_ S0 47).toInt < fu4) → (fp_R 0 0 S S0) → (fp_su (ff_ps fu 1) fu4 S0 = ff_ps (fu + 1) 2 S) → mm_W G o S0 E H → va_S (mm_F o) sQ.heap H locs → ∀ ls : Array Slot, lv_has ls 2 [(0, .ref o)] → W pQ lQ eQ (wm_rm (fu + 1 + 3)) sQ mQ (Value.ref o :: []).toArray belowQ methQ cQ H locs 0 0 (MQ belowQ (wm_Q (fun vQ HQ => vQ = none ∧ mm_W G o (ff_ps (fu + 1) 2 S) E HQ) (mm_F o)) (Value.ref o :: []).toArray sQ 0 0 (mm_F o)) (F0 mQ 4 ls []) := by
    intro fu4
    induction fu4 with
    | zero =>
      intro S0 H locs hm4 R4 hgo4 hW hS ls hl
      obtain ⟨p1, p2, p3, p4, p5, p6, p7⟩ := R4.iv (by omega) hQ.1
      exact absurd hm4 (by omega)
    | succ fu4 ih4 =>
      intro S0 H locs hm4 R4 hgo4 hW hS ls hl
      have hP0 := R4.iv (by omega) hQ.1
      obtain ⟨p1, p2, p3, p4, p5, p6, p7⟩ := id hP0
      refine lv_aload_n hx hb dX5_sum_4 rfl (lv_at hl 0 rfl) ?_
      refine mm_geti hx hb hts hown hK hW 48 rfl (by decide) q1733 dX5_sum_5 ?_
      refine lv_if_ge (tgt := 57) hx hb dX5_sum_8 (by decide) (fun c8 => ?_) (fun c8 => ?_)
      · have t8 : 0 ≤ ((fd_ S0 48)).toInt := ww_le c8
        refine mm_vret hx hb hr hlocks hW hS ?_ dX5_sum_57
        have hres : ff_ps (fu + 1) 2 S = S0 := by rw [← hgo4]; simp only [fp_su, fp_step, fp_adv, if_pos c8]
        exact ⟨hres.symm, rfl⟩
      · have t8 : ((fd_ S0 48)).toInt < 0 := ww_nle c8
        have hF0 : (fd_ S0 48).toInt < 0 := t8
        have hQ0 := R4.ivQ (by omega) hQ hF0
        have o0 := (R4.2.2.2.2.2.2 hF0).2
        refine lv_aload_n hx hb dX5_sum_11 rfl (lv_at hl 0 rfl) ?_
        refine mm_callp (As := []) (rest := []) (n := 0) ⟨hx, hb, hml, hown, hts⟩ hK (mc_look lQ G o S0 E hP0) (lw_V q2163 q2165 qs54 q92 q2166) (by decide +kernel) rfl (wm_rmR (by omega) (by decide)) hW hS hl.1 rfl (Nat.le_of_ble_eq_true rfl) dX5_sum_12 ⟨Nat.le_of_ble_eq_true rfl, Nat.le_of_ble_eq_true rfl⟩ (fun v12 H locs e12 hW hS => ?_)
        refine lv_bipush (v := 43) hx hb dX5_sum_15 (by decide) ?_
        refine lv_icmp_eq (tgt := 29) hx hb dX5_sum_17 (by decide) (fun c17 => ?_) (fun c17 => ?_)
        · skip
          have hlq : (fd_ S0 47).toInt < (fd_ S0 37).toInt := fp_look_lt (by first | rw [← e12, c17]; decide | rw [← e21, c26]; decide)
          refine lv_aload_n hx hb dX5_sum_29 rfl (lv_at hl 0 rfl) ?_
          refine mm_callp (As := []) (rest := []) (n := 0) ⟨hx, hb, hml, hown, hts⟩ hK (mc_look lQ G o S0 E hP0) (lw_V q2163 q2165 qs54 q92 q2166) (by decide +kernel) rfl (wm_rmR (by omega) (by decide)) hW hS hl.1 rfl (Nat.le_of_ble_eq_true rfl) dX5_sum_30 ⟨Nat.le_of_ble_eq_true rfl, Nat.le_of_ble_eq_true rfl⟩ (fun v30 H locs e30 hW hS => ?_)
          refine lv_istore_n (lv' := [(1, .int v30), (0, .ref o)]) hx hb dX5_sum_33 rfl hl (by decide) rfl (fun ls hl => ?_)
          refine lv_aload_n hx hb dX5_sum_34 rfl (lv_at hl 1 rfl) ?_
          refine lv_dup hx hb dX5_sum_35 rfl ?_
          refine mm_geti hx hb hts hown hK hW 47 rfl (by decide) q1732 dX5_sum_36 ?_
          refine lv_iconst (v := 1) hx hb dX5_sum_39 (by decide) ?_
          refine nv_iadd hx hb dX5_sum_40 (fun v40 e40 => ?_)
          refine mm_puti hx hb hts hown hK hW hS 47 rfl (by decide) rfl rfl rfl q1732 dX5_sum_41 (fun S41 H locs f41 hW hS => ?_)
          have sA : S41 = fp_adv S0 := by rw [f41, e40]; rfl
          have qA : iv_Q S41 := by rw [sA]; exact fp_adv_Q hQ0 hlq
          have o50 : (fd_ S41 49).toInt = (fd_ S 49).toInt := by rw [sA, fp_adv_49, o0]; omega
          refine lv_aload_n hx hb dX5_sum_44 rfl (lv_at hl 1 rfl) ?_
          refine mm_callv (As := []) (rest := []) (n := 0) ⟨hx, hb, hml, hown, hts⟩ hK (IH1 S41 E qA (by rw [o50]; omega)) (lw_V q2155 q2157 qs52 q92 q2158) (by decide +kernel) rfl (wm_rmR (by omega) (by decide)) hW hS hl.1 rfl (Nat.le_of_ble_eq_true rfl) dX5_sum_45 ⟨Nat.le_of_ble_eq_true rfl, Nat.le_of_ble_eq_true rfl⟩ (fun S45 H locs f45 hW hS => ?_)
          have pB : iv_P S45 := by rw [f45]; exact (ps_ok fu 1).P qA
          refine lv_aload_n hx hb dX5_sum_48 rfl (lv_at hl 1 rfl) ?_
          refine lv_iload_n hx hb dX5_sum_49 rfl (lv_at hl 0 rfl) ?_
          refine lv_iconst (v := 0) hx hb dX5_sum_50 (by decide) ?_
          refine mm_callv (As := [.int v30, .int 0]) (rest := []) (n := 2) ⟨hx, hb, hml, hown, hts⟩ hK (mc_lay lQ G o S45 E v30 0 pB) (lw_V q2170 q2172 qs55 q92 q2173) (by decide +kernel) rfl (wm_rmR (by omega) (by decide)) hW hS hl.1 rfl (Nat.le_of_ble_eq_true rfl) dX5_sum_51 ⟨Nat.le_of_ble_eq_true rfl, Nat.le_of_ble_eq_true rfl⟩ (fun S51 H locs f51 hW hS => ?_)
          refine lv_goto (tgt := 4) hx hb dX5_sum_54 (by decide) ?_
          have hs : S51 = fp_lay (ff_ps fu 1 (fp_adv S0)) (fp_look S0) 0 := by subst e12 e30 e40 f41 f45 f51; rfl
          have m1 := fp_op_47 (ps_ok fu 1) hQ0 hlq (fp_look S0) 0
          have r1 := R4.trans (fp_op_R (ps_ok fu 1) hQ0 hlq (fp_look S0) 0)
          have m2 : fd_ S51 37 = fd_ S0 37 := by rw [hs]; exact r1.1.trans R4.1.symm
          exact ih4 S51 H locs (by rw [m2, hs]; omega) (by rw [hs]; simpa using r1) (by subst e12 e30 e40 f41 f45 f51; simp only [fp_su, fp_step, fp_adv, if_neg c8, if_pos c17] at hgo4; exact hgo4) hW hS ls (lv_sub hl [1] rfl)
        · skip
          refine lv_aload_n hx hb dX5_sum_20 rfl (lv_at hl 0 rfl) ?_
          refine mm_callp (As := []) (rest := []) (n := 0) ⟨hx, hb, hml, hown, hts⟩ hK (mc_look lQ G o S0 E hP0) (lw_V q2163 q2165 qs54 q92 q2166) (by decide +kernel) rfl (wm_rmR (by omega) (by decide)) hW hS hl.1 rfl (Nat.le_of_ble_eq_true rfl) dX5_sum_21 ⟨Nat.le_of_ble_eq_true rfl, Nat.le_of_ble_eq_true rfl⟩ (fun v21 H locs e21 hW hS => ?_)
          refine lv_bipush (v := 45) hx hb dX5_sum_24 (by decide) ?_
          refine lv_icmp_ne (tgt := 57) hx hb dX5_sum_26 (by decide) (fun c26 => ?_) (fun c26 => ?_)
          · skip
            refine mm_vret hx hb hr hlocks hW hS ?_ dX5_sum_57
            have hres : ff_ps (fu + 1) 2 S = S0 := by rw [← hgo4]; subst e12 e21; simp only [fp_su, fp_step, fp_adv, if_neg c8, if_neg c17, if_neg c26]
            exact ⟨hres.symm, rfl⟩
          · skip
            have hlq : (fd_ S0 47).toInt < (fd_ S0 37).toInt := fp_look_lt (by first | rw [← e12, c17]; decide | rw [← e21, c26]; decide)
            refine lv_aload_n hx hb dX5_sum_29 rfl (lv_at hl 0 rfl) ?_
            refine mm_callp (As := []) (rest := []) (n := 0) ⟨hx, hb, hml, hown, hts⟩ hK (mc_look lQ G o S0 E hP0) (lw_V q2163 q2165 qs54 q92 q2166) (by decide +kernel) rfl (wm_rmR (by omega) (by decide)) hW hS hl.1 rfl (Nat.le_of_ble_eq_true rfl) dX5_sum_30 ⟨Nat.le_of_ble_eq_true rfl, Nat.le_of_ble_eq_true rfl⟩ (fun v30 H locs e30 hW hS => ?_)
            refine lv_istore_n (lv' := [(1, .int v30), (0, .ref o)]) hx hb dX5_sum_33 rfl hl (by decide) rfl (fun ls hl => ?_)
            refine lv_aload_n hx hb dX5_sum_34 rfl (lv_at hl 1 rfl) ?_
            refine lv_dup hx hb dX5_sum_35 rfl ?_
            refine mm_geti hx hb hts hown hK hW 47 rfl (by decide) q1732 dX5_sum_36 ?_
            refine lv_iconst (v := 1) hx hb dX5_sum_39 (by decide) ?_
            refine nv_iadd hx hb dX5_sum_40 (fun v40 e40 => ?_)
            refine mm_puti hx hb hts hown hK hW hS 47 rfl (by decide) rfl rfl rfl q1732 dX5_sum_41 (fun S41 H locs f41 hW hS => ?_)
            have sA : S41 = fp_adv S0 := by rw [f41, e40]; rfl
            have qA : iv_Q S41 := by rw [sA]; exact fp_adv_Q hQ0 hlq
            have o50 : (fd_ S41 49).toInt = (fd_ S 49).toInt := by rw [sA, fp_adv_49, o0]; omega
            refine lv_aload_n hx hb dX5_sum_44 rfl (lv_at hl 1 rfl) ?_
            refine mm_callv (As := []) (rest := []) (n := 0) ⟨hx, hb, hml, hown, hts⟩ hK (IH1 S41 E qA (by rw [o50]; omega)) (lw_V q2155 q2157 qs52 q92 q2158) (by decide +kernel) rfl (wm_rmR (by omega) (by decide)) hW hS hl.1 rfl (Nat.le_of_ble_eq_true rfl) dX5_sum_45 ⟨Nat.le_of_ble_eq_true rfl, Nat.le_of_ble_eq_true rfl⟩ (fun S45 H locs f45 hW hS => ?_)
            have pB : iv_P S45 := by rw [f45]; exact (ps_ok fu 1).P qA
            refine lv_aload_n hx hb dX5_sum_48 rfl (lv_at hl 1 rfl) ?_
            refine lv_iload_n hx hb dX5_sum_49 rfl (lv_at hl 0 rfl) ?_
            refine lv_iconst (v := 0) hx hb dX5_sum_50 (by decide) ?_
            refine mm_callv (As := [.int v30, .int 0]) (rest := []) (n := 2) ⟨hx, hb, hml, hown, hts⟩ hK (mc_lay lQ G o S45 E v30 0 pB) (lw_V q2170 q2172 qs55 q92 q2173) (by decide +kernel) rfl (wm_rmR (by omega) (by decide)) hW hS hl.1 rfl (Nat.le_of_ble_eq_true rfl) dX5_sum_51 ⟨Nat.le_of_ble_eq_true rfl, Nat.le_of_ble_eq_true rfl⟩ (fun S51 H locs f51 hW hS => ?_)
            refine lv_goto (tgt := 4) hx hb dX5_sum_54 (by decide) ?_
            have hs : S51 = fp_lay (ff_ps fu 1 (fp_adv S0)) (fp_look S0) 0 := by subst e12 e21 e30 e40 f41 f45 f51; rfl
            have m1 := fp_op_47 (ps_ok fu 1) hQ0 hlq (fp_look S0) 0
            have r1 := R4.trans (fp_op_R (ps_ok fu 1) hQ0 hlq (fp_look S0) 0)
            have m2 : fd_ S51 37 = fd_ S0 37 := by rw [hs]; exact r1.1.trans R4.1.symm
            exact ih4 S51 H locs (by rw [m2, hs]; omega) (by rw [hs]; simpa using r1) (by subst e12 e21 e30 e40 f41 f45 f51; simp only [fp_su, fp_step, fp_adv, if_neg c8, if_neg c17, if_pos c26] at hgo4; exact hgo4) hW hS ls (lv_sub hl [1] rfl)
  exact L4 161 S1 H locs (by rw [f1]; obtain ⟨p1, p2, p3, p4, p5, p6, p7⟩ := (ps_ok fu 1).P hQ; show _ < (161 : Int); omega) (by rw [f1]; exact ps_ok fu 1 S hQ) (by subst f1; rfl) hW hS ls (lv_sub hl [0] rfl)

set_option maxHeartbeats 4000000 in
theorem mc_all (lQ : Launch) (G : wm_G) (o : Nat) (S : mm_S) (E : mm_E) (fu : Nat) (IH3 : ∀ (S : mm_S) (E : mm_E), iv_Q S → 7 * (8 - (fd_ S 49).toInt) + 4 ≤ fu → mm_Met lQ G o yX5_compared (ws_ yX5_compared cX5_compared 2 none) (fu + 3) S E [] none (ff_ps fu 3 S) E) (hQ : iv_Q S) (hN : 7 * (8 - (fd_ S 49).toInt) + 5 ≤ fu + 1) : mm_Met lQ G o yX5_all (ws_ yX5_all cX5_all 1 none) (fu + 1 + 3) S E [] (none) (ff_ps (fu + 1) 4 S) E := by
  refine mm_start (by decide +kernel) (Nat.le_of_ble_eq_true rfl) rfl (fun pQ eQ sQ mQ belowQ methQ cQ hx hb hml hr hlocks hts hown hK H hW hS ls hl => ?_)
  have hl : lv_has ls 1 [(0, .ref o)] := hl
  generalize hlc : ([] : List Loc) = locs at hS ⊢
  refine lv_aload_n hx hb dX5_all_0 rfl (lv_at hl 0 rfl) ?_
  refine mm_callv (As := []) (rest := []) (n := 0) ⟨hx, hb, hml, hown, hts⟩ hK (IH3 S E hQ (by omega)) (lw_V q2147 q2149 qs50 q92 q2150) (by decide +kernel) rfl (wm_rmR (by omega) (by decide)) hW hS hl.1 rfl (Nat.le_of_ble_eq_true rfl) dX5_all_1 ⟨Nat.le_of_ble_eq_true rfl, Nat.le_of_ble_eq_true rfl⟩ (fun S1 H locs f1 hW hS => ?_)
  have L4 : ∀ (fu4 : Nat) (S0 : mm_S) (H : Heap) (locs : List Loc), ((fd_ S0 37).toInt - (fd_ S0 47).toInt < fu4) → (fp_R 0 0 S S0) → (fp_al (ff_ps fu 3) fu4 S0 = ff_ps (fu + 1) 4 S) → mm_W G o S0 E H → va_S (mm_F o) sQ.heap H locs → ∀ ls : Array Slot, lv_has ls 1 [(0, .ref o)] → W pQ lQ eQ (wm_rm (fu + 1 + 3)) sQ mQ (Value.ref o :: []).toArray belowQ methQ cQ H locs 0 0 (MQ belowQ (wm_Q (fun vQ HQ => vQ = none ∧ mm_W G o (ff_ps (fu + 1) 4 S) E HQ) (mm_F o)) (Value.ref o :: []).toArray sQ 0 0 (mm_F o)) (F0 mQ 4 ls []) := by
    intro fu4
    induction fu4 with
    | zero =>
      intro S0 H locs hm4 R4 hgo4 hW hS ls hl
      obtain ⟨p1, p2, p3, p4, p5, p6, p7⟩ := R4.iv (by omega) hQ.1
      exact absurd hm4 (by omega)
    | succ fu4 ih4 =>
      intro S0 H locs hm4 R4 hgo4 hW hS ls hl
      have hP0 := R4.iv (by omega) hQ.1
      obtain ⟨p1, p2, p3, p4, p5, p6, p7⟩ := id hP0
      refine lv_aload_n hx hb dX5_all_4 rfl (lv_at hl 0 rfl) ?_
      refine mm_geti hx hb hts hown hK hW 48 rfl (by decide) q1733 dX5_all_5 ?_
      refine lv_if_ge (tgt := 44) hx hb dX5_all_8 (by decide) (fun c8 => ?_) (fun c8 => ?_)
      · have t8 : 0 ≤ ((fd_ S0 48)).toInt := ww_le c8
        refine mm_vret hx hb hr hlocks hW hS ?_ dX5_all_44
        have hres : ff_ps (fu + 1) 4 S = S0 := by rw [← hgo4]; simp only [fp_al, fp_step, fp_adv, if_pos c8]
        exact ⟨hres.symm, rfl⟩
      · have t8 : ((fd_ S0 48)).toInt < 0 := ww_nle c8
        have hF0 : (fd_ S0 48).toInt < 0 := t8
        have hQ0 := R4.ivQ (by omega) hQ hF0
        have o0 := (R4.2.2.2.2.2.2 hF0).2
        refine lv_aload_n hx hb dX5_all_11 rfl (lv_at hl 0 rfl) ?_
        refine mm_callp (As := []) (rest := []) (n := 0) ⟨hx, hb, hml, hown, hts⟩ hK (mc_look lQ G o S0 E hP0) (lw_V q2163 q2165 qs54 q92 q2166) (by decide +kernel) rfl (wm_rmR (by omega) (by decide)) hW hS hl.1 rfl (Nat.le_of_ble_eq_true rfl) dX5_all_12 ⟨Nat.le_of_ble_eq_true rfl, Nat.le_of_ble_eq_true rfl⟩ (fun v12 H locs e12 hW hS => ?_)
        refine lv_bipush (v := 38) hx hb dX5_all_15 (by decide) ?_
        refine lv_icmp_ne (tgt := 44) hx hb dX5_all_17 (by decide) (fun c17 => ?_) (fun c17 => ?_)
        · skip
          refine mm_vret hx hb hr hlocks hW hS ?_ dX5_all_44
          have hres : ff_ps (fu + 1) 4 S = S0 := by rw [← hgo4]; subst e12; simp only [fp_al, fp_step, fp_adv, if_neg c8, if_neg c17]
          exact ⟨hres.symm, rfl⟩
        · skip
          have hlq : (fd_ S0 47).toInt < (fd_ S0 37).toInt := fp_look_lt (by first | rw [← e12, c17]; decide)
          refine lv_aload_n hx hb dX5_all_20 rfl (lv_at hl 0 rfl) ?_
          refine lv_dup hx hb dX5_all_21 rfl ?_
          refine mm_geti hx hb hts hown hK hW 47 rfl (by decide) q1732 dX5_all_22 ?_
          refine lv_iconst (v := 1) hx hb dX5_all_25 (by decide) ?_
          refine nv_iadd hx hb dX5_all_26 (fun v26 e26 => ?_)
          refine mm_puti hx hb hts hown hK hW hS 47 rfl (by decide) rfl rfl rfl q1732 dX5_all_27 (fun S27 H locs f27 hW hS => ?_)
          have sA : S27 = fp_adv S0 := by rw [f27, e26]; rfl
          have qA : iv_Q S27 := by rw [sA]; exact fp_adv_Q hQ0 hlq
          have o50 : (fd_ S27 49).toInt = (fd_ S 49).toInt := by rw [sA, fp_adv_49, o0]; omega
          refine lv_aload_n hx hb dX5_all_30 rfl (lv_at hl 0 rfl) ?_
          refine mm_callv (As := []) (rest := []) (n := 0) ⟨hx, hb, hml, hown, hts⟩ hK (IH3 S27 E qA (by rw [o50]; omega)) (lw_V q2147 q2149 qs50 q92 q2150) (by decide +kernel) rfl (wm_rmR (by omega) (by decide)) hW hS hl.1 rfl (Nat.le_of_ble_eq_true rfl) dX5_all_31 ⟨Nat.le_of_ble_eq_true rfl, Nat.le_of_ble_eq_true rfl⟩ (fun S31 H locs f31 hW hS => ?_)
          have pB : iv_P S31 := by rw [f31]; exact (ps_ok fu 3).P qA
          refine lv_aload_n hx hb dX5_all_34 rfl (lv_at hl 0 rfl) ?_
          refine lv_bipush (v := 38) hx hb dX5_all_35 (by decide) ?_
          refine lv_iconst (v := 0) hx hb dX5_all_37 (by decide) ?_
          refine mm_callv (As := [.int 38, .int 0]) (rest := []) (n := 2) ⟨hx, hb, hml, hown, hts⟩ hK (mc_lay lQ G o S31 E 38 0 pB) (lw_V q2170 q2172 qs55 q92 q2173) (by decide +kernel) rfl (wm_rmR (by omega) (by decide)) hW hS hl.1 rfl (Nat.le_of_ble_eq_true rfl) dX5_all_38 ⟨Nat.le_of_ble_eq_true rfl, Nat.le_of_ble_eq_true rfl⟩ (fun S38 H locs f38 hW hS => ?_)
          refine lv_goto (tgt := 4) hx hb dX5_all_41 (by decide) ?_
          have hs : S38 = fp_lay (ff_ps fu 3 (fp_adv S0)) 38 0 := by subst e12 e26 f27 f31 f38; rfl
          have m1 := fp_op_47 (ps_ok fu 3) hQ0 hlq 38 0
          have r1 := R4.trans (fp_op_R (ps_ok fu 3) hQ0 hlq 38 0)
          have m2 : fd_ S38 37 = fd_ S0 37 := by rw [hs]; exact r1.1.trans R4.1.symm
          exact ih4 S38 H locs (by rw [m2, hs]; omega) (by rw [hs]; simpa using r1) (by subst e12 e26 f27 f31 f38; simp only [fp_al, fp_step, fp_adv, if_neg c8, if_pos c17] at hgo4; exact hgo4) hW hS ls (lv_sub hl [0] rfl)
  exact L4 161 S1 H locs (by rw [f1]; obtain ⟨p1, p2, p3, p4, p5, p6, p7⟩ := (ps_ok fu 3).P hQ; show _ < (161 : Int); omega) (by rw [f1]; exact ps_ok fu 3 S hQ) (by subst f1; rfl) hW hS ls (lv_sub hl [0] rfl)

set_option maxHeartbeats 4000000 in
theorem mc_either (lQ : Launch) (G : wm_G) (o : Nat) (S : mm_S) (E : mm_E) (fu : Nat) (IH4 : ∀ (S : mm_S) (E : mm_E), iv_Q S → 7 * (8 - (fd_ S 49).toInt) + 5 ≤ fu → mm_Met lQ G o yX5_all (ws_ yX5_all cX5_all 1 none) (fu + 3) S E [] none (ff_ps fu 4 S) E) (hQ : iv_Q S) (hN : 7 * (8 - (fd_ S 49).toInt) + 6 ≤ fu + 1) : mm_Met lQ G o yX5_either (ws_ yX5_either cX5_either 1 none) (fu + 1 + 3) S E [] (none) (ff_ps (fu + 1) 5 S) E := by
  refine mm_start (by decide +kernel) (Nat.le_of_ble_eq_true rfl) rfl (fun pQ eQ sQ mQ belowQ methQ cQ hx hb hml hr hlocks hts hown hK H hW hS ls hl => ?_)
  have hl : lv_has ls 1 [(0, .ref o)] := hl
  generalize hlc : ([] : List Loc) = locs at hS ⊢
  refine lv_aload_n hx hb dX5_either_0 rfl (lv_at hl 0 rfl) ?_
  refine mm_callv (As := []) (rest := []) (n := 0) ⟨hx, hb, hml, hown, hts⟩ hK (IH4 S E hQ (by omega)) (lw_V q2143 q2145 qs49 q92 q2146) (by decide +kernel) rfl (wm_rmR (by omega) (by decide)) hW hS hl.1 rfl (Nat.le_of_ble_eq_true rfl) dX5_either_1 ⟨Nat.le_of_ble_eq_true rfl, Nat.le_of_ble_eq_true rfl⟩ (fun S1 H locs f1 hW hS => ?_)
  have L4 : ∀ (fu4 : Nat) (S0 : mm_S) (H : Heap) (locs : List Loc), ((fd_ S0 37).toInt - (fd_ S0 47).toInt < fu4) → (fp_R 0 0 S S0) → (fp_ei (ff_ps fu 4) fu4 S0 = ff_ps (fu + 1) 5 S) → mm_W G o S0 E H → va_S (mm_F o) sQ.heap H locs → ∀ ls : Array Slot, lv_has ls 1 [(0, .ref o)] → W pQ lQ eQ (wm_rm (fu + 1 + 3)) sQ mQ (Value.ref o :: []).toArray belowQ methQ cQ H locs 0 0 (MQ belowQ (wm_Q (fun vQ HQ => vQ = none ∧ mm_W G o (ff_ps (fu + 1) 5 S) E HQ) (mm_F o)) (Value.ref o :: []).toArray sQ 0 0 (mm_F o)) (F0 mQ 4 ls []) := by
    intro fu4
    induction fu4 with
    | zero =>
      intro S0 H locs hm4 R4 hgo4 hW hS ls hl
      obtain ⟨p1, p2, p3, p4, p5, p6, p7⟩ := R4.iv (by omega) hQ.1
      exact absurd hm4 (by omega)
    | succ fu4 ih4 =>
      intro S0 H locs hm4 R4 hgo4 hW hS ls hl
      have hP0 := R4.iv (by omega) hQ.1
      obtain ⟨p1, p2, p3, p4, p5, p6, p7⟩ := id hP0
      refine lv_aload_n hx hb dX5_either_4 rfl (lv_at hl 0 rfl) ?_
      refine mm_geti hx hb hts hown hK hW 48 rfl (by decide) q1733 dX5_either_5 ?_
      refine lv_if_ge (tgt := 44) hx hb dX5_either_8 (by decide) (fun c8 => ?_) (fun c8 => ?_)
      · have t8 : 0 ≤ ((fd_ S0 48)).toInt := ww_le c8
        refine mm_vret hx hb hr hlocks hW hS ?_ dX5_either_44
        have hres : ff_ps (fu + 1) 5 S = S0 := by rw [← hgo4]; simp only [fp_ei, fp_step, fp_adv, if_pos c8]
        exact ⟨hres.symm, rfl⟩
      · have t8 : ((fd_ S0 48)).toInt < 0 := ww_nle c8
        have hF0 : (fd_ S0 48).toInt < 0 := t8
        have hQ0 := R4.ivQ (by omega) hQ hF0
        have o0 := (R4.2.2.2.2.2.2 hF0).2
        refine lv_aload_n hx hb dX5_either_11 rfl (lv_at hl 0 rfl) ?_
        refine mm_callp (As := []) (rest := []) (n := 0) ⟨hx, hb, hml, hown, hts⟩ hK (mc_look lQ G o S0 E hP0) (lw_V q2163 q2165 qs54 q92 q2166) (by decide +kernel) rfl (wm_rmR (by omega) (by decide)) hW hS hl.1 rfl (Nat.le_of_ble_eq_true rfl) dX5_either_12 ⟨Nat.le_of_ble_eq_true rfl, Nat.le_of_ble_eq_true rfl⟩ (fun v12 H locs e12 hW hS => ?_)
        refine lv_bipush (v := 124) hx hb dX5_either_15 (by decide) ?_
        refine lv_icmp_ne (tgt := 44) hx hb dX5_either_17 (by decide) (fun c17 => ?_) (fun c17 => ?_)
        · skip
          refine mm_vret hx hb hr hlocks hW hS ?_ dX5_either_44
          have hres : ff_ps (fu + 1) 5 S = S0 := by rw [← hgo4]; subst e12; simp only [fp_ei, fp_step, fp_adv, if_neg c8, if_neg c17]
          exact ⟨hres.symm, rfl⟩
        · skip
          have hlq : (fd_ S0 47).toInt < (fd_ S0 37).toInt := fp_look_lt (by first | rw [← e12, c17]; decide)
          refine lv_aload_n hx hb dX5_either_20 rfl (lv_at hl 0 rfl) ?_
          refine lv_dup hx hb dX5_either_21 rfl ?_
          refine mm_geti hx hb hts hown hK hW 47 rfl (by decide) q1732 dX5_either_22 ?_
          refine lv_iconst (v := 1) hx hb dX5_either_25 (by decide) ?_
          refine nv_iadd hx hb dX5_either_26 (fun v26 e26 => ?_)
          refine mm_puti hx hb hts hown hK hW hS 47 rfl (by decide) rfl rfl rfl q1732 dX5_either_27 (fun S27 H locs f27 hW hS => ?_)
          have sA : S27 = fp_adv S0 := by rw [f27, e26]; rfl
          have qA : iv_Q S27 := by rw [sA]; exact fp_adv_Q hQ0 hlq
          have o50 : (fd_ S27 49).toInt = (fd_ S 49).toInt := by rw [sA, fp_adv_49, o0]; omega
          refine lv_aload_n hx hb dX5_either_30 rfl (lv_at hl 0 rfl) ?_
          refine mm_callv (As := []) (rest := []) (n := 0) ⟨hx, hb, hml, hown, hts⟩ hK (IH4 S27 E qA (by rw [o50]; omega)) (lw_V q2143 q2145 qs49 q92 q2146) (by decide +kernel) rfl (wm_rmR (by omega) (by decide)) hW hS hl.1 rfl (Nat.le_of_ble_eq_true rfl) dX5_either_31 ⟨Nat.le_of_ble_eq_true rfl, Nat.le_of_ble_eq_true rfl⟩ (fun S31 H locs f31 hW hS => ?_)
          have pB : iv_P S31 := by rw [f31]; exact (ps_ok fu 4).P qA
          refine lv_aload_n hx hb dX5_either_34 rfl (lv_at hl 0 rfl) ?_
          refine lv_bipush (v := 124) hx hb dX5_either_35 (by decide) ?_
          refine lv_iconst (v := 0) hx hb dX5_either_37 (by decide) ?_
          refine mm_callv (As := [.int 124, .int 0]) (rest := []) (n := 2) ⟨hx, hb, hml, hown, hts⟩ hK (mc_lay lQ G o S31 E 124 0 pB) (lw_V q2170 q2172 qs55 q92 q2173) (by decide +kernel) rfl (wm_rmR (by omega) (by decide)) hW hS hl.1 rfl (Nat.le_of_ble_eq_true rfl) dX5_either_38 ⟨Nat.le_of_ble_eq_true rfl, Nat.le_of_ble_eq_true rfl⟩ (fun S38 H locs f38 hW hS => ?_)
          refine lv_goto (tgt := 4) hx hb dX5_either_41 (by decide) ?_
          have hs : S38 = fp_lay (ff_ps fu 4 (fp_adv S0)) 124 0 := by subst e12 e26 f27 f31 f38; rfl
          have m1 := fp_op_47 (ps_ok fu 4) hQ0 hlq 124 0
          have r1 := R4.trans (fp_op_R (ps_ok fu 4) hQ0 hlq 124 0)
          have m2 : fd_ S38 37 = fd_ S0 37 := by rw [hs]; exact r1.1.trans R4.1.symm
          exact ih4 S38 H locs (by rw [m2, hs]; omega) (by rw [hs]; simpa using r1) (by subst e12 e26 f27 f31 f38; simp only [fp_ei, fp_step, fp_adv, if_neg c8, if_pos c17] at hgo4; exact hgo4) hW hS ls (lv_sub hl [0] rfl)
  exact L4 161 S1 H locs (by rw [f1]; obtain ⟨p1, p2, p3, p4, p5, p6, p7⟩ := (ps_ok fu 4).P hQ; show _ < (161 : Int); omega) (by rw [f1]; exact ps_ok fu 4 S hQ) (by subst f1; rfl) hW hS ls (lv_sub hl [0] rfl)

set_option maxHeartbeats 4000000 in
theorem mc_compared (lQ : Launch) (G : wm_G) (o : Nat) (S : mm_S) (E : mm_E) (fu : Nat) (IH2 : ∀ (S : mm_S) (E : mm_E), iv_Q S → 7 * (8 - (fd_ S 49).toInt) + 3 ≤ fu → mm_Met lQ G o yX5_sum (ws_ yX5_sum cX5_sum 2 none) (fu + 3) S E [] none (ff_ps fu 2 S) E) (hQ : iv_Q S) (hN : 7 * (8 - (fd_ S 49).toInt) + 4 ≤ fu + 1) : mm_Met lQ G o yX5_compared (ws_ yX5_compared cX5_compared 2 none) (fu + 1 + 3) S E [] (none) (ff_ps (fu + 1) 3 S) E := by
  refine mm_start (by decide +kernel) (Nat.le_of_ble_eq_true rfl) rfl (fun pQ eQ sQ mQ belowQ methQ cQ hx hb hml hr hlocks hts hown hK H hW hS ls hl => ?_)
  have hl : lv_has ls 2 [(0, .ref o)] := hl
  generalize hlc : ([] : List Loc) = locs at hS ⊢
  refine lv_aload_n hx hb dX5_compared_0 rfl (lv_at hl 0 rfl) ?_
  refine mm_callv (As := []) (rest := []) (n := 0) ⟨hx, hb, hml, hown, hts⟩ hK (IH2 S E hQ (by omega)) (lw_V q2151 q2153 qs51 q92 q2154) (by decide +kernel) rfl (wm_rmR (by omega) (by decide)) hW hS hl.1 rfl (Nat.le_of_ble_eq_true rfl) dX5_compared_1 ⟨Nat.le_of_ble_eq_true rfl, Nat.le_of_ble_eq_true rfl⟩ (fun S1 H locs f1 hW hS => ?_)
  have hP1 : iv_P S1 := by rw [f1]; exact (ps_ok fu 2).P hQ
  refine lv_aload_n hx hb dX5_compared_4 rfl (lv_at hl 0 rfl) ?_
  refine mm_callp (As := []) (rest := []) (n := 0) ⟨hx, hb, hml, hown, hts⟩ hK (mc_look lQ G o S1 E hP1) (lw_V q2163 q2165 qs54 q92 q2166) (by decide +kernel) rfl (wm_rmR (by omega) (by decide)) hW hS hl.1 rfl (Nat.le_of_ble_eq_true rfl) dX5_compared_5 ⟨Nat.le_of_ble_eq_true rfl, Nat.le_of_ble_eq_true rfl⟩ (fun v5 H locs e5 hW hS => ?_)
  refine lv_istore_n (lv' := [(1, .int v5), (0, .ref o)]) hx hb dX5_compared_8 rfl hl (by decide) rfl (fun ls hl => ?_)
  refine lv_aload_n hx hb dX5_compared_9 rfl (lv_at hl 1 rfl) ?_
  refine mm_geti hx hb hts hown hK hW 48 rfl (by decide) q1733 dX5_compared_10 ?_
  refine lv_if_ge (tgt := 34) hx hb dX5_compared_13 (by decide) (fun c13 => ?_) (fun c13 => ?_)
  · have t13 : 0 ≤ ((fd_ S1 48)).toInt := ww_le c13
    refine mm_vret hx hb hr hlocks hW hS ?_ dX5_compared_34
    have hres : ff_ps (fu + 1) 3 S = S1 := by subst f1 e5; simp only [ff_ps, fp_co, fp_step, fp_adv, if_pos c13]
    exact ⟨hres.symm, rfl⟩
  · have t13 : ((fd_ S1 48)).toInt < 0 := ww_nle c13
    refine lv_iload_n hx hb dX5_compared_16 rfl (lv_at hl 0 rfl) ?_
    refine lv_bipush (v := 60) hx hb dX5_compared_17 (by decide) ?_
    refine lv_icmp_eq (tgt := 35) hx hb dX5_compared_19 (by decide) (fun c19 => ?_) (fun c19 => ?_)
    · skip
      have hF1 : (fd_ S1 48).toInt < 0 := t13
      have R1 : fp_R 0 0 S S1 := by rw [f1]; exact ps_ok fu 2 S hQ
      have hQ1 := R1.ivQ (by omega) hQ hF1
      have o1 := (R1.2.2.2.2.2.2 hF1).2
      have hlq : (fd_ S1 47).toInt < (fd_ S1 37).toInt := fp_look_lt (by first | rw [← e5, c19]; decide | rw [← e5, c25]; decide | rw [← e5, c31]; decide)
      refine lv_aload_n hx hb dX5_compared_35 rfl (lv_at hl 1 rfl) ?_
      refine lv_dup hx hb dX5_compared_36 rfl ?_
      refine mm_geti hx hb hts hown hK hW 47 rfl (by decide) q1732 dX5_compared_37 ?_
      refine lv_iconst (v := 1) hx hb dX5_compared_40 (by decide) ?_
      refine nv_iadd hx hb dX5_compared_41 (fun v41 e41 => ?_)
      refine mm_puti hx hb hts hown hK hW hS 47 rfl (by decide) rfl rfl rfl q1732 dX5_compared_42 (fun S42 H locs f42 hW hS => ?_)
      have sA : S42 = fp_adv S1 := by rw [f42, e41]; rfl
      have qA : iv_Q S42 := by rw [sA]; exact fp_adv_Q hQ1 hlq
      have o42 : (fd_ S42 49).toInt = (fd_ S 49).toInt := by rw [sA, fp_adv_49, o1]; omega
      refine lv_aload_n hx hb dX5_compared_45 rfl (lv_at hl 1 rfl) ?_
      refine mm_callv (As := []) (rest := []) (n := 0) ⟨hx, hb, hml, hown, hts⟩ hK (IH2 S42 E qA (by rw [o42]; omega)) (lw_V q2151 q2153 qs51 q92 q2154) (by decide +kernel) rfl (wm_rmR (by omega) (by decide)) hW hS hl.1 rfl (Nat.le_of_ble_eq_true rfl) dX5_compared_46 ⟨Nat.le_of_ble_eq_true rfl, Nat.le_of_ble_eq_true rfl⟩ (fun S46 H locs f46 hW hS => ?_)
      have pB : iv_P S46 := by rw [f46]; exact (ps_ok fu 2).P qA
      refine lv_aload_n hx hb dX5_compared_49 rfl (lv_at hl 1 rfl) ?_
      refine lv_iload_n hx hb dX5_compared_50 rfl (lv_at hl 0 rfl) ?_
      refine lv_iconst (v := 0) hx hb dX5_compared_51 (by decide) ?_
      refine mm_callv (As := [.int v5, .int 0]) (rest := []) (n := 2) ⟨hx, hb, hml, hown, hts⟩ hK (mc_lay lQ G o S46 E v5 0 pB) (lw_V q2170 q2172 qs55 q92 q2173) (by decide +kernel) rfl (wm_rmR (by omega) (by decide)) hW hS hl.1 rfl (Nat.le_of_ble_eq_true rfl) dX5_compared_52 ⟨Nat.le_of_ble_eq_true rfl, Nat.le_of_ble_eq_true rfl⟩ (fun S52 H locs f52 hW hS => ?_)
      refine mm_vret hx hb hr hlocks hW hS ?_ dX5_compared_55
      have hres : ff_ps (fu + 1) 3 S = S52 := by subst f1 e5 e41 f42 f46 f52; simp only [ff_ps, fp_co, fp_step, fp_adv, if_neg c13, if_pos c19]
      exact ⟨hres.symm, rfl⟩
    · skip
      refine lv_iload_n hx hb dX5_compared_22 rfl (lv_at hl 0 rfl) ?_
      refine lv_bipush (v := 61) hx hb dX5_compared_23 (by decide) ?_
      refine lv_icmp_eq (tgt := 35) hx hb dX5_compared_25 (by decide) (fun c25 => ?_) (fun c25 => ?_)
      · skip
        have hF1 : (fd_ S1 48).toInt < 0 := t13
        have R1 : fp_R 0 0 S S1 := by rw [f1]; exact ps_ok fu 2 S hQ
        have hQ1 := R1.ivQ (by omega) hQ hF1
        have o1 := (R1.2.2.2.2.2.2 hF1).2
        have hlq : (fd_ S1 47).toInt < (fd_ S1 37).toInt := fp_look_lt (by first | rw [← e5, c19]; decide | rw [← e5, c25]; decide | rw [← e5, c31]; decide)
        refine lv_aload_n hx hb dX5_compared_35 rfl (lv_at hl 1 rfl) ?_
        refine lv_dup hx hb dX5_compared_36 rfl ?_
        refine mm_geti hx hb hts hown hK hW 47 rfl (by decide) q1732 dX5_compared_37 ?_
        refine lv_iconst (v := 1) hx hb dX5_compared_40 (by decide) ?_
        refine nv_iadd hx hb dX5_compared_41 (fun v41 e41 => ?_)
        refine mm_puti hx hb hts hown hK hW hS 47 rfl (by decide) rfl rfl rfl q1732 dX5_compared_42 (fun S42 H locs f42 hW hS => ?_)
        have sA : S42 = fp_adv S1 := by rw [f42, e41]; rfl
        have qA : iv_Q S42 := by rw [sA]; exact fp_adv_Q hQ1 hlq
        have o42 : (fd_ S42 49).toInt = (fd_ S 49).toInt := by rw [sA, fp_adv_49, o1]; omega
        refine lv_aload_n hx hb dX5_compared_45 rfl (lv_at hl 1 rfl) ?_
        refine mm_callv (As := []) (rest := []) (n := 0) ⟨hx, hb, hml, hown, hts⟩ hK (IH2 S42 E qA (by rw [o42]; omega)) (lw_V q2151 q2153 qs51 q92 q2154) (by decide +kernel) rfl (wm_rmR (by omega) (by decide)) hW hS hl.1 rfl (Nat.le_of_ble_eq_true rfl) dX5_compared_46 ⟨Nat.le_of_ble_eq_true rfl, Nat.le_of_ble_eq_true rfl⟩ (fun S46 H locs f46 hW hS => ?_)
        have pB : iv_P S46 := by rw [f46]; exact (ps_ok fu 2).P qA
        refine lv_aload_n hx hb dX5_compared_49 rfl (lv_at hl 1 rfl) ?_
        refine lv_iload_n hx hb dX5_compared_50 rfl (lv_at hl 0 rfl) ?_
        refine lv_iconst (v := 0) hx hb dX5_compared_51 (by decide) ?_
        refine mm_callv (As := [.int v5, .int 0]) (rest := []) (n := 2) ⟨hx, hb, hml, hown, hts⟩ hK (mc_lay lQ G o S46 E v5 0 pB) (lw_V q2170 q2172 qs55 q92 q2173) (by decide +kernel) rfl (wm_rmR (by omega) (by decide)) hW hS hl.1 rfl (Nat.le_of_ble_eq_true rfl) dX5_compared_52 ⟨Nat.le_of_ble_eq_true rfl, Nat.le_of_ble_eq_true rfl⟩ (fun S52 H locs f52 hW hS => ?_)
        refine mm_vret hx hb hr hlocks hW hS ?_ dX5_compared_55
        have hres : ff_ps (fu + 1) 3 S = S52 := by subst f1 e5 e41 f42 f46 f52; simp only [ff_ps, fp_co, fp_step, fp_adv, if_neg c13, if_neg c19, if_pos c25]
        exact ⟨hres.symm, rfl⟩
      · skip
        refine lv_iload_n hx hb dX5_compared_28 rfl (lv_at hl 0 rfl) ?_
        refine lv_bipush (v := 62) hx hb dX5_compared_29 (by decide) ?_
        refine lv_icmp_eq (tgt := 35) hx hb dX5_compared_31 (by decide) (fun c31 => ?_) (fun c31 => ?_)
        · skip
          have hF1 : (fd_ S1 48).toInt < 0 := t13
          have R1 : fp_R 0 0 S S1 := by rw [f1]; exact ps_ok fu 2 S hQ
          have hQ1 := R1.ivQ (by omega) hQ hF1
          have o1 := (R1.2.2.2.2.2.2 hF1).2
          have hlq : (fd_ S1 47).toInt < (fd_ S1 37).toInt := fp_look_lt (by first | rw [← e5, c19]; decide | rw [← e5, c25]; decide | rw [← e5, c31]; decide)
          refine lv_aload_n hx hb dX5_compared_35 rfl (lv_at hl 1 rfl) ?_
          refine lv_dup hx hb dX5_compared_36 rfl ?_
          refine mm_geti hx hb hts hown hK hW 47 rfl (by decide) q1732 dX5_compared_37 ?_
          refine lv_iconst (v := 1) hx hb dX5_compared_40 (by decide) ?_
          refine nv_iadd hx hb dX5_compared_41 (fun v41 e41 => ?_)
          refine mm_puti hx hb hts hown hK hW hS 47 rfl (by decide) rfl rfl rfl q1732 dX5_compared_42 (fun S42 H locs f42 hW hS => ?_)
          have sA : S42 = fp_adv S1 := by rw [f42, e41]; rfl
          have qA : iv_Q S42 := by rw [sA]; exact fp_adv_Q hQ1 hlq
          have o42 : (fd_ S42 49).toInt = (fd_ S 49).toInt := by rw [sA, fp_adv_49, o1]; omega
          refine lv_aload_n hx hb dX5_compared_45 rfl (lv_at hl 1 rfl) ?_
          refine mm_callv (As := []) (rest := []) (n := 0) ⟨hx, hb, hml, hown, hts⟩ hK (IH2 S42 E qA (by rw [o42]; omega)) (lw_V q2151 q2153 qs51 q92 q2154) (by decide +kernel) rfl (wm_rmR (by omega) (by decide)) hW hS hl.1 rfl (Nat.le_of_ble_eq_true rfl) dX5_compared_46 ⟨Nat.le_of_ble_eq_true rfl, Nat.le_of_ble_eq_true rfl⟩ (fun S46 H locs f46 hW hS => ?_)
          have pB : iv_P S46 := by rw [f46]; exact (ps_ok fu 2).P qA
          refine lv_aload_n hx hb dX5_compared_49 rfl (lv_at hl 1 rfl) ?_
          refine lv_iload_n hx hb dX5_compared_50 rfl (lv_at hl 0 rfl) ?_
          refine lv_iconst (v := 0) hx hb dX5_compared_51 (by decide) ?_
          refine mm_callv (As := [.int v5, .int 0]) (rest := []) (n := 2) ⟨hx, hb, hml, hown, hts⟩ hK (mc_lay lQ G o S46 E v5 0 pB) (lw_V q2170 q2172 qs55 q92 q2173) (by decide +kernel) rfl (wm_rmR (by omega) (by decide)) hW hS hl.1 rfl (Nat.le_of_ble_eq_true rfl) dX5_compared_52 ⟨Nat.le_of_ble_eq_true rfl, Nat.le_of_ble_eq_true rfl⟩ (fun S52 H locs f52 hW hS => ?_)
          refine mm_vret hx hb hr hlocks hW hS ?_ dX5_compared_55
          have hres : ff_ps (fu + 1) 3 S = S52 := by subst f1 e5 e41 f42 f46 f52; simp only [ff_ps, fp_co, fp_step, fp_adv, if_neg c13, if_neg c19, if_neg c25, if_pos c31]
          exact ⟨hres.symm, rfl⟩
        · skip
          refine mm_vret hx hb hr hlocks hW hS ?_ dX5_compared_34
          have hres : ff_ps (fu + 1) 3 S = S1 := by subst f1 e5; simp only [ff_ps, fp_co, fp_step, fp_adv, if_neg c13, if_neg c19, if_neg c25, if_neg c31]
          exact ⟨hres.symm, rfl⟩

set_option maxHeartbeats 4000000 in
theorem mc_operand (lQ : Launch) (G : wm_G) (o : Nat) (S : mm_S) (E : mm_E) (fu : Nat) (IH0 : ∀ (S : mm_S) (E : mm_E), iv_Q S → 7 * (8 - (fd_ S 49).toInt) + 1 ≤ fu → mm_Met lQ G o yX5_operand (ws_ yX5_operand cX5_operand 4 none) (fu + 3) S E [] none (ff_ps fu 0 S) E) (IH5 : ∀ (S : mm_S) (E : mm_E), iv_Q S → 7 * (8 - (fd_ S 49).toInt) + 6 ≤ fu → mm_Met lQ G o yX5_either (ws_ yX5_either cX5_either 1 none) (fu + 3) S E [] none (ff_ps fu 5 S) E) (hQ : iv_Q S) (hN : 7 * (8 - (fd_ S 49).toInt) + 1 ≤ fu + 1) : mm_Met lQ G o yX5_operand (ws_ yX5_operand cX5_operand 4 none) (fu + 1 + 3) S E [] (none) (ff_ps (fu + 1) 0 S) E := by
  refine mm_start (by decide +kernel) (Nat.le_of_ble_eq_true rfl) rfl (fun pQ eQ sQ mQ belowQ methQ cQ hx hb hml hr hlocks hts hown hK H hW hS ls hl => ?_)
  have hl : lv_has ls 4 [(0, .ref o)] := hl
  generalize hlc : ([] : List Loc) = locs at hS ⊢
  refine lv_aload_n hx hb dX5_operand_0 rfl (lv_at hl 0 rfl) ?_
  refine mm_callp (As := []) (rest := []) (n := 0) ⟨hx, hb, hml, hown, hts⟩ hK (mc_look lQ G o S E hQ.1) (lw_V q2163 q2165 qs54 q92 q2166) (by decide +kernel) rfl (wm_rmR (by omega) (by decide)) hW hS hl.1 rfl (Nat.le_of_ble_eq_true rfl) dX5_operand_1 ⟨Nat.le_of_ble_eq_true rfl, Nat.le_of_ble_eq_true rfl⟩ (fun v1 H locs e1 hW hS => ?_)
  refine lv_istore_n (lv' := [(1, .int v1), (0, .ref o)]) hx hb dX5_operand_4 rfl hl (by decide) rfl (fun ls hl => ?_)
  refine lv_iload_n hx hb dX5_operand_5 rfl (lv_at hl 0 rfl) ?_
  refine pp_calli (As := [.int v1]) (rest := []) (n := 1) ⟨hx, hb, hml, hown, hts⟩ (mc_nameOf lQ v1) (lw_S q2167 q2168 q92 q2169) (by decide +kernel) rfl (wm_rmR (by omega) (by decide)) hl.1 rfl (Nat.le_of_ble_eq_true rfl) dX5_operand_6 ⟨Nat.le_of_ble_eq_true rfl, Nat.le_of_ble_eq_true rfl⟩ (fun v6 e6 => ?_)
  refine lv_if_lt (tgt := 32) hx hb dX5_operand_9 (by decide) (fun c9 => ?_) (fun c9 => ?_)
  · have t9 : (v6).toInt < 0 := ww_lt c9
    refine lv_iload_n hx hb dX5_operand_32 rfl (lv_at hl 0 rfl) ?_
    refine lv_bipush (v := 33) hx hb dX5_operand_33 (by decide) ?_
    refine lv_icmp_eq (tgt := 44) hx hb dX5_operand_35 (by decide) (fun c35 => ?_) (fun c35 => ?_)
    · skip
      refine lv_aload_n hx hb dX5_operand_44 rfl (lv_at hl 1 rfl) ?_
      refine mm_calli (As := []) (rest := []) (n := 0) ⟨hx, hb, hml, hown, hts⟩ hK (mc_opens lQ G o S E) (lw_V q2174 q2176 qs56 q92 q2177) (by decide +kernel) rfl (wm_rmR (by omega) (by decide)) hW hS hl.1 rfl (Nat.le_of_ble_eq_true rfl) dX5_operand_45 ⟨Nat.le_of_ble_eq_true rfl, Nat.le_of_ble_eq_true rfl⟩ (fun v45 S45 H locs e45 f45 hW hS => ?_)
      refine lv_if_ne (tgt := 52) hx hb dX5_operand_48 (by decide) (fun c48 => ?_) (fun c48 => ?_)
      · skip
        have hlq : (fd_ S 47).toInt < (fd_ S 37).toInt := fp_look_lt (by first | rw [← e1, c35]; decide | rw [← e1, c41]; decide)
        obtain ⟨qA, oA⟩ := fp_opens_Q hQ hlq (by rw [← e45]; exact c48)
        rw [← f45] at qA oA
        refine lv_aload_n hx hb dX5_operand_52 rfl (lv_at hl 1 rfl) ?_
        refine mm_callv (As := []) (rest := []) (n := 0) ⟨hx, hb, hml, hown, hts⟩ hK (IH0 S45 E qA (by rw [oA]; omega)) (lw_V q2159 q2161 qs53 q92 q2162) (by decide +kernel) rfl (wm_rmR (by omega) (by decide)) hW hS hl.1 rfl (Nat.le_of_ble_eq_true rfl) dX5_operand_53 ⟨Nat.le_of_ble_eq_true rfl, Nat.le_of_ble_eq_true rfl⟩ (fun S53 H locs f53 hW hS => ?_)
        refine lv_aload_n hx hb dX5_operand_56 rfl (lv_at hl 1 rfl) ?_
        refine lv_dup hx hb dX5_operand_57 rfl ?_
        refine mm_geti hx hb hts hown hK hW 49 rfl (by decide) q1734 dX5_operand_58 ?_
        refine lv_iconst (v := 1) hx hb dX5_operand_61 (by decide) ?_
        refine nv_isub hx hb dX5_operand_62 (fun v62 e62 => ?_)
        refine mm_puti hx hb hts hown hK hW hS 49 rfl (by decide) rfl rfl rfl q1734 dX5_operand_63 (fun S63 H locs f63 hW hS => ?_)
        have pB : iv_P S63 := by rw [f63]; exact iv_P_49 (by rw [f53]; exact (ps_ok fu 0).P qA)
        refine lv_aload_n hx hb dX5_operand_66 rfl (lv_at hl 1 rfl) ?_
        refine lv_iload_n hx hb dX5_operand_67 rfl (lv_at hl 0 rfl) ?_
        refine lv_bipush (v := 33) hx hb dX5_operand_68 (by decide) ?_
        refine wm_join (P := fun w78 : Int32 => w78 = (if v1 = 33 then 3 else 4)) (j := 78) (rest := [.ref o]) (ls := ls) (fun w78 ew78 => ?_) (fun J78 => ?_)
        · skip
          refine lv_iconst (v := 0) hx hb dX5_operand_78 (by decide) ?_
          refine mm_callv (As := [.int w78, .int 0]) (rest := []) (n := 2) ⟨hx, hb, hml, hown, hts⟩ hK (mc_lay lQ G o S63 E w78 0 pB) (lw_V q2170 q2172 qs55 q92 q2173) (by decide +kernel) rfl (wm_rmR (by omega) (by decide)) hW hS hl.1 rfl (Nat.le_of_ble_eq_true rfl) dX5_operand_79 ⟨Nat.le_of_ble_eq_true rfl, Nat.le_of_ble_eq_true rfl⟩ (fun S79 H locs f79 hW hS => ?_)
          refine mm_vret hx hb hr hlocks hW hS ?_ dX5_operand_82
          have hres : ff_ps (fu + 1) 0 S = S79 := by subst e1 e6 e45 f45 f53 e62 f63 ew78 f79; first | (simp only [ff_ps, fp_one, fp_turn, fp_paren, fp_adv, if_pos c9, if_pos c35, if_neg c48]; done) | exact absurd c164 c211
          exact ⟨hres.symm, rfl⟩
        refine lv_icmp_ne (tgt := 77) hx hb dX5_operand_70 (by decide) (fun c70 => ?_) (fun c70 => ?_)
        · skip
          refine lv_iconst (v := 4) hx hb dX5_operand_77 (by decide) ?_
          exact J78 _ (by subst e1 e6 e45 f45 f53 e62 f63; first | (simp only [if_pos c9, if_pos c35, if_neg c48, if_neg c70]; done) | exact absurd c35 c70 | exact absurd (c41.symm.trans c70) (by decide))
        · skip
          refine lv_iconst (v := 3) hx hb dX5_operand_73 (by decide) ?_
          refine lv_goto (tgt := 78) hx hb dX5_operand_74 (by decide) ?_
          exact J78 _ (by subst e1 e6 e45 f45 f53 e62 f63; first | (simp only [if_pos c9, if_pos c35, if_neg c48, if_pos c70]; done) | exact absurd c35 c70 | exact absurd (c41.symm.trans c70) (by decide))
      · skip
        refine mm_vret hx hb hr hlocks hW hS ?_ dX5_operand_51
        have hres : ff_ps (fu + 1) 0 S = S45 := by subst e1 e6 e45 f45; first | (simp only [ff_ps, fp_one, fp_turn, fp_paren, fp_adv, if_pos c9, if_pos c35, if_pos c48]; done) | exact absurd c164 c211
        exact ⟨hres.symm, rfl⟩
    · skip
      refine lv_iload_n hx hb dX5_operand_38 rfl (lv_at hl 0 rfl) ?_
      refine lv_bipush (v := 45) hx hb dX5_operand_39 (by decide) ?_
      refine lv_icmp_ne (tgt := 83) hx hb dX5_operand_41 (by decide) (fun c41 => ?_) (fun c41 => ?_)
      · skip
        refine lv_iload_n hx hb dX5_operand_83 rfl (lv_at hl 0 rfl) ?_
        refine lv_bipush (v := 40) hx hb dX5_operand_84 (by decide) ?_
        refine lv_icmp_ne (tgt := 144) hx hb dX5_operand_86 (by decide) (fun c86 => ?_) (fun c86 => ?_)
        · skip
          refine lv_iconst (v := 0) hx hb dX5_operand_144 (by decide) ?_
          refine lv_istore_n (lv' := [(2, .int 0), (1, .int v1), (0, .ref o)]) hx hb dX5_operand_145 rfl hl (by decide) rfl (fun ls hl => ?_)
          refine lv_iconst (v := 0) hx hb dX5_operand_146 (by decide) ?_
          refine lv_istore_n (lv' := [(3, .int 0), (2, .int 0), (1, .int v1), (0, .ref o)]) hx hb dX5_operand_147 rfl hl (by decide) rfl (fun ls hl => ?_)
          have L148 : ∀ (fu148 : Nat) (n : Int32) (v : Int32) (S0 : mm_S) (H : Heap) (locs : List Loc), (5 - n.toInt < fu148) → (0 ≤ n.toInt) → (n.toInt ≤ 5) → (iv_P S0) → ((fd_ S0 48).toInt < 0) → (fp_dig fu148 S0 n v = ff_ps (fu + 1) 0 S) → mm_W G o S0 E H → va_S (mm_F o) sQ.heap H locs → ∀ ls : Array Slot, lv_has ls 4 [(3, .int v), (2, .int n), (1, .int v1), (0, .ref o)] → W pQ lQ eQ (wm_rm (fu + 1 + 3)) sQ mQ (Value.ref o :: []).toArray belowQ methQ cQ H locs 0 0 (MQ belowQ (wm_Q (fun vQ HQ => vQ = none ∧ mm_W G o (ff_ps (fu + 1) 0 S) E HQ) (mm_F o)) (Value.ref o :: []).toArray sQ 0 0 (mm_F o)) (F0 mQ 148 ls []) := by
            intro fu148
            induction fu148 with
            | zero =>
              intro n v S0 H locs hm148 n0148 n1148 P148 F148 hgo148 hW hS ls hl
              exact absurd hm148 (by omega)
            | succ fu148 ih148 =>
              intro n v S0 H locs hm148 n0148 n1148 P148 F148 hgo148 hW hS ls hl
              refine lv_iload_n hx hb dX5_operand_148 rfl (lv_at hl 1 rfl) ?_
              refine lv_iconst (v := 5) hx hb dX5_operand_149 (by decide) ?_
              refine lv_icmp_ge (tgt := 196) hx hb dX5_operand_150 (by decide) (fun c150 => ?_) (fun c150 => ?_)
              · have t150 : 5 ≤ (n).toInt := ww_le c150
                refine lv_iload_n hx hb dX5_operand_196 rfl (lv_at hl 1 rfl) ?_
                refine lv_if_eq (tgt := 214) hx hb dX5_operand_197 (by decide) (fun c197 => ?_) (fun c197 => ?_)
                · skip
                  refine lv_aload_n hx hb dX5_operand_214 rfl (lv_at hl 3 rfl) ?_
                  refine mm_callv (As := []) (rest := []) (n := 0) ⟨hx, hb, hml, hown, hts⟩ hK (mc_faultHere lQ G o S0 E) (lw_V q2178 q2180 qs57 q92 q2181) (by decide +kernel) rfl (wm_rmR (by omega) (by decide)) hW hS hl.1 rfl (Nat.le_of_ble_eq_true rfl) dX5_operand_215 ⟨Nat.le_of_ble_eq_true rfl, Nat.le_of_ble_eq_true rfl⟩ (fun S215 H locs f215 hW hS => ?_)
                  refine lv_goto (tgt := 227) hx hb dX5_operand_218 (by decide) ?_
                  refine mm_vret hx hb hr hlocks hW hS ?_ dX5_operand_227
                  have hres : ff_ps (fu + 1) 0 S = S215 := by rw [← hgo148]; subst f215; first | (simp only [fp_dig, fp_fin, if_pos c150, if_pos c197]; done) | exact absurd c164 c211
                  exact ⟨hres.symm, rfl⟩
                · skip
                  refine lv_aload_n hx hb dX5_operand_200 rfl (lv_at hl 3 rfl) ?_
                  refine mm_callp (As := []) (rest := []) (n := 0) ⟨hx, hb, hml, hown, hts⟩ hK (mc_look lQ G o S0 E P148) (lw_V q2163 q2165 qs54 q92 q2166) (by decide +kernel) rfl (wm_rmR (by omega) (by decide)) hW hS hl.1 rfl (Nat.le_of_ble_eq_true rfl) dX5_operand_201 ⟨Nat.le_of_ble_eq_true rfl, Nat.le_of_ble_eq_true rfl⟩ (fun v201 H locs e201 hW hS => ?_)
                  refine lv_bipush (v := 48) hx hb dX5_operand_204 (by decide) ?_
                  refine lv_bipush (v := 57) hx hb dX5_operand_206 (by decide) ?_
                  refine pp_calli (As := [.int v201, .int 48, .int 57]) (rest := []) (n := 3) ⟨hx, hb, hml, hown, hts⟩ (mc_in lQ v201 48 57) (lw_S q1979 q1980 q92 q1981) (by decide +kernel) rfl (wm_rmR (by omega) (by decide)) hl.1 rfl (Nat.le_of_ble_eq_true rfl) dX5_operand_208 ⟨Nat.le_of_ble_eq_true rfl, Nat.le_of_ble_eq_true rfl⟩ (fun v208 e208 => ?_)
                  refine lv_if_eq (tgt := 221) hx hb dX5_operand_211 (by decide) (fun c211 => ?_) (fun c211 => ?_)
                  · skip
                    refine lv_aload_n hx hb dX5_operand_221 rfl (lv_at hl 3 rfl) ?_
                    refine lv_iconst (v := 1) hx hb dX5_operand_222 (by decide) ?_
                    refine lv_iload_n hx hb dX5_operand_223 rfl (lv_at hl 0 rfl) ?_
                    refine mm_callv (As := [.int 1, .int v]) (rest := []) (n := 2) ⟨hx, hb, hml, hown, hts⟩ hK (mc_lay lQ G o S0 E 1 v P148) (lw_V q2170 q2172 qs55 q92 q2173) (by decide +kernel) rfl (wm_rmR (by omega) (by decide)) hW hS hl.1 rfl (Nat.le_of_ble_eq_true rfl) dX5_operand_224 ⟨Nat.le_of_ble_eq_true rfl, Nat.le_of_ble_eq_true rfl⟩ (fun S224 H locs f224 hW hS => ?_)
                    refine mm_vret hx hb hr hlocks hW hS ?_ dX5_operand_227
                    have hres : ff_ps (fu + 1) 0 S = S224 := by rw [← hgo148]; subst e201 e208 f224; first | (simp only [fp_dig, fp_fin, if_pos c150, if_neg c197, if_pos c211]; done) | exact absurd c164 c211
                    exact ⟨hres.symm, rfl⟩
                  · skip
                    refine lv_aload_n hx hb dX5_operand_214 rfl (lv_at hl 3 rfl) ?_
                    refine mm_callv (As := []) (rest := []) (n := 0) ⟨hx, hb, hml, hown, hts⟩ hK (mc_faultHere lQ G o S0 E) (lw_V q2178 q2180 qs57 q92 q2181) (by decide +kernel) rfl (wm_rmR (by omega) (by decide)) hW hS hl.1 rfl (Nat.le_of_ble_eq_true rfl) dX5_operand_215 ⟨Nat.le_of_ble_eq_true rfl, Nat.le_of_ble_eq_true rfl⟩ (fun S215 H locs f215 hW hS => ?_)
                    refine lv_goto (tgt := 227) hx hb dX5_operand_218 (by decide) ?_
                    refine mm_vret hx hb hr hlocks hW hS ?_ dX5_operand_227
                    have hres : ff_ps (fu + 1) 0 S = S215 := by rw [← hgo148]; subst e201 e208 f215; first | (simp only [fp_dig, fp_fin, if_pos c150, if_neg c197, if_neg c211]; done) | exact absurd c164 c211
                    exact ⟨hres.symm, rfl⟩
              · have t150 : (n).toInt < 5 := ww_nle c150
                refine lv_aload_n hx hb dX5_operand_153 rfl (lv_at hl 3 rfl) ?_
                refine mm_callp (As := []) (rest := []) (n := 0) ⟨hx, hb, hml, hown, hts⟩ hK (mc_look lQ G o S0 E P148) (lw_V q2163 q2165 qs54 q92 q2166) (by decide +kernel) rfl (wm_rmR (by omega) (by decide)) hW hS hl.1 rfl (Nat.le_of_ble_eq_true rfl) dX5_operand_154 ⟨Nat.le_of_ble_eq_true rfl, Nat.le_of_ble_eq_true rfl⟩ (fun v154 H locs e154 hW hS => ?_)
                refine lv_bipush (v := 48) hx hb dX5_operand_157 (by decide) ?_
                refine lv_bipush (v := 57) hx hb dX5_operand_159 (by decide) ?_
                refine pp_calli (As := [.int v154, .int 48, .int 57]) (rest := []) (n := 3) ⟨hx, hb, hml, hown, hts⟩ (mc_in lQ v154 48 57) (lw_S q1979 q1980 q92 q1981) (by decide +kernel) rfl (wm_rmR (by omega) (by decide)) hl.1 rfl (Nat.le_of_ble_eq_true rfl) dX5_operand_161 ⟨Nat.le_of_ble_eq_true rfl, Nat.le_of_ble_eq_true rfl⟩ (fun v161 e161 => ?_)
                refine lv_if_eq (tgt := 196) hx hb dX5_operand_164 (by decide) (fun c164 => ?_) (fun c164 => ?_)
                · skip
                  refine lv_iload_n hx hb dX5_operand_196 rfl (lv_at hl 1 rfl) ?_
                  refine lv_if_eq (tgt := 214) hx hb dX5_operand_197 (by decide) (fun c197 => ?_) (fun c197 => ?_)
                  · skip
                    refine lv_aload_n hx hb dX5_operand_214 rfl (lv_at hl 3 rfl) ?_
                    refine mm_callv (As := []) (rest := []) (n := 0) ⟨hx, hb, hml, hown, hts⟩ hK (mc_faultHere lQ G o S0 E) (lw_V q2178 q2180 qs57 q92 q2181) (by decide +kernel) rfl (wm_rmR (by omega) (by decide)) hW hS hl.1 rfl (Nat.le_of_ble_eq_true rfl) dX5_operand_215 ⟨Nat.le_of_ble_eq_true rfl, Nat.le_of_ble_eq_true rfl⟩ (fun S215 H locs f215 hW hS => ?_)
                    refine lv_goto (tgt := 227) hx hb dX5_operand_218 (by decide) ?_
                    refine mm_vret hx hb hr hlocks hW hS ?_ dX5_operand_227
                    have hres : ff_ps (fu + 1) 0 S = S215 := by rw [← hgo148]; subst e154 e161 f215; first | (simp only [fp_dig, fp_fin, if_neg c150, if_pos c164, if_pos c197]; done) | exact absurd c164 c211
                    exact ⟨hres.symm, rfl⟩
                  · skip
                    refine lv_aload_n hx hb dX5_operand_200 rfl (lv_at hl 3 rfl) ?_
                    refine mm_callp (As := []) (rest := []) (n := 0) ⟨hx, hb, hml, hown, hts⟩ hK (mc_look lQ G o S0 E P148) (lw_V q2163 q2165 qs54 q92 q2166) (by decide +kernel) rfl (wm_rmR (by omega) (by decide)) hW hS hl.1 rfl (Nat.le_of_ble_eq_true rfl) dX5_operand_201 ⟨Nat.le_of_ble_eq_true rfl, Nat.le_of_ble_eq_true rfl⟩ (fun v201 H locs e201 hW hS => ?_)
                    refine lv_bipush (v := 48) hx hb dX5_operand_204 (by decide) ?_
                    refine lv_bipush (v := 57) hx hb dX5_operand_206 (by decide) ?_
                    refine pp_calli (As := [.int v201, .int 48, .int 57]) (rest := []) (n := 3) ⟨hx, hb, hml, hown, hts⟩ (mc_in lQ v201 48 57) (lw_S q1979 q1980 q92 q1981) (by decide +kernel) rfl (wm_rmR (by omega) (by decide)) hl.1 rfl (Nat.le_of_ble_eq_true rfl) dX5_operand_208 ⟨Nat.le_of_ble_eq_true rfl, Nat.le_of_ble_eq_true rfl⟩ (fun v208 e208 => ?_)
                    refine lv_if_eq (tgt := 221) hx hb dX5_operand_211 (by decide) (fun c211 => ?_) (fun c211 => ?_)
                    · skip
                      refine lv_aload_n hx hb dX5_operand_221 rfl (lv_at hl 3 rfl) ?_
                      refine lv_iconst (v := 1) hx hb dX5_operand_222 (by decide) ?_
                      refine lv_iload_n hx hb dX5_operand_223 rfl (lv_at hl 0 rfl) ?_
                      refine mm_callv (As := [.int 1, .int v]) (rest := []) (n := 2) ⟨hx, hb, hml, hown, hts⟩ hK (mc_lay lQ G o S0 E 1 v P148) (lw_V q2170 q2172 qs55 q92 q2173) (by decide +kernel) rfl (wm_rmR (by omega) (by decide)) hW hS hl.1 rfl (Nat.le_of_ble_eq_true rfl) dX5_operand_224 ⟨Nat.le_of_ble_eq_true rfl, Nat.le_of_ble_eq_true rfl⟩ (fun S224 H locs f224 hW hS => ?_)
                      refine mm_vret hx hb hr hlocks hW hS ?_ dX5_operand_227
                      have hres : ff_ps (fu + 1) 0 S = S224 := by rw [← hgo148]; subst e154 e161 e201 e208 f224; first | (simp only [fp_dig, fp_fin, if_neg c150, if_pos c164, if_neg c197, if_pos c211]; done) | exact absurd c164 c211
                      exact ⟨hres.symm, rfl⟩
                    · skip
                      refine lv_aload_n hx hb dX5_operand_214 rfl (lv_at hl 3 rfl) ?_
                      refine mm_callv (As := []) (rest := []) (n := 0) ⟨hx, hb, hml, hown, hts⟩ hK (mc_faultHere lQ G o S0 E) (lw_V q2178 q2180 qs57 q92 q2181) (by decide +kernel) rfl (wm_rmR (by omega) (by decide)) hW hS hl.1 rfl (Nat.le_of_ble_eq_true rfl) dX5_operand_215 ⟨Nat.le_of_ble_eq_true rfl, Nat.le_of_ble_eq_true rfl⟩ (fun S215 H locs f215 hW hS => ?_)
                      refine lv_goto (tgt := 227) hx hb dX5_operand_218 (by decide) ?_
                      refine mm_vret hx hb hr hlocks hW hS ?_ dX5_operand_227
                      have hres : ff_ps (fu + 1) 0 S = S215 := by rw [← hgo148]; subst e154 e161 e201 e208 f215; first | (simp only [fp_dig, fp_fin, if_neg c150, if_pos c164, if_neg c197, if_neg c211]; done) | exact absurd c164 c211
                      exact ⟨hres.symm, rfl⟩
                · skip
                  refine lv_bipush (v := 10) hx hb dX5_operand_167 (by decide) ?_
                  refine lv_iload_n hx hb dX5_operand_169 rfl (lv_at hl 0 rfl) ?_
                  refine nv_imul hx hb dX5_operand_170 (fun v170 e170 => ?_)
                  refine lv_aload_n hx hb dX5_operand_171 rfl (lv_at hl 3 rfl) ?_
                  refine mm_callp (As := []) (rest := [.int v170]) (n := 0) ⟨hx, hb, hml, hown, hts⟩ hK (mc_look lQ G o S0 E P148) (lw_V q2163 q2165 qs54 q92 q2166) (by decide +kernel) rfl (wm_rmR (by omega) (by decide)) hW hS hl.1 rfl (Nat.le_of_ble_eq_true rfl) dX5_operand_172 ⟨Nat.le_of_ble_eq_true rfl, Nat.le_of_ble_eq_true rfl⟩ (fun v172 H locs e172 hW hS => ?_)
                  refine nv_iadd hx hb dX5_operand_175 (fun v175 e175 => ?_)
                  refine lv_bipush (v := 48) hx hb dX5_operand_176 (by decide) ?_
                  refine nv_isub hx hb dX5_operand_178 (fun v178 e178 => ?_)
                  refine lv_istore_n (lv' := [(3, .int v178), (2, .int n), (1, .int v1), (0, .ref o)]) hx hb dX5_operand_179 rfl hl (by decide) rfl (fun ls hl => ?_)
                  obtain ⟨v180, e180⟩ : ∃ yQ : Int32, yQ = n + 1 := ⟨_, rfl⟩
                  refine lv_iinc (v := v180) (lv' := [(2, .int v180), (3, .int v178), (1, .int v1), (0, .ref o)]) hx hb dX5_operand_180 hl (k := 1) rfl (by rw [e180]; rfl) (by decide) rfl (fun ls hl => ?_)
                  refine lv_aload_n hx hb dX5_operand_183 rfl (lv_at hl 3 rfl) ?_
                  refine lv_dup hx hb dX5_operand_184 rfl ?_
                  refine mm_geti hx hb hts hown hK hW 47 rfl (by decide) q1732 dX5_operand_185 ?_
                  refine lv_iconst (v := 1) hx hb dX5_operand_188 (by decide) ?_
                  refine nv_iadd hx hb dX5_operand_189 (fun v189 e189 => ?_)
                  refine mm_puti hx hb hts hown hK hW hS 47 rfl (by decide) rfl rfl rfl q1732 dX5_operand_190 (fun S190 H locs f190 hW hS => ?_)
                  refine lv_goto (tgt := 148) hx hb dX5_operand_193 (by decide) ?_
                  have hs : S190 = fp_adv S0 := by rw [f190, e189]; rfl
                  have hlq := fp_look_lt (S := S0) (fun z => c164 (by rw [e161, e154, z]; decide))
                  have tb : v180.toInt = n.toInt + 1 := by rw [e180]; exact ww_inc (b := 5) t150
                  exact ih148 v180 v178 S190 H locs (by omega) (by omega) (by omega) (by rw [hs]; exact (fp_adv_R P148 F148 hlq).iv (by omega) P148) (by rw [hs, fp_adv_48]; exact F148) (by rw [hs]; subst e180 e178 e175 e172 e170 e161 e154; simp only [fp_dig, if_neg c150, if_neg c164] at hgo148; exact hgo148) hW hS ls (lv_sub hl [1, 0, 2, 3] rfl)
          exact L148 6 0 0 S H locs (by decide) (by decide) (by decide) hQ.1 hQ.2.2.2 (by subst e1 e6; simp only [ff_ps, fp_one, if_pos c9, if_neg c35, if_neg c41, if_neg c86]) hW hS ls (lv_sub hl [0, 1, 2, 3] rfl)
        · skip
          refine lv_aload_n hx hb dX5_operand_89 rfl (lv_at hl 1 rfl) ?_
          refine mm_calli (As := []) (rest := []) (n := 0) ⟨hx, hb, hml, hown, hts⟩ hK (mc_opens lQ G o S E) (lw_V q2174 q2176 qs56 q92 q2177) (by decide +kernel) rfl (wm_rmR (by omega) (by decide)) hW hS hl.1 rfl (Nat.le_of_ble_eq_true rfl) dX5_operand_90 ⟨Nat.le_of_ble_eq_true rfl, Nat.le_of_ble_eq_true rfl⟩ (fun v90 S90 H locs e90 f90 hW hS => ?_)
          refine lv_if_ne (tgt := 97) hx hb dX5_operand_93 (by decide) (fun c93 => ?_) (fun c93 => ?_)
          · skip
            have hlq : (fd_ S 47).toInt < (fd_ S 37).toInt := fp_look_lt (by first | rw [← e1, c86]; decide)
            obtain ⟨qA, oA⟩ := fp_opens_Q hQ hlq (by rw [← e90]; exact c93)
            rw [← f90] at qA oA
            refine lv_aload_n hx hb dX5_operand_97 rfl (lv_at hl 1 rfl) ?_
            refine mm_callv (As := []) (rest := []) (n := 0) ⟨hx, hb, hml, hown, hts⟩ hK (IH5 S90 E qA (by rw [oA]; omega)) (lw_V q2139 q2141 qs48 q92 q2142) (by decide +kernel) rfl (wm_rmR (by omega) (by decide)) hW hS hl.1 rfl (Nat.le_of_ble_eq_true rfl) dX5_operand_98 ⟨Nat.le_of_ble_eq_true rfl, Nat.le_of_ble_eq_true rfl⟩ (fun S98 H locs f98 hW hS => ?_)
            refine lv_aload_n hx hb dX5_operand_101 rfl (lv_at hl 1 rfl) ?_
            refine mm_geti hx hb hts hown hK hW 48 rfl (by decide) q1733 dX5_operand_102 ?_
            refine lv_if_lt (tgt := 109) hx hb dX5_operand_105 (by decide) (fun c105 => ?_) (fun c105 => ?_)
            · have t105 : ((fd_ S98 48)).toInt < 0 := ww_lt c105
              have pC : iv_P S98 := by rw [f98]; exact (ps_ok fu 5).P qA
              refine lv_aload_n hx hb dX5_operand_109 rfl (lv_at hl 1 rfl) ?_
              refine mm_callp (As := []) (rest := []) (n := 0) ⟨hx, hb, hml, hown, hts⟩ hK (mc_look lQ G o S98 E pC) (lw_V q2163 q2165 qs54 q92 q2166) (by decide +kernel) rfl (wm_rmR (by omega) (by decide)) hW hS hl.1 rfl (Nat.le_of_ble_eq_true rfl) dX5_operand_110 ⟨Nat.le_of_ble_eq_true rfl, Nat.le_of_ble_eq_true rfl⟩ (fun v110 H locs e110 hW hS => ?_)
              refine lv_bipush (v := 41) hx hb dX5_operand_113 (by decide) ?_
              refine lv_icmp_eq (tgt := 123) hx hb dX5_operand_115 (by decide) (fun c115 => ?_) (fun c115 => ?_)
              · skip
                refine lv_aload_n hx hb dX5_operand_123 rfl (lv_at hl 1 rfl) ?_
                refine lv_dup hx hb dX5_operand_124 rfl ?_
                refine mm_geti hx hb hts hown hK hW 49 rfl (by decide) q1734 dX5_operand_125 ?_
                refine lv_iconst (v := 1) hx hb dX5_operand_128 (by decide) ?_
                refine nv_isub hx hb dX5_operand_129 (fun v129 e129 => ?_)
                refine mm_puti hx hb hts hown hK hW hS 49 rfl (by decide) rfl rfl rfl q1734 dX5_operand_130 (fun S130 H locs f130 hW hS => ?_)
                refine lv_aload_n hx hb dX5_operand_133 rfl (lv_at hl 1 rfl) ?_
                refine lv_dup hx hb dX5_operand_134 rfl ?_
                refine mm_geti hx hb hts hown hK hW 47 rfl (by decide) q1732 dX5_operand_135 ?_
                refine lv_iconst (v := 1) hx hb dX5_operand_138 (by decide) ?_
                refine nv_iadd hx hb dX5_operand_139 (fun v139 e139 => ?_)
                refine mm_puti hx hb hts hown hK hW hS 47 rfl (by decide) rfl rfl rfl q1732 dX5_operand_140 (fun S140 H locs f140 hW hS => ?_)
                refine mm_vret hx hb hr hlocks hW hS ?_ dX5_operand_143
                have hres : ff_ps (fu + 1) 0 S = S140 := by subst e1 e6 e90 f90 f98 e110 e129 f130 e139 f140; first | (simp only [ff_ps, fp_one, fp_turn, fp_paren, fp_adv, if_pos c9, if_neg c35, if_neg c41, if_pos c86, if_neg c93, if_pos c105, if_pos c115]; done) | exact absurd c164 c211
                exact ⟨hres.symm, rfl⟩
              · skip
                refine lv_aload_n hx hb dX5_operand_118 rfl (lv_at hl 1 rfl) ?_
                refine mm_callv (As := []) (rest := []) (n := 0) ⟨hx, hb, hml, hown, hts⟩ hK (mc_faultHere lQ G o S98 E) (lw_V q2178 q2180 qs57 q92 q2181) (by decide +kernel) rfl (wm_rmR (by omega) (by decide)) hW hS hl.1 rfl (Nat.le_of_ble_eq_true rfl) dX5_operand_119 ⟨Nat.le_of_ble_eq_true rfl, Nat.le_of_ble_eq_true rfl⟩ (fun S119 H locs f119 hW hS => ?_)
                refine mm_vret hx hb hr hlocks hW hS ?_ dX5_operand_122
                have hres : ff_ps (fu + 1) 0 S = S119 := by subst e1 e6 e90 f90 f98 e110 f119; first | (simp only [ff_ps, fp_one, fp_turn, fp_paren, fp_adv, if_pos c9, if_neg c35, if_neg c41, if_pos c86, if_neg c93, if_pos c105, if_neg c115]; done) | exact absurd c164 c211
                exact ⟨hres.symm, rfl⟩
            · have t105 : 0 ≤ ((fd_ S98 48)).toInt := ww_nlt c105
              refine mm_vret hx hb hr hlocks hW hS ?_ dX5_operand_108
              have hres : ff_ps (fu + 1) 0 S = S98 := by subst e1 e6 e90 f90 f98; first | (simp only [ff_ps, fp_one, fp_turn, fp_paren, fp_adv, if_pos c9, if_neg c35, if_neg c41, if_pos c86, if_neg c93, if_neg c105]; done) | exact absurd c164 c211
              exact ⟨hres.symm, rfl⟩
          · skip
            refine mm_vret hx hb hr hlocks hW hS ?_ dX5_operand_96
            have hres : ff_ps (fu + 1) 0 S = S90 := by subst e1 e6 e90 f90; first | (simp only [ff_ps, fp_one, fp_turn, fp_paren, fp_adv, if_pos c9, if_neg c35, if_neg c41, if_pos c86, if_pos c93]; done) | exact absurd c164 c211
            exact ⟨hres.symm, rfl⟩
      · skip
        refine lv_aload_n hx hb dX5_operand_44 rfl (lv_at hl 1 rfl) ?_
        refine mm_calli (As := []) (rest := []) (n := 0) ⟨hx, hb, hml, hown, hts⟩ hK (mc_opens lQ G o S E) (lw_V q2174 q2176 qs56 q92 q2177) (by decide +kernel) rfl (wm_rmR (by omega) (by decide)) hW hS hl.1 rfl (Nat.le_of_ble_eq_true rfl) dX5_operand_45 ⟨Nat.le_of_ble_eq_true rfl, Nat.le_of_ble_eq_true rfl⟩ (fun v45 S45 H locs e45 f45 hW hS => ?_)
        refine lv_if_ne (tgt := 52) hx hb dX5_operand_48 (by decide) (fun c48 => ?_) (fun c48 => ?_)
        · skip
          have hlq : (fd_ S 47).toInt < (fd_ S 37).toInt := fp_look_lt (by first | rw [← e1, c35]; decide | rw [← e1, c41]; decide)
          obtain ⟨qA, oA⟩ := fp_opens_Q hQ hlq (by rw [← e45]; exact c48)
          rw [← f45] at qA oA
          refine lv_aload_n hx hb dX5_operand_52 rfl (lv_at hl 1 rfl) ?_
          refine mm_callv (As := []) (rest := []) (n := 0) ⟨hx, hb, hml, hown, hts⟩ hK (IH0 S45 E qA (by rw [oA]; omega)) (lw_V q2159 q2161 qs53 q92 q2162) (by decide +kernel) rfl (wm_rmR (by omega) (by decide)) hW hS hl.1 rfl (Nat.le_of_ble_eq_true rfl) dX5_operand_53 ⟨Nat.le_of_ble_eq_true rfl, Nat.le_of_ble_eq_true rfl⟩ (fun S53 H locs f53 hW hS => ?_)
          refine lv_aload_n hx hb dX5_operand_56 rfl (lv_at hl 1 rfl) ?_
          refine lv_dup hx hb dX5_operand_57 rfl ?_
          refine mm_geti hx hb hts hown hK hW 49 rfl (by decide) q1734 dX5_operand_58 ?_
          refine lv_iconst (v := 1) hx hb dX5_operand_61 (by decide) ?_
          refine nv_isub hx hb dX5_operand_62 (fun v62 e62 => ?_)
          refine mm_puti hx hb hts hown hK hW hS 49 rfl (by decide) rfl rfl rfl q1734 dX5_operand_63 (fun S63 H locs f63 hW hS => ?_)
          have pB : iv_P S63 := by rw [f63]; exact iv_P_49 (by rw [f53]; exact (ps_ok fu 0).P qA)
          refine lv_aload_n hx hb dX5_operand_66 rfl (lv_at hl 1 rfl) ?_
          refine lv_iload_n hx hb dX5_operand_67 rfl (lv_at hl 0 rfl) ?_
          refine lv_bipush (v := 33) hx hb dX5_operand_68 (by decide) ?_
          refine wm_join (P := fun w78 : Int32 => w78 = (if v1 = 33 then 3 else 4)) (j := 78) (rest := [.ref o]) (ls := ls) (fun w78 ew78 => ?_) (fun J78 => ?_)
          · skip
            refine lv_iconst (v := 0) hx hb dX5_operand_78 (by decide) ?_
            refine mm_callv (As := [.int w78, .int 0]) (rest := []) (n := 2) ⟨hx, hb, hml, hown, hts⟩ hK (mc_lay lQ G o S63 E w78 0 pB) (lw_V q2170 q2172 qs55 q92 q2173) (by decide +kernel) rfl (wm_rmR (by omega) (by decide)) hW hS hl.1 rfl (Nat.le_of_ble_eq_true rfl) dX5_operand_79 ⟨Nat.le_of_ble_eq_true rfl, Nat.le_of_ble_eq_true rfl⟩ (fun S79 H locs f79 hW hS => ?_)
            refine mm_vret hx hb hr hlocks hW hS ?_ dX5_operand_82
            have hres : ff_ps (fu + 1) 0 S = S79 := by subst e1 e6 e45 f45 f53 e62 f63 ew78 f79; first | (simp only [ff_ps, fp_one, fp_turn, fp_paren, fp_adv, if_pos c9, if_neg c35, if_pos c41, if_neg c48]; done) | exact absurd c164 c211
            exact ⟨hres.symm, rfl⟩
          refine lv_icmp_ne (tgt := 77) hx hb dX5_operand_70 (by decide) (fun c70 => ?_) (fun c70 => ?_)
          · skip
            refine lv_iconst (v := 4) hx hb dX5_operand_77 (by decide) ?_
            exact J78 _ (by subst e1 e6 e45 f45 f53 e62 f63; first | (simp only [if_pos c9, if_neg c35, if_pos c41, if_neg c48, if_neg c70]; done) | exact absurd c35 c70 | exact absurd (c41.symm.trans c70) (by decide))
          · skip
            refine lv_iconst (v := 3) hx hb dX5_operand_73 (by decide) ?_
            refine lv_goto (tgt := 78) hx hb dX5_operand_74 (by decide) ?_
            exact J78 _ (by subst e1 e6 e45 f45 f53 e62 f63; first | (simp only [if_pos c9, if_neg c35, if_pos c41, if_neg c48, if_pos c70]; done) | exact absurd c35 c70 | exact absurd (c41.symm.trans c70) (by decide))
        · skip
          refine mm_vret hx hb hr hlocks hW hS ?_ dX5_operand_51
          have hres : ff_ps (fu + 1) 0 S = S45 := by subst e1 e6 e45 f45; first | (simp only [ff_ps, fp_one, fp_turn, fp_paren, fp_adv, if_pos c9, if_neg c35, if_pos c41, if_pos c48]; done) | exact absurd c164 c211
          exact ⟨hres.symm, rfl⟩
  · have t9 : 0 ≤ (v6).toInt := ww_nlt c9
    refine lv_aload_n hx hb dX5_operand_12 rfl (lv_at hl 1 rfl) ?_
    refine lv_iconst (v := 2) hx hb dX5_operand_13 (by decide) ?_
    refine lv_iload_n hx hb dX5_operand_14 rfl (lv_at hl 0 rfl) ?_
    refine pp_calli (As := [.int v1]) (rest := [.int 2, .ref o]) (n := 1) ⟨hx, hb, hml, hown, hts⟩ (mc_nameOf lQ v1) (lw_S q2167 q2168 q92 q2169) (by decide +kernel) rfl (wm_rmR (by omega) (by decide)) hl.1 rfl (Nat.le_of_ble_eq_true rfl) dX5_operand_15 ⟨Nat.le_of_ble_eq_true rfl, Nat.le_of_ble_eq_true rfl⟩ (fun v15 e15 => ?_)
    refine mm_callv (As := [.int 2, .int v15]) (rest := []) (n := 2) ⟨hx, hb, hml, hown, hts⟩ hK (mc_lay lQ G o S E 2 v15 hQ.1) (lw_V q2170 q2172 qs55 q92 q2173) (by decide +kernel) rfl (wm_rmR (by omega) (by decide)) hW hS hl.1 rfl (Nat.le_of_ble_eq_true rfl) dX5_operand_18 ⟨Nat.le_of_ble_eq_true rfl, Nat.le_of_ble_eq_true rfl⟩ (fun S18 H locs f18 hW hS => ?_)
    refine lv_aload_n hx hb dX5_operand_21 rfl (lv_at hl 1 rfl) ?_
    refine lv_dup hx hb dX5_operand_22 rfl ?_
    refine mm_geti hx hb hts hown hK hW 47 rfl (by decide) q1732 dX5_operand_23 ?_
    refine lv_iconst (v := 1) hx hb dX5_operand_26 (by decide) ?_
    refine nv_iadd hx hb dX5_operand_27 (fun v27 e27 => ?_)
    refine mm_puti hx hb hts hown hK hW hS 47 rfl (by decide) rfl rfl rfl q1732 dX5_operand_28 (fun S28 H locs f28 hW hS => ?_)
    refine mm_vret hx hb hr hlocks hW hS ?_ dX5_operand_31
    have hres : ff_ps (fu + 1) 0 S = S28 := by subst e1 e6 e15 f18 e27 f28; first | (simp only [ff_ps, fp_one, fp_turn, fp_paren, fp_adv, if_neg c9]; done) | exact absurd c164 c211
    exact ⟨hres.symm, rfl⟩

theorem mc_ps (lQ : Launch) (G : wm_G) (o : Nat) : ∀ fu : Nat, (∀ (S : mm_S) (E : mm_E), iv_Q S → 7 * (8 - (fd_ S 49).toInt) + 1 ≤ fu → mm_Met lQ G o yX5_operand (ws_ yX5_operand cX5_operand 4 none) (fu + 3) S E [] none (ff_ps fu 0 S) E) ∧ (∀ (S : mm_S) (E : mm_E), iv_Q S → 7 * (8 - (fd_ S 49).toInt) + 2 ≤ fu → mm_Met lQ G o yX5_product (ws_ yX5_product cX5_product 2 none) (fu + 3) S E [] none (ff_ps fu 1 S) E) ∧ (∀ (S : mm_S) (E : mm_E), iv_Q S → 7 * (8 - (fd_ S 49).toInt) + 3 ≤ fu → mm_Met lQ G o yX5_sum (ws_ yX5_sum cX5_sum 2 none) (fu + 3) S E [] none (ff_ps fu 2 S) E) ∧ (∀ (S : mm_S) (E : mm_E), iv_Q S → 7 * (8 - (fd_ S 49).toInt) + 4 ≤ fu → mm_Met lQ G o yX5_compared (ws_ yX5_compared cX5_compared 2 none) (fu + 3) S E [] none (ff_ps fu 3 S) E) ∧ (∀ (S : mm_S) (E : mm_E), iv_Q S → 7 * (8 - (fd_ S 49).toInt) + 5 ≤ fu → mm_Met lQ G o yX5_all (ws_ yX5_all cX5_all 1 none) (fu + 3) S E [] none (ff_ps fu 4 S) E) ∧ (∀ (S : mm_S) (E : mm_E), iv_Q S → 7 * (8 - (fd_ S 49).toInt) + 6 ≤ fu → mm_Met lQ G o yX5_either (ws_ yX5_either cX5_either 1 none) (fu + 3) S E [] none (ff_ps fu 5 S) E) := by
  intro fu
  induction fu with
  | zero =>
    refine ⟨?_, ?_, ?_, ?_, ?_, ?_⟩ <;> (intro S E hQ hN; have := hQ.2.2.1; exact absurd hN (by omega))
  | succ fu ih =>
    obtain ⟨i0, i1, i2, i3, i4, i5⟩ := ih
    exact ⟨fun S E hQ hN => mc_operand lQ G o S E fu i0 i5 hQ (by omega), fun S E hQ hN => mc_product lQ G o S E fu i0 hQ (by omega), fun S E hQ hN => mc_sum lQ G o S E fu i1 hQ (by omega), fun S E hQ hN => mc_compared lQ G o S E fu i2 hQ (by omega), fun S E hQ hN => mc_all lQ G o S E fu i3 hQ (by omega), fun S E hQ hN => mc_either lQ G o S E fu i4 hQ (by omega)⟩

theorem mc_ei (lQ : Launch) (G : wm_G) (o : Nat) (S : mm_S) (E : mm_E) (hQ : iv_Q S) : mm_Met lQ G o yX5_either (ws_ yX5_either cX5_either 1 none) 67 S E [] none (ff_ps 64 5 S) E := (mc_ps lQ G o 64).2.2.2.2.2 S E hQ (by have := hQ.2.1; omega)
