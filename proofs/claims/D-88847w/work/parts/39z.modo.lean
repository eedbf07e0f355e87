set_option maxHeartbeats 4000000 in
theorem mc_order (lQ : Launch) (G : wm_G) (o : Nat) (S : mm_S) (E : mm_E) (hN : iv_N S) (hO : rd_ S 71 0 = 0) : mm_Met lQ G o yX5_order (ws_ yX5_order cX5_order 5 (some .int)) 1 S E [] (some (.int (ff_order S).1)) (ff_order S).2 E := by
  refine mm_start (by decide +kernel) (Nat.le_of_ble_eq_true rfl) rfl (fun pQ eQ sQ mQ belowQ methQ cQ hx hb hml hr hlocks hts hown hK H hW hS ls hl => ?_)
  have hl : lv_has ls 5 [(0, .ref o)] := hl
  generalize hlc : ([] : List Loc) = locs at hS ⊢
  refine lv_aload_n hx hb dX5_order_0 rfl (lv_at hl 0 rfl) ?_
  refine mm_geti hx hb hts hown hK hW 67 rfl (by decide) q1752 dX5_order_1 ?_
  refine lv_if_ne (tgt := 9) hx hb dX5_order_4 (by decide) (fun c4 => ?_) (fun c4 => ?_)
  · skip
    have n0 := hN.1
    have n10 := hN.2.1
    have n1 : 1 ≤ (fd_ S 67).toInt := by
      have q1 := ww_ne c4
      rw [ww_z0] at q1
      omega
    obtain ⟨sh1, sh2, sh3⟩ := sh_t n0 n10
    have p2 := p2_le n10
    have p1 := p2_ge (fd_ S 67).toInt.toNat
    refine lv_iconst (v := 1) hx hb dX5_order_9 (by decide) ?_
    refine lv_istore_n (lv' := [(1, .int 1), (0, .ref o)]) hx hb dX5_order_10 rfl hl (by decide) rfl (fun ls hl => ?_)
    have L11 : ∀ (fu11 : Nat) (s : Int32) (S0 : mm_S) (H : Heap) (locs : List Loc), (1024 - s.toInt < fu11) → (1 ≤ s.toInt) → (s.toInt ≤ ((2 ^ (fd_ S 67).toInt.toNat : Nat) : Int)) → (fr_ [71] S S0) → (dp_ S0 s) → (os_go fu11 S0 s = os_S S) → mm_W G o S0 E H → va_S (mm_F o) sQ.heap H locs → ∀ ls : Array Slot, lv_has ls 5 [(1, .int s), (0, .ref o)] → W pQ lQ eQ (wm_rm 1) sQ mQ (Value.ref o :: []).toArray belowQ methQ cQ H locs 0 0 (MQ belowQ (wm_Q (fun vQ HQ => vQ = some (.int (ff_order S).1) ∧ mm_W G o (ff_order S).2 E HQ) (mm_F o)) (Value.ref o :: []).toArray sQ 0 0 (mm_F o)) (F0 mQ 11 ls []) := by
      intro fu11
      induction fu11 with
      | zero =>
        intro s S0 H locs hm11 i011 i111 iF11 i311 hgo11 hW hS ls hl
        exact absurd hm11 (by omega)
      | succ fu11 ih11 =>
        intro s S0 H locs hm11 i011 i111 iF11 i311 hgo11 hW hS ls hl
        have i367 : fd_ S0 67 = fd_ S 67 := fd_of (iF11 67 (by decide))
        have tl := p2
        refine lv_iload_n hx hb dX5_order_11 rfl (lv_at hl 0 rfl) ?_
        refine lv_iconst (v := 1) hx hb dX5_order_12 (by decide) ?_
        refine lv_aload_n hx hb dX5_order_13 rfl (lv_at hl 1 rfl) ?_
        refine mm_geti hx hb hts hown hK hW 67 rfl (by decide) q1752 dX5_order_14 ?_
        refine nv_ishl hx hb dX5_order_17 (fun v17 e17 => ?_)
        refine lv_icmp_ge (tgt := 100) hx hb dX5_order_18 (by decide) (fun c18 => ?_) (fun c18 => ?_)
        · have t18 : (v17).toInt ≤ (s).toInt := ww_le c18
          have hs0 : S0 = os_S S := by subst e17; simp only [os_go, if_pos c18] at hgo11; exact hgo11
          clear hgo11
          refine lv_iconst (v := 1) hx hb dX5_order_100 (by decide) ?_
          refine lv_aload_n hx hb dX5_order_101 rfl (lv_at hl 1 rfl) ?_
          refine mm_geti hx hb hts hown hK hW 67 rfl (by decide) q1752 dX5_order_102 ?_
          refine nv_ishl hx hb dX5_order_105 (fun v105 e105 => ?_)
          refine lv_iconst (v := 1) hx hb dX5_order_106 (by decide) ?_
          refine nv_isub hx hb dX5_order_107 (fun v107 e107 => ?_)
          refine lv_istore_n (lv' := [(1, .int v107), (0, .ref o)]) hx hb dX5_order_108 rfl hl (by decide) rfl (fun ls hl => ?_)
          have osF : fr_ [71] S (os_S S) := by rw [← hs0]; exact iF11
          have n107 : v107 = or_full (os_S S) := by rw [e107, e105, hs0]; rfl
          have t107 : vp_in v107 1024 := by rw [n107]; unfold or_full; rw [fd_of (osF 67 (by decide))]; exact ww_in (by rw [sh3]; omega) (by rw [sh3]; omega)
          have dpa := i311
          rw [hs0] at dpa
          refine lv_aload_n hx hb dX5_order_109 rfl (lv_at hl 1 rfl) ?_
          refine mm_geta hx hb hts hown hK hW 71 rfl q1756 dX5_order_110 ?_
          refine lv_iload_n hx hb dX5_order_113 rfl (lv_at hl 0 rfl) ?_
          refine mm_iald hx hb hK hW 71 rfl t107 dX5_order_114 ?_
          refine lv_istore_n (lv' := [(2, .int (rd_ S0 71 v107)), (1, .int v107), (0, .ref o)]) hx hb dX5_order_115 rfl hl (by decide) rfl (fun ls hl => ?_)
          refine lv_iconst (v := 0) hx hb dX5_order_116 (by decide) ?_
          refine lv_istore_n (lv' := [(3, .int 0), (2, .int (rd_ S0 71 v107)), (1, .int v107), (0, .ref o)]) hx hb dX5_order_117 rfl hl (by decide) rfl (fun ls hl => ?_)
          have L118 : ∀ (fu118 : Nat) (l : Int32) (i : Int32) (S2 : mm_S) (H : Heap) (locs : List Loc), ((fd_ S 67).toInt - i.toInt < fu118) → (0 ≤ i.toInt) → (i.toInt ≤ (fd_ S 67).toInt) → (fr_ [73] (os_S S) S2) → (0 ≤ l.toInt ∧ l.toInt < ((2 ^ (fd_ S 67).toInt.toNat : Nat) : Int)) → ((pc_ l : Int) = (fd_ S 67).toInt - i.toInt) → (or_go fu118 S2 l i = or_S S) → mm_W G o S2 E H → va_S (mm_F o) sQ.heap H locs → ∀ ls : Array Slot, lv_has ls 5 [(3, .int i), (2, .int (rd_ S0 71 v107)), (1, .int l), (0, .ref o)] → W pQ lQ eQ (wm_rm 1) sQ mQ (Value.ref o :: []).toArray belowQ methQ cQ H locs 0 0 (MQ belowQ (wm_Q (fun vQ HQ => vQ = some (.int (ff_order S).1) ∧ mm_W G o (ff_order S).2 E HQ) (mm_F o)) (Value.ref o :: []).toArray sQ 0 0 (mm_F o)) (F0 mQ 118 ls []) := by
            intro fu118
            induction fu118 with
            | zero =>
              intro l i S2 H locs hm118 i0118 i1118 iF118 i3118 i4118 hgo118 hW hS ls hl
              exact absurd hm118 (by omega)
            | succ fu118 ih118 =>
              intro l i S2 H locs hm118 i0118 i1118 iF118 i3118 i4118 hgo118 hW hS ls hl
              have xF : fr_ [71, 73] S S2 := (osF.le' (by decide)).tr (iF118.le' (by decide))
              have x67 : (fd_ S2 67).toInt = (fd_ S 67).toInt := by rw [fd_of (xF 67 (by decide))]
              refine lv_iload_n hx hb dX5_order_118 rfl (lv_at hl 0 rfl) ?_
              refine lv_aload_n hx hb dX5_order_119 rfl (lv_at hl 3 rfl) ?_
              refine mm_geti hx hb hts hown hK hW 67 rfl (by decide) q1752 dX5_order_120 ?_
              refine lv_icmp_ge (tgt := 197) hx hb dX5_order_123 (by decide) (fun c123 => ?_) (fun c123 => ?_)
              · have t123 : ((fd_ S2 67)).toInt ≤ (i).toInt := ww_le c123
                refine lv_aload_n hx hb dX5_order_197 rfl (lv_at hl 3 rfl) ?_
                refine lv_aload_n hx hb dX5_order_198 rfl (lv_at hl 3 rfl) ?_
                refine mm_geti hx hb hts hown hK hW 67 rfl (by decide) q1752 dX5_order_199 ?_
                refine mm_puti hx hb hts hown hK hW hS 72 rfl (by decide) rfl rfl rfl q1757 dX5_order_202 (fun S202 H locs f202 hW hS => ?_)
                refine lv_aload_n hx hb dX5_order_205 rfl (lv_at hl 3 rfl) ?_
                refine lv_iconst (v := 0) hx hb dX5_order_206 (by decide) ?_
                refine mm_puti hx hb hts hown hK hW hS 67 rfl (by decide) rfl rfl rfl q1752 dX5_order_207 (fun S207 H locs f207 hW hS => ?_)
                refine lv_iload_n hx hb dX5_order_210 rfl (lv_at hl 1 rfl) ?_
                refine mm_iret hx hb hr hlocks hW hS ?_ dX5_order_211
                have hres : ff_order S = (rd_ S0 71 v107, S207) := by
                  rw [or_go, if_pos c123, ← f202, ← f207] at hgo118
                  unfold ff_order
                  rw [if_neg c4, ← hgo118, n107, hs0]
                exact ⟨by rw [hres], by rw [hres], rfl⟩
              · have t123 : (i).toInt < ((fd_ S2 67)).toInt := ww_nle c123
                have lpos : 1 ≤ l.toInt := pc_0 i3118.1 (by omega)
                have dp_x : ∃ z : Int32, 0 ≤ z.toInt ∧ z.toInt < (fd_ S 67).toInt ∧ ¬ nb_ l z = 0 ∧ on_v S2 l z = rd_ S2 71 l := by
                  obtain ⟨_, _, d⟩ := dpa l i3118.1 (by rw [e17, i367, sh1] at t18; omega)
                  obtain ⟨z, z1, z2, z3, z4⟩ := d lpos
                  refine ⟨z, z1, by rw [fd_of (osF 67 (by decide))] at z2; exact z2, z3, ?_⟩
                  unfold on_v at z4 ⊢
                  rw [costNext_of (iF118 67 (by decide)) (iF118 68 (by decide)) (iF118 69 (by decide)) (iF118 70 (by decide)), rd_of (iF118 71 (by decide)), rd_of (iF118 71 (by decide))]
                  exact z4
                refine lv_iconst (v := 0) hx hb dX5_order_126 (by decide) ?_
                refine lv_istore (lv' := [(4, .int 0), (3, .int i), (2, .int (rd_ S0 71 v107)), (1, .int l), (0, .ref o)]) hx hb dX5_order_127 hl (by decide) rfl (fun ls hl => ?_)
                have L129 : ∀ (fu129 : Nat) (k : Int32) (H : Heap) (locs : List Loc), (10 - k.toInt < fu129) → (0 ≤ k.toInt) → (∃ z : Int32, k.toInt ≤ z.toInt ∧ z.toInt < (fd_ S 67).toInt ∧ ¬ nb_ l z = 0 ∧ on_v S2 l z = rd_ S2 71 l) → (ow_go fu129 S2 l k = ow_S S2 l) → mm_W G o S2 E H → va_S (mm_F o) sQ.heap H locs → ∀ ls : Array Slot, lv_has ls 5 [(4, .int k), (3, .int i), (2, .int (rd_ S0 71 v107)), (1, .int l), (0, .ref o)] → W pQ lQ eQ (wm_rm 1) sQ mQ (Value.ref o :: []).toArray belowQ methQ cQ H locs 0 0 (MQ belowQ (wm_Q (fun vQ HQ => vQ = some (.int (ff_order S).1) ∧ mm_W G o (ff_order S).2 E HQ) (mm_F o)) (Value.ref o :: []).toArray sQ 0 0 (mm_F o)) (F0 mQ 129 ls []) := by
                  intro fu129
                  induction fu129 with
                  | zero =>
                    intro k H locs hm129 i0129 i1129 hgo129 hW hS ls hl
                    obtain ⟨z, z1, z2, z3, z4⟩ := id i1129
                    exact absurd hm129 (by omega)
                  | succ fu129 ih129 =>
                    intro k H locs hm129 i0129 i1129 hgo129 hW hS ls hl
                    obtain ⟨z, z1, z2, z3, z4⟩ := id i1129
                    refine lv_iload_n hx hb dX5_order_129 rfl (lv_at hl 3 rfl) ?_
                    refine lv_iload hx hb dX5_order_130 (lv_at hl 0 rfl) ?_
                    refine nv_ishr hx hb dX5_order_132 (fun v132 e132 => ?_)
                    refine lv_iconst (v := 1) hx hb dX5_order_133 (by decide) ?_
                    refine nv_iand hx hb dX5_order_134 (fun v134 e134 => ?_)
                    refine lv_if_eq (tgt := 168) hx hb dX5_order_135 (by decide) (fun c135 => ?_) (fun c135 => ?_)
                    · skip
                      have nbz : nb_ l k = 0 := by unfold nb_; rw [← e132, ← e134]; exact c135
                      obtain ⟨v168, e168⟩ : ∃ yQ : Int32, yQ = k + 1 := ⟨_, rfl⟩
                      refine lv_iinc (v := v168) (lv' := [(4, .int v168), (3, .int i), (2, .int (rd_ S0 71 v107)), (1, .int l), (0, .ref o)]) hx hb dX5_order_168 hl (k := 0) rfl (by rw [e168]; rfl) (by decide) rfl (fun ls hl => ?_)
                      refine lv_goto (tgt := 129) hx hb dX5_order_171 (by decide) ?_
                      have tb : v168.toInt = k.toInt + 1 := by rw [e168]; exact ww_inc' (by omega)
                      exact ih129 v168 H locs (by omega) (by omega) ⟨z, by
                        have q : k ≠ z := by
                          intro q
                          rw [← q] at z3 z4
                          first
                          | exact z3 nbz
                          | exact nv165 z4
                        have q2 : k.toInt ≠ z.toInt := fun y => q (ww_eq y)
                        omega, z2, z3, z4⟩ (by rw [e168]; first | (rw [ow_go, if_pos nbz] at hgo129; exact hgo129) | (rw [ow_go, if_neg hbt, if_neg nv165] at hgo129; exact hgo129)) hW hS ls (lv_sub hl [0, 1, 2, 3, 4] rfl)
                    · skip
                      have hbt : ¬ nb_ l k = 0 := by unfold nb_; rw [← e132, ← e134]; exact c135
                      refine lv_aload_n hx hb dX5_order_138 rfl (lv_at hl 4 rfl) ?_
                      refine lv_iload hx hb dX5_order_139 (lv_at hl 0 rfl) ?_
                      refine lv_iload_n hx hb dX5_order_141 rfl (lv_at hl 3 rfl) ?_
                      refine mm_callp (As := [.int k, .int l]) (rest := []) (n := 2) ⟨hx, hb, hml, hown, hts⟩ hK (mc_costNext lQ G o S2 E k l (by rw [x67]; exact n0) (by rw [x67]; exact n10) i0129 (by omega)) (lw_V q2277 q2279 qs69 q92 q2280) (by decide +kernel) rfl ⟨Nat.le_of_ble_eq_true rfl, Nat.le_of_ble_eq_true rfl⟩ hW hS hl.1 rfl (Nat.le_of_ble_eq_true rfl) dX5_order_142 ⟨Nat.le_of_ble_eq_true rfl, Nat.le_of_ble_eq_true rfl⟩ (fun v142 H locs e142 hW hS => ?_)
                      refine lv_aload_n hx hb dX5_order_145 rfl (lv_at hl 4 rfl) ?_
                      refine mm_geta hx hb hts hown hK hW 71 rfl q1756 dX5_order_146 ?_
                      refine lv_iload_n hx hb dX5_order_149 rfl (lv_at hl 3 rfl) ?_
                      refine lv_iconst (v := 1) hx hb dX5_order_150 (by decide) ?_
                      refine lv_iload hx hb dX5_order_151 (lv_at hl 0 rfl) ?_
                      refine nv_ishl hx hb dX5_order_153 (fun v153 e153 => ?_)
                      refine lv_iconst (v := (-1)) hx hb dX5_order_154 (by decide) ?_
                      refine nv_ixor hx hb dX5_order_155 (fun v155 e155 => ?_)
                      refine nv_iand hx hb dX5_order_156 (fun v156 e156 => ?_)
                      have en : v156 = nm_ l k := by rw [e156, e155, e153]
                      have ent := nm_t i3118.1 (by omega) i0129 (by omega)
                      refine mm_iald hx hb hK hW 71 rfl (by rw [en]; exact ww_in ent.1 ent.2.1) dX5_order_157 ?_
                      refine nv_iadd hx hb dX5_order_158 (fun v158 e158 => ?_)
                      have n158 : v158 = on_v S2 l k := by rw [e158, e142, en]
                      refine lv_aload_n hx hb dX5_order_159 rfl (lv_at hl 4 rfl) ?_
                      refine mm_geta hx hb hts hown hK hW 71 rfl q1756 dX5_order_160 ?_
                      refine lv_iload_n hx hb dX5_order_163 rfl (lv_at hl 3 rfl) ?_
                      refine mm_iald hx hb hK hW 71 rfl (ww_in i3118.1 (by omega)) dX5_order_164 ?_
                      refine lv_icmp_eq (tgt := 174) hx hb dX5_order_165 (by decide) (fun c165 => ?_) (fun c165 => ?_)
                      · skip
                        have nv165 : on_v S2 l k = rd_ S2 71 l := by rw [← n158]; exact c165
                        have hk : k = ow_S S2 l := by
                          rw [ow_go, if_neg hbt, if_pos nv165] at hgo129
                          exact hgo129
                        clear hgo129
                        refine lv_aload_n hx hb dX5_order_174 rfl (lv_at hl 4 rfl) ?_
                        refine mm_geta hx hb hts hown hK hW 73 rfl q1758 dX5_order_175 ?_
                        refine lv_iload_n hx hb dX5_order_178 rfl (lv_at hl 1 rfl) ?_
                        refine lv_iload hx hb dX5_order_179 (lv_at hl 0 rfl) ?_
                        refine mm_iast hx hb hK hW hS 73 rfl (ww_in (by omega) (by omega)) dX5_order_181 (fun S181 H locs f181 hW hS => ?_)
                        refine lv_iload_n hx hb dX5_order_182 rfl (lv_at hl 3 rfl) ?_
                        refine lv_iconst (v := 1) hx hb dX5_order_183 (by decide) ?_
                        refine lv_iload hx hb dX5_order_184 (lv_at hl 0 rfl) ?_
                        refine nv_ishl hx hb dX5_order_186 (fun v186 e186 => ?_)
                        refine lv_iconst (v := (-1)) hx hb dX5_order_187 (by decide) ?_
                        refine nv_ixor hx hb dX5_order_188 (fun v188 e188 => ?_)
                        refine nv_iand hx hb dX5_order_189 (fun v189 e189 => ?_)
                        have n189 : v189 = nm_ l k := by rw [e189, e188, e186]
                        have kt := ent.2.2 hbt
                        refine lv_istore_n (lv' := [(1, .int v189), (4, .int k), (3, .int i), (2, .int (rd_ S0 71 v107)), (0, .ref o)]) hx hb dX5_order_190 rfl hl (by decide) rfl (fun ls hl => ?_)
                        obtain ⟨v191, e191⟩ : ∃ yQ : Int32, yQ = i + 1 := ⟨_, rfl⟩
                        refine lv_iinc (v := v191) (lv' := [(3, .int v191), (1, .int v189), (4, .int k), (2, .int (rd_ S0 71 v107)), (0, .ref o)]) hx hb dX5_order_191 hl (k := 2) rfl (by rw [e191]; rfl) (by decide) rfl (fun ls hl => ?_)
                        refine lv_goto (tgt := 118) hx hb dX5_order_194 (by decide) ?_
                        have tb : v191.toInt = i.toInt + 1 := by rw [e191]; exact ww_inc t123
                        exact ih118 v189 v191 S181 H locs (by omega) (by omega) (by omega) (by rw [f181]; exact iF118.wr (by decide)) (by rw [n189]; omega) (by rw [n189]; omega) (by rw [n189, e191, f181, hk]; simp only [or_go, if_neg c123, if_neg c135, if_pos c165] at hgo118; exact hgo118) hW hS ls (lv_sub hl [0, 3, 1, 4] rfl)
                      · skip
                        have nv165 : ¬ on_v S2 l k = rd_ S2 71 l := by rw [← n158]; exact c165
                        obtain ⟨v168, e168⟩ : ∃ yQ : Int32, yQ = k + 1 := ⟨_, rfl⟩
                        refine lv_iinc (v := v168) (lv' := [(4, .int v168), (3, .int i), (2, .int (rd_ S0 71 v107)), (1, .int l), (0, .ref o)]) hx hb dX5_order_168 hl (k := 0) rfl (by rw [e168]; rfl) (by decide) rfl (fun ls hl => ?_)
                        refine lv_goto (tgt := 129) hx hb dX5_order_171 (by decide) ?_
                        have tb : v168.toInt = k.toInt + 1 := by rw [e168]; exact ww_inc' (by omega)
                        exact ih129 v168 H locs (by omega) (by omega) ⟨z, by
                          have q : k ≠ z := by
                            intro q
                            rw [← q] at z3 z4
                            first
                            | exact z3 nbz
                            | exact nv165 z4
                          have q2 : k.toInt ≠ z.toInt := fun y => q (ww_eq y)
                          omega, z2, z3, z4⟩ (by rw [e168]; first | (rw [ow_go, if_pos nbz] at hgo129; exact hgo129) | (rw [ow_go, if_neg hbt, if_neg nv165] at hgo129; exact hgo129)) hW hS ls (lv_sub hl [0, 1, 2, 3, 4] rfl)
                exact L129 11 0 H locs (by decide) (by decide) (by rw [ww_z0]; exact dp_x) (rfl) hW hS ls (lv_sub hl [0, 1, 2, 3, 4] rfl)
          exact L118 11 v107 0 S0 H locs (by show _ - 0 < _; omega) (by decide) n0 (by rw [hs0]; exact fr_.rf _) (by rw [n107]; unfold or_full; rw [fd_of (osF 67 (by decide)), sh3]; omega) (by rw [n107]; unfold or_full; rw [fd_of (osF 67 (by decide)), sh2]; show _ = _ - (0 : Int); omega) (by rw [hs0, n107]; rfl) hW hS ls (lv_sub hl [0, 1, 2, 3] rfl)
        · have t18 : (s).toInt < (v17).toInt := ww_nle c18
          have tlim : s.toInt < ((2 ^ (fd_ S 67).toInt.toNat : Nat) : Int) := by
            rw [e17, i367, sh1] at t18
            exact t18
          refine lv_aload_n hx hb dX5_order_21 rfl (lv_at hl 1 rfl) ?_
          refine mm_geta hx hb hts hown hK hW 71 rfl q1756 dX5_order_22 ?_
          refine lv_iload_n hx hb dX5_order_25 rfl (lv_at hl 0 rfl) ?_
          refine lv_ldcw (v := 2147483647) hx hb hown (hts _ q2276) dX5_order_26 ?_
          refine mm_iast hx hb hK hW hS 71 rfl (ww_in (by omega) (by omega)) dX5_order_29 (fun S29 H locs f29 hW hS => ?_)
          refine lv_iconst (v := 0) hx hb dX5_order_30 (by decide) ?_
          refine lv_istore_n (lv' := [(2, .int 0), (1, .int s), (0, .ref o)]) hx hb dX5_order_31 rfl hl (by decide) rfl (fun ls hl => ?_)
          have L32 : ∀ (fu32 : Nat) (k : Int32) (S1 : mm_S) (H : Heap) (locs : List Loc), ((fd_ S 67).toInt - k.toInt < fu32) → (0 ≤ k.toInt) → (k.toInt ≤ (fd_ S 67).toInt) → (fr_ [71] S S1) → (dp_ S1 s) → (dp_k S1 s k) → (om_go fu32 S1 s k = om_S S0 s) → mm_W G o S1 E H → va_S (mm_F o) sQ.heap H locs → ∀ ls : Array Slot, lv_has ls 5 [(2, .int k), (1, .int s), (0, .ref o)] → W pQ lQ eQ (wm_rm 1) sQ mQ (Value.ref o :: []).toArray belowQ methQ cQ H locs 0 0 (MQ belowQ (wm_Q (fun vQ HQ => vQ = some (.int (ff_order S).1) ∧ mm_W G o (ff_order S).2 E HQ) (mm_F o)) (Value.ref o :: []).toArray sQ 0 0 (mm_F o)) (F0 mQ 32 ls []) := by
            intro fu32
            induction fu32 with
            | zero =>
              intro k S1 H locs hm32 i032 i132 iF32 i332 i432 hgo32 hW hS ls hl
              exact absurd hm32 (by omega)
            | succ fu32 ih32 =>
              intro k S1 H locs hm32 i032 i132 iF32 i332 i432 hgo32 hW hS ls hl
              have hN2 := iv_N_71 iF32 hN
              have x67 : (fd_ S1 67).toInt = (fd_ S 67).toInt := by rw [fd_of (iF32 67 (by decide))]
              refine lv_iload_n hx hb dX5_order_32 rfl (lv_at hl 0 rfl) ?_
              refine lv_aload_n hx hb dX5_order_33 rfl (lv_at hl 2 rfl) ?_
              refine mm_geti hx hb hts hown hK hW 67 rfl (by decide) q1752 dX5_order_34 ?_
              refine lv_icmp_ge (tgt := 94) hx hb dX5_order_37 (by decide) (fun c37 => ?_) (fun c37 => ?_)
              · have t37 : ((fd_ S1 67)).toInt ≤ (k).toInt := ww_le c37
                have hs : S1 = om_S S0 s := by simp only [om_go, if_pos c37] at hgo32; exact hgo32
                clear hgo32
                obtain ⟨v94, e94⟩ : ∃ yQ : Int32, yQ = s + 1 := ⟨_, rfl⟩
                refine lv_iinc (v := v94) (lv' := [(1, .int v94), (2, .int k), (0, .ref o)]) hx hb dX5_order_94 hl (k := 1) rfl (by rw [e94]; rfl) (by decide) rfl (fun ls hl => ?_)
                refine lv_goto (tgt := 11) hx hb dX5_order_97 (by decide) ?_
                have tb : v94.toInt = s.toInt + 1 := by rw [e94]; exact ww_inc' (by omega)
                exact ih11 v94 S1 H locs (by omega) (by omega) (by omega) iF32 (by rw [e94]; exact dp_s (by omega) i332 (dp_ke hN2 i011 (by rw [fd_of (iF32 67 (by decide))]; exact tlim) t37 i432)) (by rw [hs, e94]; subst e17; simp only [os_go, if_neg c18, if_pos c37] at hgo11; exact hgo11) hW hS ls (lv_sub hl [0, 2] rfl)
              · have t37 : (k).toInt < ((fd_ S1 67)).toInt := ww_nle c37
                refine lv_iload_n hx hb dX5_order_40 rfl (lv_at hl 1 rfl) ?_
                refine lv_iload_n hx hb dX5_order_41 rfl (lv_at hl 0 rfl) ?_
                refine nv_ishr hx hb dX5_order_42 (fun v42 e42 => ?_)
                refine lv_iconst (v := 1) hx hb dX5_order_43 (by decide) ?_
                refine nv_iand hx hb dX5_order_44 (fun v44 e44 => ?_)
                refine lv_if_ne (tgt := 51) hx hb dX5_order_45 (by decide) (fun c45 => ?_) (fun c45 => ?_)
                · skip
                  have hbt : ¬ nb_ s k = 0 := by unfold nb_; rw [← e42, ← e44]; exact c45
                  refine lv_aload_n hx hb dX5_order_51 rfl (lv_at hl 2 rfl) ?_
                  refine lv_iload_n hx hb dX5_order_52 rfl (lv_at hl 0 rfl) ?_
                  refine lv_iload_n hx hb dX5_order_53 rfl (lv_at hl 1 rfl) ?_
                  refine mm_callp (As := [.int k, .int s]) (rest := []) (n := 2) ⟨hx, hb, hml, hown, hts⟩ hK (mc_costNext lQ G o S1 E k s hN2.1 hN2.2.1 i032 (by omega)) (lw_V q2277 q2279 qs69 q92 q2280) (by decide +kernel) rfl ⟨Nat.le_of_ble_eq_true rfl, Nat.le_of_ble_eq_true rfl⟩ hW hS hl.1 rfl (Nat.le_of_ble_eq_true rfl) dX5_order_54 ⟨Nat.le_of_ble_eq_true rfl, Nat.le_of_ble_eq_true rfl⟩ (fun v54 H locs e54 hW hS => ?_)
                  refine lv_aload_n hx hb dX5_order_57 rfl (lv_at hl 2 rfl) ?_
                  refine mm_geta hx hb hts hown hK hW 71 rfl q1756 dX5_order_58 ?_
                  refine lv_iload_n hx hb dX5_order_61 rfl (lv_at hl 1 rfl) ?_
                  refine lv_iconst (v := 1) hx hb dX5_order_62 (by decide) ?_
                  refine lv_iload_n hx hb dX5_order_63 rfl (lv_at hl 0 rfl) ?_
                  refine nv_ishl hx hb dX5_order_64 (fun v64 e64 => ?_)
                  refine lv_iconst (v := (-1)) hx hb dX5_order_65 (by decide) ?_
                  refine nv_ixor hx hb dX5_order_66 (fun v66 e66 => ?_)
                  refine nv_iand hx hb dX5_order_67 (fun v67 e67 => ?_)
                  have en : v67 = nm_ s k := by rw [e67, e66, e64]
                  have ent := nm_t (show 0 ≤ s.toInt by omega) (by omega) i032 (by omega)
                  refine mm_iald hx hb hK hW 71 rfl (by rw [en]; exact ww_in ent.1 ent.2.1) dX5_order_68 ?_
                  refine nv_iadd hx hb dX5_order_69 (fun v69 e69 => ?_)
                  refine lv_istore_n (lv' := [(3, .int v69), (2, .int k), (1, .int s), (0, .ref o)]) hx hb dX5_order_70 rfl hl (by decide) rfl (fun ls hl => ?_)
                  have n69 : v69 = on_v S1 s k := by rw [e69, e54, en]
                  refine lv_iload_n hx hb dX5_order_71 rfl (lv_at hl 0 rfl) ?_
                  refine lv_aload_n hx hb dX5_order_72 rfl (lv_at hl 3 rfl) ?_
                  refine mm_geta hx hb hts hown hK hW 71 rfl q1756 dX5_order_73 ?_
                  refine lv_iload_n hx hb dX5_order_76 rfl (lv_at hl 2 rfl) ?_
                  refine mm_iald hx hb hK hW 71 rfl (ww_in (by omega) (by omega)) dX5_order_77 ?_
                  refine lv_icmp_ge (tgt := 88) hx hb dX5_order_78 (by decide) (fun c78 => ?_) (fun c78 => ?_)
                  · have t78 : ((rd_ S1 71 s)).toInt ≤ (v69).toInt := ww_le c78
                    have n78 : rd_ S1 71 s ≤ on_v S1 s k := by rw [← n69]; exact c78
                    obtain ⟨v88, e88⟩ : ∃ yQ : Int32, yQ = k + 1 := ⟨_, rfl⟩
                    refine lv_iinc (v := v88) (lv' := [(2, .int v88), (3, .int v69), (1, .int s), (0, .ref o)]) hx hb dX5_order_88 hl (k := 1) rfl (by rw [e88]; rfl) (by decide) rfl (fun ls hl => ?_)
                    refine lv_goto (tgt := 32) hx hb dX5_order_91 (by decide) ?_
                    have tb : v88.toInt = k.toInt + 1 := by rw [e88]; exact ww_inc' (by omega)
                    exact ih32 v88 S1 H locs (by omega) (by omega) (by omega) (by first | exact iF32 | (rw [f87]; exact iF32.wr (by decide))) (by first | exact i332 | (rw [f87]; exact dp_w (by omega) (by omega) i332)) (by rw [e88]; first | exact dp_kn nbz i032 (by omega) i432 | exact dp_kl hN2 i332 i011 (by omega) i032 (by omega) hbt n78 i432 | (rw [f87, n69]; exact dp_kg hN2 i332 i011 (by omega) i032 (by omega) hbt)) (by first | (rw [e88]; rw [om_go, if_neg c37, if_pos nbz] at hgo32; exact hgo32) | (rw [e88]; rw [om_go, if_neg c37, if_neg hbt, if_pos n78] at hgo32; exact hgo32) | (rw [e88, f87, n69]; rw [om_go, if_neg c37, if_neg hbt, if_neg n78] at hgo32; exact hgo32)) hW hS ls (lv_sub hl [0, 2, 3] rfl)
                  · have t78 : (v69).toInt < ((rd_ S1 71 s)).toInt := ww_nle c78
                    have n78 : ¬ rd_ S1 71 s ≤ on_v S1 s k := by rw [← n69]; exact c78
                    refine lv_aload_n hx hb dX5_order_81 rfl (lv_at hl 3 rfl) ?_
                    refine mm_geta hx hb hts hown hK hW 71 rfl q1756 dX5_order_82 ?_
                    refine lv_iload_n hx hb dX5_order_85 rfl (lv_at hl 2 rfl) ?_
                    refine lv_iload_n hx hb dX5_order_86 rfl (lv_at hl 0 rfl) ?_
                    refine mm_iast hx hb hK hW hS 71 rfl (ww_in (by omega) (by omega)) dX5_order_87 (fun S87 H locs f87 hW hS => ?_)
                    obtain ⟨v88, e88⟩ : ∃ yQ : Int32, yQ = k + 1 := ⟨_, rfl⟩
                    refine lv_iinc (v := v88) (lv' := [(2, .int v88), (3, .int v69), (1, .int s), (0, .ref o)]) hx hb dX5_order_88 hl (k := 1) rfl (by rw [e88]; rfl) (by decide) rfl (fun ls hl => ?_)
                    refine lv_goto (tgt := 32) hx hb dX5_order_91 (by decide) ?_
                    have tb : v88.toInt = k.toInt + 1 := by rw [e88]; exact ww_inc' (by omega)
                    exact ih32 v88 S87 H locs (by omega) (by omega) (by omega) (by first | exact iF32 | (rw [f87]; exact iF32.wr (by decide))) (by first | exact i332 | (rw [f87]; exact dp_w (by omega) (by omega) i332)) (by rw [e88]; first | exact dp_kn nbz i032 (by omega) i432 | exact dp_kl hN2 i332 i011 (by omega) i032 (by omega) hbt n78 i432 | (rw [f87, n69]; exact dp_kg hN2 i332 i011 (by omega) i032 (by omega) hbt)) (by first | (rw [e88]; rw [om_go, if_neg c37, if_pos nbz] at hgo32; exact hgo32) | (rw [e88]; rw [om_go, if_neg c37, if_neg hbt, if_pos n78] at hgo32; exact hgo32) | (rw [e88, f87, n69]; rw [om_go, if_neg c37, if_neg hbt, if_neg n78] at hgo32; exact hgo32)) hW hS ls (lv_sub hl [0, 2, 3] rfl)
                · skip
                  have nbz : nb_ s k = 0 := by unfold nb_; rw [← e42, ← e44]; exact c45
                  refine lv_goto (tgt := 88) hx hb dX5_order_48 (by decide) ?_
                  obtain ⟨v88, e88⟩ : ∃ yQ : Int32, yQ = k + 1 := ⟨_, rfl⟩
                  refine lv_iinc (v := v88) (lv' := [(2, .int v88), (1, .int s), (0, .ref o)]) hx hb dX5_order_88 hl (k := 0) rfl (by rw [e88]; rfl) (by decide) rfl (fun ls hl => ?_)
                  refine lv_goto (tgt := 32) hx hb dX5_order_91 (by decide) ?_
                  have tb : v88.toInt = k.toInt + 1 := by rw [e88]; exact ww_inc' (by omega)
                  exact ih32 v88 S1 H locs (by omega) (by omega) (by omega) (by first | exact iF32 | (rw [f87]; exact iF32.wr (by decide))) (by first | exact i332 | (rw [f87]; exact dp_w (by omega) (by omega) i332)) (by rw [e88]; first | exact dp_kn nbz i032 (by omega) i432 | exact dp_kl hN2 i332 i011 (by omega) i032 (by omega) hbt n78 i432 | (rw [f87, n69]; exact dp_kg hN2 i332 i011 (by omega) i032 (by omega) hbt)) (by first | (rw [e88]; rw [om_go, if_neg c37, if_pos nbz] at hgo32; exact hgo32) | (rw [e88]; rw [om_go, if_neg c37, if_neg hbt, if_pos n78] at hgo32; exact hgo32) | (rw [e88, f87, n69]; rw [om_go, if_neg c37, if_neg hbt, if_neg n78] at hgo32; exact hgo32)) hW hS ls (lv_sub hl [0, 1, 2] rfl)
          exact L32 11 0 S29 H locs (by show _ - 0 < _; omega) (by decide) n0 (by rw [f29]; exact iF11.wr (by decide)) (by rw [f29]; exact dp_w (by omega) (by rw [i367]; exact n10) i311) (by rw [f29]; exact dp_k0) (by rw [f29]; rfl) hW hS ls (lv_sub hl [0, 1, 2] rfl)
    exact L11 1025 1 S H locs (by decide) (by decide) (by show (1 : Int) ≤ _; exact p1) (fr_.rf S) (dp_i hO) (rfl) hW hS ls (lv_sub hl [0, 1] rfl)
  · skip
    refine lv_iconst (v := (-1)) hx hb dX5_order_7 (by decide) ?_
    refine mm_iret hx hb hr hlocks hW hS ?_ dX5_order_8
    have hres : ff_order S = ((-1), S) := by simp only [ff_order, if_pos c4]
    exact ⟨by rw [hres], by rw [hres], rfl⟩

set_option maxHeartbeats 4000000 in
theorem mc_ordered (lQ : Launch) (G : wm_G) (o : Nat) (S : mm_S) (E : mm_E) (i : Int32) (hm : (fd_ S 72).toInt ≤ 10) (hm0 : -1 ≤ (fd_ S 72).toInt) : mm_Met lQ G o yX5_ordered (ws_ yX5_ordered cX5_ordered 2 (some .int)) 1 S E [.int i] (some (.int (ff_ordered S i))) S E := by
  refine mm_start (by decide +kernel) (Nat.le_of_ble_eq_true rfl) rfl (fun pQ eQ sQ mQ belowQ methQ cQ hx hb hml hr hlocks hts hown hK H hW hS ls hl => ?_)
  have hl : lv_has ls 2 [(0, .ref o), (1, .int i)] := hl
  generalize hlc : ([] : List Loc) = locs at hS ⊢
  refine lv_iload_n hx hb dX5_ordered_0 rfl (lv_at hl 1 rfl) ?_
  refine lv_iconst (v := 0) hx hb dX5_ordered_1 (by decide) ?_
  refine lv_aload_n hx hb dX5_ordered_2 rfl (lv_at hl 0 rfl) ?_
  refine mm_geti hx hb hts hown hK hW 72 rfl (by decide) q1757 dX5_ordered_3 ?_
  refine lv_iconst (v := 1) hx hb dX5_ordered_6 (by decide) ?_
  refine nv_isub hx hb dX5_ordered_7 (fun v7 e7 => ?_)
  refine pp_calli (As := [.int i, .int 0, .int v7]) (rest := []) (n := 3) ⟨hx, hb, hml, hown, hts⟩ (mc_in lQ i 0 v7) (lw_S q1979 q1980 q92 q1981) (by decide +kernel) rfl ⟨Nat.le_of_ble_eq_true rfl, Nat.le_of_ble_eq_true rfl⟩ hl.1 rfl (Nat.le_of_ble_eq_true rfl) dX5_ordered_8 ⟨Nat.le_of_ble_eq_true rfl, Nat.le_of_ble_eq_true rfl⟩ (fun v8 e8 => ?_)
  refine lv_if_eq (tgt := 23) hx hb dX5_ordered_11 (by decide) (fun c11 => ?_) (fun c11 => ?_)
  · skip
    refine lv_iconst (v := (-1)) hx hb dX5_ordered_23 (by decide) ?_
    refine mm_iret hx hb hr hlocks hW hS ?_ dX5_ordered_24
    have hres : ff_ordered S i = (-1) := by subst e7 e8; simp only [ff_ordered, if_pos c11]
    exact ⟨by rw [hres], rfl, rfl⟩
  · skip
    obtain ⟨s0, s1⟩ := ff_in_t (v := i) (a := 0) (b := fd_ S 72 - 1) (by rw [← e7, ← e8]; exact c11)
    have s0 : 0 ≤ i.toInt := s0
    rw [ww_sub1 (by omega)] at s1
    refine lv_aload_n hx hb dX5_ordered_14 rfl (lv_at hl 0 rfl) ?_
    refine mm_geta hx hb hts hown hK hW 73 rfl q1758 dX5_ordered_15 ?_
    refine lv_iload_n hx hb dX5_ordered_18 rfl (lv_at hl 1 rfl) ?_
    refine mm_iald hx hb hK hW 73 rfl (ww_in (by omega) (by omega)) dX5_ordered_19 ?_
    refine lv_goto (tgt := 24) hx hb dX5_ordered_20 (by decide) ?_
    refine mm_iret hx hb hr hlocks hW hS ?_ dX5_ordered_24
    have hres : ff_ordered S i = (rd_ S 73 i) := by subst e7 e8; simp only [ff_ordered, if_neg c11]
    exact ⟨by rw [hres], rfl, rfl⟩
