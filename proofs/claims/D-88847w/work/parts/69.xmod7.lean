set_option maxHeartbeats 4000000 in
theorem xc_order (lQ : Launch) (G : wm_G) (o d0 : Nat) (X : mm_S) (E : mm_E) (D : xg) (hZ : xv_Z X) : xw_Met lQ G o d0 yX0_order (ws_ yX0_order cX0_order 5 (some .int)) 3 X E D [Value.ref o] (some (.int (xf_order X).1)) (xf_order X).2 E := by
  refine xw_start (own := RX0) (by decide +kernel) (Nat.le_of_ble_eq_true rfl) rfl (fun pQ eQ sQ mQ belowQ methQ cQ hx hb hml hr hlocks hts hown hK hN H hW hS ls hl => ?_)
  have hl : lv_has ls 5 [(0, .ref o)] := hl
  generalize hlc : ([] : List Loc) = locs at hS ⊢
  have n0 := hZ.1.1
  have n10 := hZ.1.2
  have hA0 : xd_a (fd_ X 40) (xf_o_all X) := xd_a_of n0 n10
  have hlt0 := xd_a_lt hA0
  have ha3 := hA0.2.2
  refine lv_aload_n hx hb dX0_order_0 rfl (lv_at hl 0 rfl) ?_
  refine xx_geti hx hb hts hown hK hW 40 rfl rfl (by decide) (by decide) q313 dX0_order_1 ?_
  refine lv_if_ne (tgt := 9) hx hb dX0_order_4 (by decide) (fun c4 => ?_) (fun c4 => ?_)
  · skip
    refine lv_iconst (v := 1) hx hb dX0_order_9 (by decide) ?_
    refine lv_aload_n hx hb dX0_order_10 rfl (lv_at hl 0 rfl) ?_
    refine xx_geti hx hb hts hown hK hW 40 rfl rfl (by decide) (by decide) q313 dX0_order_11 ?_
    refine nv_ishl hx hb dX0_order_14 (fun v14 e14 => ?_)
    refine lv_iconst (v := 1) hx hb dX0_order_15 (by decide) ?_
    refine nv_isub hx hb dX0_order_16 (fun v16 e16 => ?_)
    refine lv_istore_n (lv' := [(1, .int v16), (0, .ref o)]) hx hb dX0_order_17 rfl hl (by decide) rfl (fun ls hl => ?_)
    have n16 : v16 = xf_o_all X := by rw [e16, e14]; rfl
    refine lv_aload_n hx hb dX0_order_18 rfl (lv_at hl 1 rfl) ?_
    refine xx_geta hx hb hts hown hK hW 41 rfl q314 dX0_order_19 ?_
    refine lv_iload_n hx hb dX0_order_22 rfl (lv_at hl 0 rfl) ?_
    refine lv_iconst (v := 0) hx hb dX0_order_23 (by decide) ?_
    refine xx_iast hx hb hK hW hS 41 rfl (by rw [n16]; exact ww_in (by omega) (by omega)) dX0_order_24 (fun X24 H locs f24 hW hS => ?_)
    refine lv_iload_n hx hb dX0_order_25 rfl (lv_at hl 0 rfl) ?_
    refine lv_iconst (v := 1) hx hb dX0_order_26 (by decide) ?_
    refine nv_isub hx hb dX0_order_27 (fun v27 e27 => ?_)
    have t26 : v27.toInt = (xf_o_all X).toInt - 1 := by rw [e27, n16]; exact ww_sub1 (by omega)
    refine lv_istore_n (lv' := [(2, .int v27), (1, .int v16), (0, .ref o)]) hx hb dX0_order_28 rfl hl (by decide) rfl (fun ls hl => ?_)
    have L29 : ∀ (fu29 : Nat) (s : Int32) (Y0 : mm_S) (H : Heap) (locs : List Loc), (s.toInt + 1 < fu29) → (-1 ≤ s.toInt) → (s.toInt < (xf_o_all X).toInt) → (fr_ [41] X Y0) → (xd_ Y0 (xf_o_all X) s) → (xf_os_go fu29 Y0 s = xf_od_S X) → xx_W G o d0 Y0 E D H → va_S (xx_F o d0) sQ.heap H locs → ∀ ls : Array Slot, lv_has ls 5 [(2, .int s), (1, .int v16), (0, .ref o)] → W pQ lQ eQ (wm_rm 3) sQ mQ ([Value.ref o] : List Value).toArray belowQ methQ cQ H locs 0 0 (MQ belowQ (wm_Q (fun vQ HQ => vQ = some (.int (xf_order X).1) ∧ xx_W G o d0 (xf_order X).2 E D HQ) (xx_F o d0)) ([Value.ref o] : List Value).toArray sQ 0 0 (xx_F o d0)) (F0 mQ 29 ls []) := by
      intro fu29
      induction fu29 with
      | zero =>
        intro s Y0 H locs hm29 i029 i129 iF29 i329 hgo29 hW hS ls hl
        exact absurd hm29 (by omega)
      | succ fu29 ih29 =>
        intro s Y0 H locs hm29 i029 i129 iF29 i329 hgo29 hW hS ls hl
        have x40 : fd_ Y0 40 = fd_ X 40 := fd_of (iF29 40 (by decide))
        refine lv_iload_n hx hb dX0_order_29 rfl (lv_at hl 0 rfl) ?_
        refine lv_if_lt (tgt := 104) hx hb dX0_order_30 (by decide) (fun c30 => ?_) (fun c30 => ?_)
        · have t30 : (s).toInt < 0 := ww_lt c30
          have hs0 : Y0 = xf_od_S X := by rw [xf_os_go, if_pos c30] at hgo29; exact hgo29
          clear hgo29
          have osF : fr_ [41] X (xf_od_S X) := by rw [← hs0]; exact iF29
          have dpa := i329
          rw [hs0] at dpa
          have pcA : pc_ (xf_o_all X) = (fd_ X 40).toInt.toNat := (sh_t n0 n10).2.1
          refine lv_iconst (v := 0) hx hb dX0_order_104 (by decide) ?_
          refine lv_istore_n (lv' := [(2, .int 0), (1, .int v16), (0, .ref o)]) hx hb dX0_order_105 rfl hl (by decide) rfl (fun ls hl => ?_)
          refine lv_iconst (v := 0) hx hb dX0_order_106 (by decide) ?_
          refine lv_istore_n (lv' := [(3, .int 0), (2, .int 0), (1, .int v16), (0, .ref o)]) hx hb dX0_order_107 rfl hl (by decide) rfl (fun ls hl => ?_)
          have L108 : ∀ (fu108 : Nat) (sd : Int32) (k : Int32) (Y2 : mm_S) (H : Heap) (locs : List Loc), ((fd_ X 40).toInt - k.toInt < fu108) → (0 ≤ k.toInt) → (k.toInt ≤ (fd_ X 40).toInt) → (fr_ [42] (xf_od_S X) Y2) → (0 ≤ sd.toInt ∧ sd.toInt ≤ (xf_o_all X).toInt) → ((pc_ sd : Int) = k.toInt) → (xf_or_go fu108 Y2 sd k = xf_or_S X) → xx_W G o d0 Y2 E D H → va_S (xx_F o d0) sQ.heap H locs → ∀ ls : Array Slot, lv_has ls 5 [(3, .int k), (2, .int sd), (1, .int v16), (0, .ref o)] → W pQ lQ eQ (wm_rm 3) sQ mQ ([Value.ref o] : List Value).toArray belowQ methQ cQ H locs 0 0 (MQ belowQ (wm_Q (fun vQ HQ => vQ = some (.int (xf_order X).1) ∧ xx_W G o d0 (xf_order X).2 E D HQ) (xx_F o d0)) ([Value.ref o] : List Value).toArray sQ 0 0 (xx_F o d0)) (F0 mQ 108 ls []) := by
            intro fu108
            induction fu108 with
            | zero =>
              intro sd k Y2 H locs hm108 i0108 i1108 iF108 i3108 i4108 hgo108 hW hS ls hl
              exact absurd hm108 (by omega)
            | succ fu108 ih108 =>
              intro sd k Y2 H locs hm108 i0108 i1108 iF108 i3108 i4108 hgo108 hW hS ls hl
              have xF : fr_ [41, 42] X Y2 := (osF.le' (by decide)).tr (iF108.le' (by decide))
              have y40 : (fd_ Y2 40).toInt = (fd_ X 40).toInt := by rw [fd_of (xF 40 (by decide))]
              refine lv_iload_n hx hb dX0_order_108 rfl (lv_at hl 0 rfl) ?_
              refine lv_aload_n hx hb dX0_order_109 rfl (lv_at hl 3 rfl) ?_
              refine xx_geti hx hb hts hown hK hW 40 rfl rfl (by decide) (by decide) q313 dX0_order_110 ?_
              refine lv_icmp_ge (tgt := 184) hx hb dX0_order_113 (by decide) (fun c113 => ?_) (fun c113 => ?_)
              · have t113 : ((fd_ Y2 40)).toInt ≤ (k).toInt := ww_le c113
                refine lv_aload_n hx hb dX0_order_184 rfl (lv_at hl 3 rfl) ?_
                refine lv_aload_n hx hb dX0_order_185 rfl (lv_at hl 3 rfl) ?_
                refine xx_geti hx hb hts hown hK hW 40 rfl rfl (by decide) (by decide) q313 dX0_order_186 ?_
                refine xx_puti hx hb hts hown hK hW hS 43 rfl rfl (by decide) (by decide) (by decide) rfl rfl rfl q316 dX0_order_189 (fun X189 H locs f189 hW hS => ?_)
                refine lv_aload_n hx hb dX0_order_192 rfl (lv_at hl 3 rfl) ?_
                refine lv_iconst (v := 0) hx hb dX0_order_193 (by decide) ?_
                refine xx_puti hx hb hts hown hK hW hS 40 rfl rfl (by decide) (by decide) (by decide) rfl rfl rfl q313 dX0_order_194 (fun X194 H locs f194 hW hS => ?_)
                refine lv_aload_n hx hb dX0_order_197 rfl (lv_at hl 3 rfl) ?_
                refine xx_geta hx hb hts hown hK hW 41 rfl q314 dX0_order_198 ?_
                refine lv_iconst (v := 0) hx hb dX0_order_201 (by decide) ?_
                refine xx_iald hx hb hK hW 41 rfl (ww_in (by decide) (by decide)) dX0_order_202 ?_
                refine xw_iret hx hb hr hlocks hW hS ?_ dX0_order_203
                have hres : xf_order X = (rd_ X194 41 0, X194) := by
                  rw [xf_or_go, if_pos c113, ← f189, ← f194] at hgo108
                  unfold xf_order
                  rw [if_neg c4, ← hgo108]
                exact ⟨by rw [hres], by rw [hres], rfl⟩
              · have t113 : (k).toInt < ((fd_ Y2 40)).toInt := ww_nle c113
                have sdlt : sd.toInt < (xf_o_all X).toInt := by
                  have q : sd ≠ xf_o_all X := by
                    intro q
                    rw [q, pcA] at i4108
                    omega
                  have q2 : sd.toInt ≠ (xf_o_all X).toInt := fun y => q (ww_eq y)
                  omega
                have dp_x : ∃ z : Int32, 0 ≤ z.toInt ∧ z.toInt < (fd_ X 40).toInt ∧ nb_ sd z = 0 ∧ xf_ol_v Y2 sd z = rd_ Y2 41 sd := by
                  obtain ⟨_, _, d⟩ := xd_of iF108 dpa sd (by omega) (by omega)
                  obtain ⟨z, z1, z2, z3, z4⟩ := d sdlt
                  exact ⟨z, z1, by rw [y40] at z2; exact z2, z3, z4⟩
                refine lv_iconst (v := 0) hx hb dX0_order_116 (by decide) ?_
                refine lv_istore (lv' := [(4, .int 0), (3, .int k), (2, .int sd), (1, .int v16), (0, .ref o)]) hx hb dX0_order_117 hl (by decide) rfl (fun ls hl => ?_)
                have L119 : ∀ (fu119 : Nat) (i : Int32) (H : Heap) (locs : List Loc), (10 - i.toInt < fu119) → (0 ≤ i.toInt) → (∃ z : Int32, i.toInt ≤ z.toInt ∧ z.toInt < (fd_ X 40).toInt ∧ nb_ sd z = 0 ∧ xf_ol_v Y2 sd z = rd_ Y2 41 sd) → (xf_ow_go fu119 Y2 sd i = xf_ow_S Y2 sd) → xx_W G o d0 Y2 E D H → va_S (xx_F o d0) sQ.heap H locs → ∀ ls : Array Slot, lv_has ls 5 [(4, .int i), (3, .int k), (2, .int sd), (1, .int v16), (0, .ref o)] → W pQ lQ eQ (wm_rm 3) sQ mQ ([Value.ref o] : List Value).toArray belowQ methQ cQ H locs 0 0 (MQ belowQ (wm_Q (fun vQ HQ => vQ = some (.int (xf_order X).1) ∧ xx_W G o d0 (xf_order X).2 E D HQ) (xx_F o d0)) ([Value.ref o] : List Value).toArray sQ 0 0 (xx_F o d0)) (F0 mQ 119 ls []) := by
                  intro fu119
                  induction fu119 with
                  | zero =>
                    intro i H locs hm119 i0119 i1119 hgo119 hW hS ls hl
                    obtain ⟨z, z1, z2, z3, z4⟩ := id i1119
                    exact absurd hm119 (by omega)
                  | succ fu119 ih119 =>
                    intro i H locs hm119 i0119 i1119 hgo119 hW hS ls hl
                    obtain ⟨z, z1, z2, z3, z4⟩ := id i1119
                    refine lv_iload_n hx hb dX0_order_119 rfl (lv_at hl 2 rfl) ?_
                    refine lv_iload hx hb dX0_order_120 (lv_at hl 0 rfl) ?_
                    refine nv_ishr hx hb dX0_order_122 (fun v122 e122 => ?_)
                    refine lv_iconst (v := 1) hx hb dX0_order_123 (by decide) ?_
                    refine nv_iand hx hb dX0_order_124 (fun v124 e124 => ?_)
                    refine lv_iconst (v := 1) hx hb dX0_order_125 (by decide) ?_
                    have nbv : v124 = nb_ sd i := by rw [e124, e122]
                    refine lv_icmp_eq (tgt := 157) hx hb dX0_order_126 (by decide) (fun c126 => ?_) (fun c126 => ?_)
                    · skip
                      have nbz : nb_ sd i = 1 := by rw [← nbv]; exact c126
                      obtain ⟨v157, e157⟩ : ∃ yQ : Int32, yQ = i + 1 := ⟨_, rfl⟩
                      refine lv_iinc (v := v157) (lv' := [(4, .int v157), (3, .int k), (2, .int sd), (1, .int v16), (0, .ref o)]) hx hb dX0_order_157 hl (k := 0) rfl (by rw [e157]; rfl) (by decide) rfl (fun ls hl => ?_)
                      refine lv_goto (tgt := 119) hx hb dX0_order_160 (by decide) ?_
                      have tb : v157.toInt = i.toInt + 1 := by rw [e157]; exact ww_inc' (by omega)
                      exact ih119 v157 H locs (by omega) (by omega) ⟨z, by
                        have q : i ≠ z := by
                          intro q
                          rw [← q] at z3 z4
                          first
                          | exact nv z4
                          | (rw [nbz] at z3; exact absurd z3 (by decide))
                        have q2 : i.toInt ≠ z.toInt := fun y => q (ww_eq y)
                        omega, z2, z3, z4⟩ (by rw [e157]; first | (rw [xf_ow_go, if_pos nbz] at hgo119; exact hgo119) | (rw [xf_ow_go, if_neg nbz, if_neg nv] at hgo119; exact hgo119)) hW hS ls (lv_sub hl [0, 1, 2, 3, 4] rfl)
                    · skip
                      have nbz : ¬ nb_ sd i = 1 := by rw [← nbv]; exact c126
                      have ent := nu_t (s := sd) (n := fd_ X 40) n10 i3108.1 (by omega) i0119 (by omega)
                      have ent2 : (nu_ sd i).toInt < 1024 := by
                        have z1 := ent.2.1
                        omega
                      refine lv_aload_n hx hb dX0_order_129 rfl (lv_at hl 4 rfl) ?_
                      refine lv_iload hx hb dX0_order_130 (lv_at hl 0 rfl) ?_
                      refine lv_iload_n hx hb dX0_order_132 rfl (lv_at hl 2 rfl) ?_
                      refine xw_p (xw_rV (As := [.int i, .int sd]) (rest := []) (n := 2) ⟨hx, hb, hml, hown, hts⟩ hK hN hW (xc_lateOf lQ G o d0 Y2 E D i sd (show xv_N _ from ⟨by omega, by omega⟩) i0119 (by omega)) (lw_V q1251 q1253 qs32 q84 q1254) (xr_main hK hW) (by decide +kernel) rfl ⟨Nat.le_of_ble_eq_true rfl, Nat.le_of_ble_eq_true rfl⟩ hl.1 rfl (Nat.le_of_ble_eq_true rfl) dX0_order_133 ⟨Nat.le_of_ble_eq_true rfl, Nat.le_of_ble_eq_true rfl⟩) hS (fun v133 H locs e133 hW hS => ?_)
                      refine lv_aload_n hx hb dX0_order_136 rfl (lv_at hl 4 rfl) ?_
                      refine xx_geta hx hb hts hown hK hW 41 rfl q314 dX0_order_137 ?_
                      refine lv_iload_n hx hb dX0_order_140 rfl (lv_at hl 2 rfl) ?_
                      refine lv_iconst (v := 1) hx hb dX0_order_141 (by decide) ?_
                      refine lv_iload hx hb dX0_order_142 (lv_at hl 0 rfl) ?_
                      refine nv_ishl hx hb dX0_order_144 (fun v144 e144 => ?_)
                      refine nv_ior hx hb dX0_order_145 (fun v145 e145 => ?_)
                      refine xx_iald hx hb hK hW 41 rfl (by rw [e145, e144]; exact ww_in ent.1 ent2) dX0_order_146 ?_
                      refine nv_iadd hx hb dX0_order_147 (fun v147 e147 => ?_)
                      have n147 : v147 = xf_ol_v Y2 sd i := by rw [e147, e133, e145, e144]
                      refine lv_aload_n hx hb dX0_order_148 rfl (lv_at hl 4 rfl) ?_
                      refine xx_geta hx hb hts hown hK hW 41 rfl q314 dX0_order_149 ?_
                      refine lv_iload_n hx hb dX0_order_152 rfl (lv_at hl 2 rfl) ?_
                      refine xx_iald hx hb hK hW 41 rfl (ww_in (by omega) (by omega)) dX0_order_153 ?_
                      refine lv_icmp_eq (tgt := 163) hx hb dX0_order_154 (by decide) (fun c154 => ?_) (fun c154 => ?_)
                      · skip
                        have nv : xf_ol_v Y2 sd i = rd_ Y2 41 sd := by rw [← n147]; exact c154
                        have nv : xf_ol_v Y2 sd i = rd_ Y2 41 sd := by rw [← n147]; exact c154
                        have hk : i = xf_ow_S Y2 sd := by
                          rw [xf_ow_go, if_neg nbz, if_pos nv] at hgo119
                          exact hgo119
                        clear hgo119
                        have kt : sd.toInt < (nu_ sd i).toInt ∧ pc_ (nu_ sd i) = pc_ sd + 1 := by
                          rcases ent.2.2 with z | z
                          · exact absurd z nbz
                          · exact z.2
                        refine lv_aload_n hx hb dX0_order_163 rfl (lv_at hl 4 rfl) ?_
                        refine xx_geta hx hb hts hown hK hW 42 rfl q315 dX0_order_164 ?_
                        refine lv_iload_n hx hb dX0_order_167 rfl (lv_at hl 1 rfl) ?_
                        refine lv_iload hx hb dX0_order_168 (lv_at hl 0 rfl) ?_
                        refine xx_iast hx hb hK hW hS 42 rfl (ww_in (by omega) (by omega)) dX0_order_170 (fun X170 H locs f170 hW hS => ?_)
                        refine lv_iload_n hx hb dX0_order_171 rfl (lv_at hl 2 rfl) ?_
                        refine lv_iconst (v := 1) hx hb dX0_order_172 (by decide) ?_
                        refine lv_iload hx hb dX0_order_173 (lv_at hl 0 rfl) ?_
                        refine nv_ishl hx hb dX0_order_175 (fun v175 e175 => ?_)
                        refine nv_ior hx hb dX0_order_176 (fun v176 e176 => ?_)
                        have n176 : v176 = nu_ sd i := by rw [e176, e175]
                        refine lv_istore_n (lv' := [(2, .int v176), (4, .int i), (3, .int k), (1, .int v16), (0, .ref o)]) hx hb dX0_order_177 rfl hl (by decide) rfl (fun ls hl => ?_)
                        obtain ⟨v178, e178⟩ : ∃ yQ : Int32, yQ = k + 1 := ⟨_, rfl⟩
                        refine lv_iinc (v := v178) (lv' := [(3, .int v178), (2, .int v176), (4, .int i), (1, .int v16), (0, .ref o)]) hx hb dX0_order_178 hl (k := 2) rfl (by rw [e178]; rfl) (by decide) rfl (fun ls hl => ?_)
                        refine lv_goto (tgt := 108) hx hb dX0_order_181 (by decide) ?_
                        have tb : v178.toInt = k.toInt + 1 := by rw [e178]; exact ww_inc t113
                        exact ih108 v176 v178 X170 H locs (by omega) (by omega) (by omega) (by rw [f170]; exact iF108.wr (by decide)) (by rw [n176]; omega) (by rw [n176]; omega) (by rw [n176, e178, f170, hk]; rw [xf_or_go, if_neg c113] at hgo108; exact hgo108) hW hS ls (lv_sub hl [0, 1, 3, 4] rfl)
                      · skip
                        have nv : ¬ xf_ol_v Y2 sd i = rd_ Y2 41 sd := by rw [← n147]; exact c154
                        obtain ⟨v157, e157⟩ : ∃ yQ : Int32, yQ = i + 1 := ⟨_, rfl⟩
                        refine lv_iinc (v := v157) (lv' := [(4, .int v157), (3, .int k), (2, .int sd), (1, .int v16), (0, .ref o)]) hx hb dX0_order_157 hl (k := 0) rfl (by rw [e157]; rfl) (by decide) rfl (fun ls hl => ?_)
                        refine lv_goto (tgt := 119) hx hb dX0_order_160 (by decide) ?_
                        have tb : v157.toInt = i.toInt + 1 := by rw [e157]; exact ww_inc' (by omega)
                        exact ih119 v157 H locs (by omega) (by omega) ⟨z, by
                          have q : i ≠ z := by
                            intro q
                            rw [← q] at z3 z4
                            first
                            | exact nv z4
                            | (rw [nbz] at z3; exact absurd z3 (by decide))
                          have q2 : i.toInt ≠ z.toInt := fun y => q (ww_eq y)
                          omega, z2, z3, z4⟩ (by rw [e157]; first | (rw [xf_ow_go, if_pos nbz] at hgo119; exact hgo119) | (rw [xf_ow_go, if_neg nbz, if_neg nv] at hgo119; exact hgo119)) hW hS ls (lv_sub hl [0, 1, 2, 3, 4] rfl)
                exact L119 11 0 H locs (by decide) (by decide) (by rw [ww_z0]; exact dp_x) (rfl) hW hS ls (lv_sub hl [0, 1, 2, 3, 4] rfl)
          exact L108 11 0 0 Y0 H locs (by show _ - 0 < (11 : Int); omega) (by decide) (by show (0 : Int) ≤ _; exact n0) (by rw [hs0]; exact fr_.rf _) ⟨by decide, hlt0.1⟩ (by decide +kernel) (by rw [hs0]; rfl) hW hS ls (lv_sub hl [0, 1, 2, 3] rfl)
        · have t30 : 0 ≤ (s).toInt := ww_nlt c30
          refine lv_aload_n hx hb dX0_order_33 rfl (lv_at hl 2 rfl) ?_
          refine xx_geta hx hb hts hown hK hW 41 rfl q314 dX0_order_34 ?_
          refine lv_iload_n hx hb dX0_order_37 rfl (lv_at hl 0 rfl) ?_
          refine lv_ldcw (v := 2147483647) hx hb hown (hts _ q1250) dX0_order_38 ?_
          refine xx_iast hx hb hK hW hS 41 rfl (ww_in (by omega) (by omega)) dX0_order_41 (fun X41 H locs f41 hW hS => ?_)
          refine lv_iconst (v := 0) hx hb dX0_order_42 (by decide) ?_
          refine lv_istore_n (lv' := [(3, .int 0), (2, .int s), (1, .int v16), (0, .ref o)]) hx hb dX0_order_43 rfl hl (by decide) rfl (fun ls hl => ?_)
          have L44 : ∀ (fu44 : Nat) (i : Int32) (Y1 : mm_S) (H : Heap) (locs : List Loc), ((fd_ X 40).toInt - i.toInt < fu44) → (0 ≤ i.toInt) → (i.toInt ≤ (fd_ X 40).toInt) → (fr_ [41] X Y1) → (xd_ Y1 (xf_o_all X) s) → (xd_k Y1 (xf_o_all X) s i) → (xf_om_go fu44 Y1 s i = xf_om_S Y0 s) → xx_W G o d0 Y1 E D H → va_S (xx_F o d0) sQ.heap H locs → ∀ ls : Array Slot, lv_has ls 5 [(3, .int i), (2, .int s), (1, .int v16), (0, .ref o)] → W pQ lQ eQ (wm_rm 3) sQ mQ ([Value.ref o] : List Value).toArray belowQ methQ cQ H locs 0 0 (MQ belowQ (wm_Q (fun vQ HQ => vQ = some (.int (xf_order X).1) ∧ xx_W G o d0 (xf_order X).2 E D HQ) (xx_F o d0)) ([Value.ref o] : List Value).toArray sQ 0 0 (xx_F o d0)) (F0 mQ 44 ls []) := by
            intro fu44
            induction fu44 with
            | zero =>
              intro i Y1 H locs hm44 i044 i144 iF44 i344 i444 hgo44 hW hS ls hl
              exact absurd hm44 (by omega)
            | succ fu44 ih44 =>
              intro i Y1 H locs hm44 i044 i144 iF44 i344 i444 hgo44 hW hS ls hl
              have hZ1 := (xv_Z_of (iF44 40 (by decide)) (iF44 37 (by decide)) (iF44 38 (by decide)) (iF44 39 (by decide)) hZ)
              have hA1 : xd_a (fd_ Y1 40) (xf_o_all X) := by rw [fd_of (iF44 40 (by decide))]; exact hA0
              have y40 : (fd_ Y1 40).toInt = (fd_ X 40).toInt := by rw [fd_of (iF44 40 (by decide))]
              refine lv_iload_n hx hb dX0_order_44 rfl (lv_at hl 0 rfl) ?_
              refine lv_aload_n hx hb dX0_order_45 rfl (lv_at hl 3 rfl) ?_
              refine xx_geti hx hb hts hown hK hW 40 rfl rfl (by decide) (by decide) q313 dX0_order_46 ?_
              refine lv_icmp_ge (tgt := 98) hx hb dX0_order_49 (by decide) (fun c49 => ?_) (fun c49 => ?_)
              · have t49 : ((fd_ Y1 40)).toInt ≤ (i).toInt := ww_le c49
                have hs : Y1 = xf_om_S Y0 s := by rw [xf_om_go, if_pos c49] at hgo44; exact hgo44
                clear hgo44
                obtain ⟨v98, e98⟩ : ∃ yQ : Int32, yQ = s + (-1) := ⟨_, rfl⟩
                refine lv_iinc (v := v98) (lv' := [(2, .int v98), (3, .int i), (1, .int v16), (0, .ref o)]) hx hb dX0_order_98 hl (k := 1) rfl (by rw [e98]; rfl) (by decide) rfl (fun ls hl => ?_)
                refine lv_goto (tgt := 29) hx hb dX0_order_101 (by decide) ?_
                have tb : v98.toInt = s.toInt - 1 := by rw [e98]; exact ww_dec (by omega)
                exact ih29 v98 Y1 H locs (by omega) (by omega) (by omega) iF44 (xd_s (xd_ke hA1 t30 i129 c49 i444) i344 tb) (by rw [hs, e98]; rw [xf_os_go, if_neg c30] at hgo29; exact hgo29) hW hS ls (lv_sub hl [0, 2, 3] rfl)
              · have t49 : (i).toInt < ((fd_ Y1 40)).toInt := ww_nle c49
                refine lv_iload_n hx hb dX0_order_52 rfl (lv_at hl 1 rfl) ?_
                refine lv_iload_n hx hb dX0_order_53 rfl (lv_at hl 0 rfl) ?_
                refine nv_ishr hx hb dX0_order_54 (fun v54 e54 => ?_)
                refine lv_iconst (v := 1) hx hb dX0_order_55 (by decide) ?_
                refine nv_iand hx hb dX0_order_56 (fun v56 e56 => ?_)
                have nbv : v56 = nb_ s i := by rw [e56, e54]
                refine lv_if_ne (tgt := 92) hx hb dX0_order_57 (by decide) (fun c57 => ?_) (fun c57 => ?_)
                · skip
                  have nbz : ¬ nb_ s i = 0 := by rw [← nbv]; exact c57
                  obtain ⟨v92, e92⟩ : ∃ yQ : Int32, yQ = i + 1 := ⟨_, rfl⟩
                  refine lv_iinc (v := v92) (lv' := [(3, .int v92), (2, .int s), (1, .int v16), (0, .ref o)]) hx hb dX0_order_92 hl (k := 0) rfl (by rw [e92]; rfl) (by decide) rfl (fun ls hl => ?_)
                  refine lv_goto (tgt := 44) hx hb dX0_order_95 (by decide) ?_
                  have tb : v92.toInt = i.toInt + 1 := by rw [e92]; exact ww_inc' (by omega)
                  try have f91b : X91 = wr_ Y1 41 s (xi_min (rd_ Y1 41 s) (xf_ol_v Y1 s i)) := by rw [f91, e88, n87]
                  exact ih44 v92 Y1 H locs (by omega) (by omega) (by omega) (by first | exact iF44 | (rw [f91]; exact iF44.wr (by decide))) (by first | exact i344 | (rw [f91]; exact xd_w hA1 t30 i344)) (by rw [e92]; first | exact xd_kn nbz i044 (by omega) i444 | (rw [f91b]; exact xd_ks hZ1 hA1 i344 t30 i129 i044 (by omega) nbz i444)) (by first | (rw [e92]; rw [xf_om_go, if_neg c49, if_neg nbz] at hgo44; exact hgo44) | (rw [e92, f91b]; rw [xf_om_go, if_neg c49, if_pos nbz] at hgo44; exact hgo44)) hW hS ls (lv_sub hl [0, 1, 2, 3] rfl)
                · skip
                  have nbz : nb_ s i = 0 := by rw [← nbv]; exact c57
                  have ent := nu_t (s := s) (n := fd_ X 40) n10 t30 (by omega) i044 (by omega)
                  have ent2 : (nu_ s i).toInt < 1024 := by
                    have z1 := ent.2.1
                    omega
                  refine lv_aload_n hx hb dX0_order_60 rfl (lv_at hl 3 rfl) ?_
                  refine xx_geta hx hb hts hown hK hW 41 rfl q314 dX0_order_61 ?_
                  refine lv_iload_n hx hb dX0_order_64 rfl (lv_at hl 1 rfl) ?_
                  refine lv_aload_n hx hb dX0_order_65 rfl (lv_at hl 3 rfl) ?_
                  refine xx_geta hx hb hts hown hK hW 41 rfl q314 dX0_order_66 ?_
                  refine lv_iload_n hx hb dX0_order_69 rfl (lv_at hl 1 rfl) ?_
                  refine xx_iald hx hb hK hW 41 rfl (ww_in (by omega) (by omega)) dX0_order_70 ?_
                  refine lv_aload_n hx hb dX0_order_71 rfl (lv_at hl 3 rfl) ?_
                  refine lv_iload_n hx hb dX0_order_72 rfl (lv_at hl 0 rfl) ?_
                  refine lv_iload_n hx hb dX0_order_73 rfl (lv_at hl 1 rfl) ?_
                  refine xw_p (xw_rV (As := [.int i, .int s]) (rest := [.int (rd_ Y1 41 s), .int s, .ref (o + 29)]) (n := 2) ⟨hx, hb, hml, hown, hts⟩ hK hN hW (xc_lateOf lQ G o d0 Y1 E D i s hZ1.1 i044 (by omega)) (lw_V q1251 q1253 qs32 q84 q1254) (xr_main hK hW) (by decide +kernel) rfl ⟨Nat.le_of_ble_eq_true rfl, Nat.le_of_ble_eq_true rfl⟩ hl.1 rfl (Nat.le_of_ble_eq_true rfl) dX0_order_74 ⟨Nat.le_of_ble_eq_true rfl, Nat.le_of_ble_eq_true rfl⟩) hS (fun v74 H locs e74 hW hS => ?_)
                  refine lv_aload_n hx hb dX0_order_77 rfl (lv_at hl 3 rfl) ?_
                  refine xx_geta hx hb hts hown hK hW 41 rfl q314 dX0_order_78 ?_
                  refine lv_iload_n hx hb dX0_order_81 rfl (lv_at hl 1 rfl) ?_
                  refine lv_iconst (v := 1) hx hb dX0_order_82 (by decide) ?_
                  refine lv_iload_n hx hb dX0_order_83 rfl (lv_at hl 0 rfl) ?_
                  refine nv_ishl hx hb dX0_order_84 (fun v84 e84 => ?_)
                  refine nv_ior hx hb dX0_order_85 (fun v85 e85 => ?_)
                  refine xx_iald hx hb hK hW 41 rfl (by rw [e85, e84]; exact ww_in ent.1 ent2) dX0_order_86 ?_
                  refine nv_iadd hx hb dX0_order_87 (fun v87 e87 => ?_)
                  have n87 : v87 = xf_ol_v Y1 s i := by rw [e87, e74, e85, e84]
                  refine pp_calli (As := [.int (rd_ Y1 41 s), .int v87]) (rest := [.int s, .ref (o + 29)]) (n := 2) ⟨hx, hb, hml, hown, hts⟩ (xc_min lQ (rd_ Y1 41 s) v87) (lw_S q863 q864 q101 q865) (by decide +kernel) rfl ⟨Nat.le_of_ble_eq_true rfl, Nat.le_of_ble_eq_true rfl⟩ hl.1 rfl (Nat.le_of_ble_eq_true rfl) dX0_order_88 ⟨Nat.le_of_ble_eq_true rfl, Nat.le_of_ble_eq_true rfl⟩ (fun v88 e88 => ?_)
                  refine xx_iast hx hb hK hW hS 41 rfl (ww_in (by omega) (by omega)) dX0_order_91 (fun X91 H locs f91 hW hS => ?_)
                  obtain ⟨v92, e92⟩ : ∃ yQ : Int32, yQ = i + 1 := ⟨_, rfl⟩
                  refine lv_iinc (v := v92) (lv' := [(3, .int v92), (2, .int s), (1, .int v16), (0, .ref o)]) hx hb dX0_order_92 hl (k := 0) rfl (by rw [e92]; rfl) (by decide) rfl (fun ls hl => ?_)
                  refine lv_goto (tgt := 44) hx hb dX0_order_95 (by decide) ?_
                  have tb : v92.toInt = i.toInt + 1 := by rw [e92]; exact ww_inc' (by omega)
                  try have f91b : X91 = wr_ Y1 41 s (xi_min (rd_ Y1 41 s) (xf_ol_v Y1 s i)) := by rw [f91, e88, n87]
                  exact ih44 v92 X91 H locs (by omega) (by omega) (by omega) (by first | exact iF44 | (rw [f91]; exact iF44.wr (by decide))) (by first | exact i344 | (rw [f91]; exact xd_w hA1 t30 i344)) (by rw [e92]; first | exact xd_kn nbz i044 (by omega) i444 | (rw [f91b]; exact xd_ks hZ1 hA1 i344 t30 i129 i044 (by omega) nbz i444)) (by first | (rw [e92]; rw [xf_om_go, if_neg c49, if_neg nbz] at hgo44; exact hgo44) | (rw [e92, f91b]; rw [xf_om_go, if_neg c49, if_pos nbz] at hgo44; exact hgo44)) hW hS ls (lv_sub hl [0, 1, 2, 3] rfl)
          exact L44 11 0 X41 H locs (by show _ - 0 < (11 : Int); omega) (by decide) (by show (0 : Int) ≤ _; exact n0) (by rw [f41]; exact iF29.wr (by decide)) (by rw [f41]; exact xd_w (by rw [x40]; exact hA0) t30 i329) (by rw [f41]; exact xd_k0) (by rw [f41]; rfl) hW hS ls (lv_sub hl [0, 1, 2, 3] rfl)
    exact L29 1025 v27 X24 H locs (by rw [t26]; show _ < (1025 : Int); omega) (by omega) (by omega) (by rw [f24]; exact fr_wr (by decide)) (by rw [f24, n16]; exact xd_i hlt0.1 t26) (by rw [f24, n16, e27, n16]; rfl) hW hS ls (lv_sub hl [0, 1, 2] rfl)
  · skip
    refine lv_iconst (v := (-1)) hx hb dX0_order_7 (by decide) ?_
    refine xw_iret hx hb hr hlocks hW hS ?_ dX0_order_8
    have hres : xf_order X = ((-1), X) := by simp only [xf_order, if_pos c4]
    exact ⟨by rw [hres], by rw [hres], rfl⟩
