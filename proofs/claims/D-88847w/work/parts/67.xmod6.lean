set_option maxHeartbeats 4000000 in
theorem xc_lasts (lQ : Launch) (G : wm_G) (o d0 : Nat) (X : mm_S) (E : mm_E) (D : xg) (a : Int32) (y : Int32) : xw_Met lQ G o d0 yX0_lasts (ws_ yX0_lasts cX0_lasts 8 (some .int)) 4 X E D [Value.ref o, .int a, .int y] (some (.int (xf_lasts X a y).1)) (xf_lasts X a y).2 E := by
  refine xw_start (own := RX0) (by decide +kernel) (Nat.le_of_ble_eq_true rfl) rfl (fun pQ eQ sQ mQ belowQ methQ cQ hx hb hml hr hlocks hts hown hK hN H hW hS ls hl => ?_)
  have hl : lv_has ls 8 [(0, .ref o), (1, .int a), (2, .int y)] := hl
  generalize hlc : ([] : List Loc) = locs at hS ⊢
  refine lv_aload_n hx hb dX0_lasts_0 rfl (lv_at hl 0 rfl) ?_
  refine xx_geti hx hb hts hown hK hW 26 rfl rfl (by decide) (by decide) q299 dX0_lasts_1 ?_
  refine lv_istore_n (lv' := [(3, .int (fd_ X 26)), (0, .ref o), (1, .int a), (2, .int y)]) hx hb dX0_lasts_4 rfl hl (by decide) rfl (fun ls hl => ?_)
  refine lv_iconst (v := 0) hx hb dX0_lasts_5 (by decide) ?_
  refine lv_istore (lv' := [(4, .int 0), (3, .int (fd_ X 26)), (0, .ref o), (1, .int a), (2, .int y)]) hx hb dX0_lasts_6 hl (by decide) rfl (fun ls hl => ?_)
  have L8 : ∀ (fu8 : Nat) (k : Int32) (Y0 : mm_S) (H : Heap) (locs : List Loc), ((fd_ X 4).toInt - k.toInt < fu8) → (0 ≤ k.toInt) → (k.toInt ≤ (fd_ X 4).toInt) → (fr_ [32] X Y0) → (xf_st_go fu8 Y0 k = xf_st X) → xx_W G o d0 Y0 E D H → va_S (xx_F o d0) sQ.heap H locs → ∀ ls : Array Slot, lv_has ls 8 [(4, .int k), (3, .int (fd_ X 26)), (0, .ref o), (1, .int a), (2, .int y)] → W pQ lQ eQ (wm_rm 4) sQ mQ ([Value.ref o, .int a, .int y] : List Value).toArray belowQ methQ cQ H locs 0 0 (MQ belowQ (wm_Q (fun vQ HQ => vQ = some (.int (xf_lasts X a y).1) ∧ xx_W G o d0 (xf_lasts X a y).2 E D HQ) (xx_F o d0)) ([Value.ref o, .int a, .int y] : List Value).toArray sQ 0 0 (xx_F o d0)) (F0 mQ 8 ls []) := by
    intro fu8
    induction fu8 with
    | zero =>
      intro k Y0 H locs hm8 i08 i18 iF8 hgo8 hW hS ls hl
      exact absurd hm8 (by omega)
    | succ fu8 ih8 =>
      intro k Y0 H locs hm8 i08 i18 iF8 hgo8 hW hS ls hl
      have e4 : (fd_ Y0 4).toInt = (fd_ X 4).toInt := by rw [fd_of (iF8 4 (by decide))]
      have hb2 := (xv_W hW).2
      refine lv_iload hx hb dX0_lasts_8 (lv_at hl 0 rfl) ?_
      refine lv_aload_n hx hb dX0_lasts_10 rfl (lv_at hl 2 rfl) ?_
      refine xx_geti hx hb hts hown hK hW 4 rfl rfl (by decide) (by decide) q271 dX0_lasts_11 ?_
      refine lv_icmp_ge (tgt := 52) hx hb dX0_lasts_14 (by decide) (fun c14 => ?_) (fun c14 => ?_)
      · have t14 : ((fd_ Y0 4)).toInt ≤ (k).toInt := ww_le c14
        have hs : Y0 = xf_st X := by simp only [xf_st_go, if_pos c14] at hgo8; exact hgo8
        clear hgo8
        refine lv_iconst (v := 0) hx hb dX0_lasts_52 (by decide) ?_
        refine lv_istore (lv' := [(4, .int 0), (3, .int (fd_ X 26)), (0, .ref o), (1, .int a), (2, .int y)]) hx hb dX0_lasts_53 hl (by decide) rfl (fun ls hl => ?_)
        have L55 : ∀ (fu55 : Nat) (l0 : Int32) (d : Int32) (Y1 : mm_S) (H : Heap) (locs : List Loc), (60 - d.toInt < fu55) → (0 ≤ d.toInt) → (d.toInt ≤ 60) → (fr_ [32] X Y1) → (xf_la_d fu55 Y1 a y l0 d = xf_lasts X a y) → xx_W G o d0 Y1 E D H → va_S (xx_F o d0) sQ.heap H locs → ∀ ls : Array Slot, lv_has ls 8 [(4, .int d), (3, .int l0), (0, .ref o), (1, .int a), (2, .int y)] → W pQ lQ eQ (wm_rm 4) sQ mQ ([Value.ref o, .int a, .int y] : List Value).toArray belowQ methQ cQ H locs 0 0 (MQ belowQ (wm_Q (fun vQ HQ => vQ = some (.int (xf_lasts X a y).1) ∧ xx_W G o d0 (xf_lasts X a y).2 E D HQ) (xx_F o d0)) ([Value.ref o, .int a, .int y] : List Value).toArray sQ 0 0 (xx_F o d0)) (F0 mQ 55 ls []) := by
          intro fu55
          induction fu55 with
          | zero =>
            intro l0 d Y1 H locs hm55 i055 i155 iF55 hgo55 hW hS ls hl
            exact absurd hm55 (by omega)
          | succ fu55 ih55 =>
            intro l0 d Y1 H locs hm55 i055 i155 iF55 hgo55 hW hS ls hl
            refine lv_iload hx hb dX0_lasts_55 (lv_at hl 0 rfl) ?_
            refine lv_bipush (v := 60) hx hb dX0_lasts_57 (by decide) ?_
            refine lv_icmp_ge (tgt := 171) hx hb dX0_lasts_59 (by decide) (fun c59 => ?_) (fun c59 => ?_)
            · have t59 : 60 ≤ (d).toInt := ww_le c59
              refine lv_bipush (v := 60) hx hb dX0_lasts_171 (by decide) ?_
              refine xw_iret hx hb hr hlocks hW hS ?_ dX0_lasts_173
              have hres : xf_lasts X a y = (60, Y1) := by rw [← hgo55]; simp only [xf_la_d, if_pos c59]
              exact ⟨by rw [hres], by rw [hres], rfl⟩
            · have t59 : (d).toInt < 60 := ww_nle c59
              refine lv_iconst (v := 1) hx hb dX0_lasts_62 (by decide) ?_
              refine lv_istore (lv' := [(5, .int 1), (4, .int d), (3, .int l0), (0, .ref o), (1, .int a), (2, .int y)]) hx hb dX0_lasts_63 hl (by decide) rfl (fun ls hl => ?_)
              refine lv_iconst (v := 0) hx hb dX0_lasts_65 (by decide) ?_
              refine lv_istore (lv' := [(6, .int 0), (5, .int 1), (4, .int d), (3, .int l0), (0, .ref o), (1, .int a), (2, .int y)]) hx hb dX0_lasts_66 hl (by decide) rfl (fun ls hl => ?_)
              have L68 : ∀ (fu68 : Nat) (l : Int32) (al : Int32) (k : Int32) (Y2 : mm_S) (H : Heap) (locs : List Loc), ((fd_ X 4).toInt - k.toInt < fu68) → (0 ≤ k.toInt) → (k.toInt ≤ (fd_ X 4).toInt) → (fr_ [32] X Y2) → (xf_la_m fu68 Y2 a y l al k = xf_la_s Y1 a y l0) → xx_W G o d0 Y2 E D H → va_S (xx_F o d0) sQ.heap H locs → ∀ ls : Array Slot, lv_has ls 8 [(6, .int k), (5, .int al), (4, .int d), (3, .int l), (0, .ref o), (1, .int a), (2, .int y)] → W pQ lQ eQ (wm_rm 4) sQ mQ ([Value.ref o, .int a, .int y] : List Value).toArray belowQ methQ cQ H locs 0 0 (MQ belowQ (wm_Q (fun vQ HQ => vQ = some (.int (xf_lasts X a y).1) ∧ xx_W G o d0 (xf_lasts X a y).2 E D HQ) (xx_F o d0)) ([Value.ref o, .int a, .int y] : List Value).toArray sQ 0 0 (xx_F o d0)) (F0 mQ 68 ls []) := by
                intro fu68
                induction fu68 with
                | zero =>
                  intro l al k Y2 H locs hm68 i068 i168 iF68 hgo68 hW hS ls hl
                  exact absurd hm68 (by omega)
                | succ fu68 ih68 =>
                  intro l al k Y2 H locs hm68 i068 i168 iF68 hgo68 hW hS ls hl
                  have e4 : (fd_ Y2 4).toInt = (fd_ X 4).toInt := by rw [fd_of (iF68 4 (by decide))]
                  have hb2 := (xv_W hW).2
                  refine lv_iload hx hb dX0_lasts_68 (lv_at hl 0 rfl) ?_
                  refine lv_aload_n hx hb dX0_lasts_70 rfl (lv_at hl 4 rfl) ?_
                  refine xx_geti hx hb hts hown hK hW 4 rfl rfl (by decide) (by decide) q271 dX0_lasts_71 ?_
                  refine lv_icmp_ge (tgt := 157) hx hb dX0_lasts_74 (by decide) (fun c74 => ?_) (fun c74 => ?_)
                  · have t74 : ((fd_ Y2 4)).toInt ≤ (k).toInt := ww_le c74
                    have hs : (l, al, Y2) = xf_la_s Y1 a y l0 := by simp only [xf_la_m, if_pos c74] at hgo68; exact hgo68
                    have hs1 : l = (xf_la_s Y1 a y l0).1 := congrArg Prod.fst hs
                    have hs2 : al = (xf_la_s Y1 a y l0).2.1 := congrArg (fun z => z.2.1) hs
                    have hs3 : Y2 = (xf_la_s Y1 a y l0).2.2 := congrArg (fun z => z.2.2) hs
                    clear hs hgo68
                    refine lv_iload hx hb dX0_lasts_157 (lv_at hl 1 rfl) ?_
                    refine lv_if_ne (tgt := 165) hx hb dX0_lasts_159 (by decide) (fun c159 => ?_) (fun c159 => ?_)
                    · skip
                      obtain ⟨v165, e165⟩ : ∃ yQ : Int32, yQ = d + 1 := ⟨_, rfl⟩
                      refine lv_iinc (v := v165) (lv' := [(4, .int v165), (6, .int k), (5, .int al), (3, .int l), (0, .ref o), (1, .int a), (2, .int y)]) hx hb dX0_lasts_165 hl (k := 2) rfl (by rw [e165]; rfl) (by decide) rfl (fun ls hl => ?_)
                      refine lv_goto (tgt := 55) hx hb dX0_lasts_168 (by decide) ?_
                      have tb : v165.toInt = d.toInt + 1 := by rw [e165]; exact ww_inc' (by omega)
                      exact ih55 l v165 Y2 H locs (by omega) (by omega) (by omega) iF68 (by subst hs1 hs2 hs3 e165; simp only [xf_la_d, if_neg c59, if_pos c74, if_neg c159] at hgo55; exact hgo55) hW hS ls (lv_sub hl [0, 3, 4, 5, 6] rfl)
                    · skip
                      refine lv_iload hx hb dX0_lasts_162 (lv_at hl 2 rfl) ?_
                      refine xw_iret hx hb hr hlocks hW hS ?_ dX0_lasts_164
                      have hres : xf_lasts X a y = (d, Y2) := by rw [← hgo55]; subst hs1 hs2 hs3; simp only [xf_la_d, if_neg c59, if_pos c74, if_pos c159]
                      exact ⟨by rw [hres], by rw [hres], rfl⟩
                  · have t74 : (k).toInt < ((fd_ Y2 4)).toInt := ww_nle c74
                    refine lv_aload_n hx hb dX0_lasts_77 rfl (lv_at hl 4 rfl) ?_
                    refine lv_iload hx hb dX0_lasts_78 (lv_at hl 0 rfl) ?_
                    refine xw_b (xw_rV (As := [.int k]) (rest := []) (n := 1) ⟨hx, hb, hml, hown, hts⟩ hK hN hW (xc_belowOf lQ G o d0 Y2 E D k) (lw_V q1145 q1147 qs24 q84 q1148) (xr_main hK hW) (by decide +kernel) rfl ⟨Nat.le_of_ble_eq_true rfl, Nat.le_of_ble_eq_true rfl⟩ hl.1 rfl (Nat.le_of_ble_eq_true rfl) dX0_lasts_80 ⟨Nat.le_of_ble_eq_true rfl, Nat.le_of_ble_eq_true rfl⟩) hS (fun v80 H locs e80 hW hS => ?_)
                    refine xl_ifnonnull (tgt := 89) hx hb dX0_lasts_83 (by decide) (fun c83 => ?_) (fun c83 => ?_)
                    · have t83 : 0 ≤ (v80).toInt := ww_nl0 c83
                      have hi83 : xm_in Y2 (xf_belowOf Y2 k) := xf_belowOf_q (xv_W hW) (by rw [← e80]; exact c83)
                      refine lv_iload_n hx hb dX0_lasts_89 rfl (lv_at hl 3 rfl) ?_
                      refine lv_iload_n hx hb dX0_lasts_90 rfl (lv_at hl 6 rfl) ?_
                      refine pp_calli (As := [.int l, .int y]) (rest := []) (n := 2) ⟨hx, hb, hml, hown, hts⟩ (xc_min lQ l y) (lw_S q863 q864 q101 q865) (by decide +kernel) rfl ⟨Nat.le_of_ble_eq_true rfl, Nat.le_of_ble_eq_true rfl⟩ hl.1 rfl (Nat.le_of_ble_eq_true rfl) dX0_lasts_91 ⟨Nat.le_of_ble_eq_true rfl, Nat.le_of_ble_eq_true rfl⟩ (fun v91 e91 => ?_)
                      refine lv_istore (lv' := [(7, .int v91), (6, .int k), (5, .int al), (4, .int d), (3, .int l), (0, .ref o), (1, .int a), (2, .int y)]) hx hb dX0_lasts_94 hl (by decide) rfl (fun ls hl => ?_)
                      refine lv_iload_n hx hb dX0_lasts_96 rfl (lv_at hl 4 rfl) ?_
                      refine lv_iload hx hb dX0_lasts_97 (lv_at hl 0 rfl) ?_
                      refine nv_isub hx hb dX0_lasts_99 (fun v99 e99 => ?_)
                      refine lv_istore_n (lv' := [(3, .int v99), (7, .int v91), (6, .int k), (5, .int al), (4, .int d), (0, .ref o), (1, .int a), (2, .int y)]) hx hb dX0_lasts_100 rfl hl (by decide) rfl (fun ls hl => ?_)
                      refine lv_aload_n hx hb dX0_lasts_101 rfl (lv_at hl 5 rfl) ?_
                      refine xx_geta hx hb hts hown hK hW 32 rfl q305 dX0_lasts_102 ?_
                      refine lv_iload hx hb dX0_lasts_105 (lv_at hl 2 rfl) ?_
                      refine lv_aload_n hx hb dX0_lasts_107 rfl (lv_at hl 5 rfl) ?_
                      refine xx_geta hx hb hts hown hK hW 32 rfl q305 dX0_lasts_108 ?_
                      refine lv_iload hx hb dX0_lasts_111 (lv_at hl 2 rfl) ?_
                      refine xx_iald hx hb hK hW 32 rfl (ww_in (by omega) (by omega)) dX0_lasts_113 ?_
                      refine lv_bipush (v := 6) hx hb dX0_lasts_114 (by decide) ?_
                      refine nv_isub hx hb dX0_lasts_116 (fun v116 e116 => ?_)
                      refine lv_iconst (v := 2) hx hb dX0_lasts_117 (by decide) ?_
                      refine lv_iload hx hb dX0_lasts_118 (lv_at hl 1 rfl) ?_
                      refine nv_imul hx hb dX0_lasts_120 (fun v120 e120 => ?_)
                      refine nv_iadd hx hb dX0_lasts_121 (fun v121 e121 => ?_)
                      refine lv_iconst (v := 0) hx hb dX0_lasts_122 (by decide) ?_
                      refine lv_sipush (v := 999) hx hb dX0_lasts_123 (by decide) ?_
                      refine pp_calli (As := [.int v121, .int 0, .int 999]) (rest := [.int k, .ref (o + 22)]) (n := 3) ⟨hx, hb, hml, hown, hts⟩ (xc_held lQ v121 0 999 (by decide)) (lw_S q860 q861 q84 q862) (by decide +kernel) rfl ⟨Nat.le_of_ble_eq_true rfl, Nat.le_of_ble_eq_true rfl⟩ hl.1 rfl (Nat.le_of_ble_eq_true rfl) dX0_lasts_126 ⟨Nat.le_of_ble_eq_true rfl, Nat.le_of_ble_eq_true rfl⟩ (fun v126 e126 => ?_)
                      refine xx_iast hx hb hK hW hS 32 rfl (ww_in (by omega) (by omega)) dX0_lasts_129 (fun X129 H locs f129 hW hS => ?_)
                      have hi83 : xm_in X129 (xf_belowOf Y2 k) := by rw [f129]; exact xm_wr hi83 (by decide) (by decide)
                      have n129 : X129 = xf_la_1 Y2 k y l := by rw [f129, e126, e121, e116, e120, e91]; rfl
                      refine lv_iload hx hb dX0_lasts_130 (lv_at hl 3 rfl) ?_
                      refine wm_join (P := fun w148 : Int32 => w148 = (if rd_ X129 32 k ≤ a then 0 else 1)) (j := 148) (rest := [.int al]) (ls := ls) (fun w148 ew148 => ?_) (fun J148 => ?_)
                      · skip
                        refine nv_iand hx hb dX0_lasts_148 (fun v148 e148 => ?_)
                        refine lv_istore (lv' := [(5, .int v148), (3, .int v99), (7, .int v91), (6, .int k), (4, .int d), (0, .ref o), (1, .int a), (2, .int y)]) hx hb dX0_lasts_149 hl (by decide) rfl (fun ls hl => ?_)
                        obtain ⟨v151, e151⟩ : ∃ yQ : Int32, yQ = k + 1 := ⟨_, rfl⟩
                        refine lv_iinc (v := v151) (lv' := [(6, .int v151), (5, .int v148), (3, .int v99), (7, .int v91), (4, .int d), (0, .ref o), (1, .int a), (2, .int y)]) hx hb dX0_lasts_151 hl (k := 3) rfl (by rw [e151]; rfl) (by decide) rfl (fun ls hl => ?_)
                        refine lv_goto (tgt := 68) hx hb dX0_lasts_154 (by decide) ?_
                        have tb : v151.toInt = k.toInt + 1 := by rw [e151]; exact ww_inc t74
                        have fr : fr_ [32] X X129 := by first | exact iF68 | (rw [f129]; exact iF68.wr (by decide))
                        exact ih68 v99 v148 v151 X129 H locs (by omega) (by omega) (by omega) fr (by first | (rw [e151]; rw [xf_la_m, if_neg c74, if_pos (by rw [← e80]; exact c83)] at hgo68; exact hgo68) | (rw [e148, ew148, n129, e99, e91, e151]; rw [xf_la_m, if_neg c74, if_neg (by rw [← e80]; exact c83)] at hgo68; exact hgo68)) hW hS ls (lv_sub hl [0, 1, 4, 2, 5, 6, 7] rfl)
                      refine lv_aload_n hx hb dX0_lasts_132 rfl (lv_at hl 5 rfl) ?_
                      refine xx_geta hx hb hts hown hK hW 32 rfl q305 dX0_lasts_133 ?_
                      refine lv_iload hx hb dX0_lasts_136 (lv_at hl 2 rfl) ?_
                      refine xx_iald hx hb hK hW 32 rfl (ww_in (by omega) (by omega)) dX0_lasts_138 ?_
                      refine lv_iload_n hx hb dX0_lasts_139 rfl (lv_at hl 6 rfl) ?_
                      refine lv_icmp_le (tgt := 147) hx hb dX0_lasts_140 (by decide) (fun c140 => ?_) (fun c140 => ?_)
                      · have t140 : ((rd_ X129 32 k)).toInt ≤ (a).toInt := ww_le c140
                        refine lv_iconst (v := 0) hx hb dX0_lasts_147 (by decide) ?_
                        exact J148 _ (by simp only [if_neg c74, if_neg c83, if_pos c140])
                      · have t140 : (a).toInt < ((rd_ X129 32 k)).toInt := ww_nle c140
                        refine lv_iconst (v := 1) hx hb dX0_lasts_143 (by decide) ?_
                        refine lv_goto (tgt := 148) hx hb dX0_lasts_144 (by decide) ?_
                        exact J148 _ (by simp only [if_neg c74, if_neg c83, if_neg c140])
                    · have t83 : (v80).toInt < 0 := ww_l0 c83
                      refine lv_goto (tgt := 151) hx hb dX0_lasts_86 (by decide) ?_
                      obtain ⟨v151, e151⟩ : ∃ yQ : Int32, yQ = k + 1 := ⟨_, rfl⟩
                      refine lv_iinc (v := v151) (lv' := [(6, .int v151), (5, .int al), (4, .int d), (3, .int l), (0, .ref o), (1, .int a), (2, .int y)]) hx hb dX0_lasts_151 hl (k := 0) rfl (by rw [e151]; rfl) (by decide) rfl (fun ls hl => ?_)
                      refine lv_goto (tgt := 68) hx hb dX0_lasts_154 (by decide) ?_
                      have tb : v151.toInt = k.toInt + 1 := by rw [e151]; exact ww_inc t74
                      have fr : fr_ [32] X Y2 := by first | exact iF68 | (rw [f129]; exact iF68.wr (by decide))
                      exact ih68 l al v151 Y2 H locs (by omega) (by omega) (by omega) fr (by first | (rw [e151]; rw [xf_la_m, if_neg c74, if_pos (by rw [← e80]; exact c83)] at hgo68; exact hgo68) | (rw [e148, ew148, n129, e99, e91, e151]; rw [xf_la_m, if_neg c74, if_neg (by rw [← e80]; exact c83)] at hgo68; exact hgo68)) hW hS ls (lv_sub hl [0, 1, 2, 3, 4, 5, 6] rfl)
              exact L68 121 l0 1 0 Y1 H locs (by have := (xv_W hW).2; have e4 : (fd_ Y1 4).toInt = (fd_ X 4).toInt := (by rw [fd_of (iF55 4 (by decide))]); show _ - 0 < (121 : Int); omega) (by decide) (by have := (xv_W hW).1; have e4 : (fd_ Y1 4).toInt = (fd_ X 4).toInt := (by rw [fd_of (iF55 4 (by decide))]); show (0 : Int) ≤ _; omega) iF55 (rfl) hW hS ls (lv_sub hl [0, 1, 2, 3, 4, 5, 6] rfl)
        exact L55 61 (fd_ X 26) 0 Y0 H locs (by show (60 : Int) - 0 < 61; omega) (by decide) (by decide) iF8 (by rw [hs]; rfl) hW hS ls (lv_sub hl [0, 1, 2, 3, 4] rfl)
      · have t14 : (k).toInt < ((fd_ Y0 4)).toInt := ww_nle c14
        refine lv_aload_n hx hb dX0_lasts_17 rfl (lv_at hl 2 rfl) ?_
        refine xx_geta hx hb hts hown hK hW 32 rfl q305 dX0_lasts_18 ?_
        refine lv_iload hx hb dX0_lasts_21 (lv_at hl 0 rfl) ?_
        refine lv_aload_n hx hb dX0_lasts_23 rfl (lv_at hl 2 rfl) ?_
        refine lv_iload hx hb dX0_lasts_24 (lv_at hl 0 rfl) ?_
        refine xw_b (xw_rV (As := [.int k]) (rest := [.int k, .ref (o + 22)]) (n := 1) ⟨hx, hb, hml, hown, hts⟩ hK hN hW (xc_belowOf lQ G o d0 Y0 E D k) (lw_V q1145 q1147 qs24 q84 q1148) (xr_main hK hW) (by decide +kernel) rfl ⟨Nat.le_of_ble_eq_true rfl, Nat.le_of_ble_eq_true rfl⟩ hl.1 rfl (Nat.le_of_ble_eq_true rfl) dX0_lasts_26 ⟨Nat.le_of_ble_eq_true rfl, Nat.le_of_ble_eq_true rfl⟩) hS (fun v26 H locs e26 hW hS => ?_)
        refine xl_ifnonnull (tgt := 36) hx hb dX0_lasts_29 (by decide) (fun c29 => ?_) (fun c29 => ?_)
        · have t29 : 0 ≤ (v26).toInt := ww_nl0 c29
          have hi29 : xm_in Y0 (xf_belowOf Y0 k) := xf_belowOf_q (xv_W hW) (by rw [← e26]; exact c29)
          refine lv_aload_n hx hb dX0_lasts_36 rfl (lv_at hl 2 rfl) ?_
          refine lv_iload hx hb dX0_lasts_37 (lv_at hl 0 rfl) ?_
          refine xw_b (xw_rV (As := [.int k]) (rest := [.int k, .ref (o + 22)]) (n := 1) ⟨hx, hb, hml, hown, hts⟩ hK hN hW (xc_belowOf lQ G o d0 Y0 E D k) (lw_V q1145 q1147 qs24 q84 q1148) (xr_main hK hW) (by decide +kernel) rfl ⟨Nat.le_of_ble_eq_true rfl, Nat.le_of_ble_eq_true rfl⟩ hl.1 rfl (Nat.le_of_ble_eq_true rfl) dX0_lasts_39 ⟨Nat.le_of_ble_eq_true rfl, Nat.le_of_ble_eq_true rfl⟩) hS (fun v39 H locs e39 hW hS => ?_)
          refine xl_top (show xm_in Y0 v39 from by rw [e39]; exact hi29).1.1 ?_
          refine xb_getN hx hb hts hown hK hW (show xm_in Y0 v39 from by rw [e39]; exact hi29).1 (k := 2) (xf_man (show xm_in Y0 v39 from by rw [e39]; exact hi29).2 (k := 2) (by decide)) (hN.nf q699) rfl (xb_vi (f := 77) (xf_man (show xm_in Y0 v39 from by rw [e39]; exact hi29).2 (k := 2) (by decide)) (by decide)) dX0_lasts_42 ?_
          refine xx_iast hx hb hK hW hS 32 rfl (ww_in (by omega) (by omega)) dX0_lasts_45 (fun X45 H locs f45 hW hS => ?_)
          have hi29 : xm_in X45 (xf_belowOf Y0 k) := by rw [f45]; exact xm_wr hi29 (by decide) (by decide)
          obtain ⟨v46, e46⟩ : ∃ yQ : Int32, yQ = k + 1 := ⟨_, rfl⟩
          refine lv_iinc (v := v46) (lv' := [(4, .int v46), (3, .int (fd_ X 26)), (0, .ref o), (1, .int a), (2, .int y)]) hx hb dX0_lasts_46 hl (k := 0) rfl (by rw [e46]; rfl) (by decide) rfl (fun ls hl => ?_)
          refine lv_goto (tgt := 8) hx hb dX0_lasts_49 (by decide) ?_
          have tb : v46.toInt = k.toInt + 1 := by rw [e46]; exact ww_inc t14
          exact ih8 v46 X45 H locs (by omega) (by omega) (by omega) (by rw [f45]; exact iF8.wr (by decide)) (by rw [e46]; have z : X45 = xf_st_1 Y0 k := (by rw [f45]; unfold xf_st_1; first | rw [if_pos (by rw [← e26]; exact c29)] | rw [if_neg (by rw [← e26]; exact c29), ← e39]); rw [z]; rw [xf_st_go, if_neg c14] at hgo8; exact hgo8) hW hS ls (lv_sub hl [0, 1, 2, 3, 4] rfl)
        · have t29 : (v26).toInt < 0 := ww_l0 c29
          refine lv_iconst (v := 0) hx hb dX0_lasts_32 (by decide) ?_
          refine lv_goto (tgt := 45) hx hb dX0_lasts_33 (by decide) ?_
          refine xx_iast hx hb hK hW hS 32 rfl (ww_in (by omega) (by omega)) dX0_lasts_45 (fun X45 H locs f45 hW hS => ?_)
          obtain ⟨v46, e46⟩ : ∃ yQ : Int32, yQ = k + 1 := ⟨_, rfl⟩
          refine lv_iinc (v := v46) (lv' := [(4, .int v46), (3, .int (fd_ X 26)), (0, .ref o), (1, .int a), (2, .int y)]) hx hb dX0_lasts_46 hl (k := 0) rfl (by rw [e46]; rfl) (by decide) rfl (fun ls hl => ?_)
          refine lv_goto (tgt := 8) hx hb dX0_lasts_49 (by decide) ?_
          have tb : v46.toInt = k.toInt + 1 := by rw [e46]; exact ww_inc t14
          exact ih8 v46 X45 H locs (by omega) (by omega) (by omega) (by rw [f45]; exact iF8.wr (by decide)) (by rw [e46]; have z : X45 = xf_st_1 Y0 k := (by rw [f45]; unfold xf_st_1; first | rw [if_pos (by rw [← e26]; exact c29)] | rw [if_neg (by rw [← e26]; exact c29), ← e39]); rw [z]; rw [xf_st_go, if_neg c14] at hgo8; exact hgo8) hW hS ls (lv_sub hl [0, 1, 2, 3, 4] rfl)
  exact L8 121 0 X H locs (by have := (xv_W hW).2; show _ - 0 < _; omega) (by decide) (xv_W hW).1 (fr_.rf X) (rfl) hW hS ls (lv_sub hl [0, 1, 2, 3, 4] rfl)

set_option maxHeartbeats 4000000 in
theorem xc_last (lQ : Launch) (G : wm_G) (o d0 : Nat) (X : mm_S) (E : mm_E) (D : xg) (s : Int32) (n : Int32) : xw_Met lQ G o d0 yX0_last (ws_ yX0_last cX0_last 3 (some .int)) 5 X E D [Value.ref o, .int s, .int n] (some (.int (xf_last X s n).1)) (xf_last X s n).2 E := by
  refine xw_start (own := RX0) (by decide +kernel) (Nat.le_of_ble_eq_true rfl) rfl (fun pQ eQ sQ mQ belowQ methQ cQ hx hb hml hr hlocks hts hown hK hN H hW hS ls hl => ?_)
  have hl : lv_has ls 3 [(0, .ref o), (1, .int s), (2, .int n)] := hl
  generalize hlc : ([] : List Loc) = locs at hS ⊢
  refine lv_iload_n hx hb dX0_last_0 rfl (lv_at hl 1 rfl) ?_
  refine lv_i2l (v := (s).toInt64) hx hb dX0_last_1 rfl ?_
  refine lv_lconst (v := 0) hx hb dX0_last_2 (by decide) ?_
  refine lv_ldc2 (v := 999) hx hb hown (hts _ q690) dX0_last_3 ?_
  refine xx_within (rest := []) s 0 999 ⟨hx, hb, hml, hown, hts⟩ rfl (by decide) (by decide) q459 hl.1 rfl rfl (Nat.le_of_ble_eq_true rfl) rfl rfl ⟨Nat.le_of_ble_eq_true rfl, Nat.le_of_ble_eq_true rfl⟩ dX0_last_6 (fun v6 e6 => ?_)
  refine lv_if_eq (tgt := 24) hx hb dX0_last_9 (by decide) (fun c9 => ?_) (fun c9 => ?_)
  · skip
    refine lv_iconst (v := (-1)) hx hb dX0_last_24 (by decide) ?_
    refine xw_iret hx hb hr hlocks hW hS ?_ dX0_last_25
    have hres : xf_last X s n = ((-1), X) := by subst e6; simp only [xf_last, if_pos c9]
    exact ⟨by rw [hres], by rw [hres], rfl⟩
  · skip
    refine lv_iload_n hx hb dX0_last_12 rfl (lv_at hl 2 rfl) ?_
    refine lv_i2l (v := (n).toInt64) hx hb dX0_last_13 rfl ?_
    refine lv_lconst (v := 0) hx hb dX0_last_14 (by decide) ?_
    refine lv_ldc2 (v := 9) hx hb hown (hts _ q462) dX0_last_15 ?_
    refine xx_within (rest := []) n 0 9 ⟨hx, hb, hml, hown, hts⟩ rfl (by decide) (by decide) q459 hl.1 rfl rfl (Nat.le_of_ble_eq_true rfl) rfl rfl ⟨Nat.le_of_ble_eq_true rfl, Nat.le_of_ble_eq_true rfl⟩ dX0_last_18 (fun v18 e18 => ?_)
    refine lv_if_ne (tgt := 26) hx hb dX0_last_21 (by decide) (fun c21 => ?_) (fun c21 => ?_)
    · skip
      refine lv_aload_n hx hb dX0_last_26 rfl (lv_at hl 0 rfl) ?_
      refine xw_p (xw_rV (As := []) (rest := []) (n := 0) ⟨hx, hb, hml, hown, hts⟩ hK hN hW (xc_belowMany lQ G o d0 X E D) (lw_V q1141 q1143 qs23 q84 q1144) (xr_main hK hW) (by decide +kernel) rfl ⟨Nat.le_of_ble_eq_true rfl, Nat.le_of_ble_eq_true rfl⟩ hl.1 rfl (Nat.le_of_ble_eq_true rfl) dX0_last_27 ⟨Nat.le_of_ble_eq_true rfl, Nat.le_of_ble_eq_true rfl⟩) hS (fun v27 H locs e27 hW hS => ?_)
      refine lv_if_ne (tgt := 38) hx hb dX0_last_30 (by decide) (fun c30 => ?_) (fun c30 => ?_)
      · skip
        refine lv_aload_n hx hb dX0_last_38 rfl (lv_at hl 0 rfl) ?_
        refine lv_iload_n hx hb dX0_last_39 rfl (lv_at hl 1 rfl) ?_
        refine lv_iload_n hx hb dX0_last_40 rfl (lv_at hl 2 rfl) ?_
        refine xw_i (xw_rV (As := [.int s, .int n]) (rest := []) (n := 2) ⟨hx, hb, hml, hown, hts⟩ hK hN hW (xc_lasts lQ G o d0 X E D s n) (lw_V q1224 q1226 qs31 q84 q1227) (xr_main hK hW) (by decide +kernel) rfl ⟨Nat.le_of_ble_eq_true rfl, Nat.le_of_ble_eq_true rfl⟩ hl.1 rfl (Nat.le_of_ble_eq_true rfl) dX0_last_41 ⟨Nat.le_of_ble_eq_true rfl, Nat.le_of_ble_eq_true rfl⟩) hS (fun v41 X41 H locs e41 f41 hW hS => ?_)
        refine xw_iret hx hb hr hlocks hW hS ?_ dX0_last_44
        have hres : xf_last X s n = (v41, X41) := by subst e6 e18 e27 e41 f41; simp only [xf_last, if_neg c9, if_neg c21, if_neg c30]
        exact ⟨by rw [hres], by rw [hres], rfl⟩
      · skip
        refine lv_bipush (v := (-2)) hx hb dX0_last_33 (by decide) ?_
        refine lv_goto (tgt := 44) hx hb dX0_last_35 (by decide) ?_
        refine xw_iret hx hb hr hlocks hW hS ?_ dX0_last_44
        have hres : xf_last X s n = ((-2), X) := by subst e6 e18 e27; simp only [xf_last, if_neg c9, if_neg c21, if_pos c30]
        exact ⟨by rw [hres], by rw [hres], rfl⟩
    · skip
      refine lv_iconst (v := (-1)) hx hb dX0_last_24 (by decide) ?_
      refine xw_iret hx hb hr hlocks hW hS ?_ dX0_last_25
      have hres : xf_last X s n = ((-1), X) := by subst e6 e18; simp only [xf_last, if_neg c9, if_pos c21]
      exact ⟨by rw [hres], by rw [hres], rfl⟩

set_option maxHeartbeats 4000000 in
theorem xc_best (lQ : Launch) (G : wm_G) (o d0 : Nat) (X : mm_S) (E : mm_E) (D : xg) (s : Int32) : xw_Met lQ G o d0 yX0_best (ws_ yX0_best cX0_best 4 (some .int)) 5 X E D [Value.ref o, .int s] (some (.int (xf_best X s).1)) (xf_best X s).2 E := by
  refine xw_start (own := RX0) (by decide +kernel) (Nat.le_of_ble_eq_true rfl) rfl (fun pQ eQ sQ mQ belowQ methQ cQ hx hb hml hr hlocks hts hown hK hN H hW hS ls hl => ?_)
  have hl : lv_has ls 4 [(0, .ref o), (1, .int s)] := hl
  generalize hlc : ([] : List Loc) = locs at hS ⊢
  refine lv_iload_n hx hb dX0_best_0 rfl (lv_at hl 1 rfl) ?_
  refine lv_i2l (v := (s).toInt64) hx hb dX0_best_1 rfl ?_
  refine lv_lconst (v := 0) hx hb dX0_best_2 (by decide) ?_
  refine lv_ldc2 (v := 999) hx hb hown (hts _ q690) dX0_best_3 ?_
  refine xx_within (rest := []) s 0 999 ⟨hx, hb, hml, hown, hts⟩ rfl (by decide) (by decide) q459 hl.1 rfl rfl (Nat.le_of_ble_eq_true rfl) rfl rfl ⟨Nat.le_of_ble_eq_true rfl, Nat.le_of_ble_eq_true rfl⟩ dX0_best_6 (fun v6 e6 => ?_)
  refine lv_if_ne (tgt := 14) hx hb dX0_best_9 (by decide) (fun c9 => ?_) (fun c9 => ?_)
  · skip
    refine lv_aload_n hx hb dX0_best_14 rfl (lv_at hl 0 rfl) ?_
    refine xw_p (xw_rV (As := []) (rest := []) (n := 0) ⟨hx, hb, hml, hown, hts⟩ hK hN hW (xc_belowMany lQ G o d0 X E D) (lw_V q1141 q1143 qs23 q84 q1144) (xr_main hK hW) (by decide +kernel) rfl ⟨Nat.le_of_ble_eq_true rfl, Nat.le_of_ble_eq_true rfl⟩ hl.1 rfl (Nat.le_of_ble_eq_true rfl) dX0_best_15 ⟨Nat.le_of_ble_eq_true rfl, Nat.le_of_ble_eq_true rfl⟩) hS (fun v15 H locs e15 hW hS => ?_)
    refine lv_if_ne (tgt := 24) hx hb dX0_best_18 (by decide) (fun c18 => ?_) (fun c18 => ?_)
    · skip
      refine lv_iconst (v := 0) hx hb dX0_best_24 (by decide) ?_
      refine lv_istore_n (lv' := [(2, .int 0), (0, .ref o), (1, .int s)]) hx hb dX0_best_25 rfl hl (by decide) rfl (fun ls hl => ?_)
      refine lv_iconst (v := 1) hx hb dX0_best_26 (by decide) ?_
      refine lv_istore_n (lv' := [(3, .int 1), (2, .int 0), (0, .ref o), (1, .int s)]) hx hb dX0_best_27 rfl hl (by decide) rfl (fun ls hl => ?_)
      have L28 : ∀ (fu28 : Nat) (b : Int32) (n : Int32) (Y0 : mm_S) (H : Heap) (locs : List Loc), (10 - n.toInt < fu28) → (1 ≤ n.toInt) → (n.toInt ≤ 10) → (xf_be_go fu28 Y0 s b n = xf_best X s) → xx_W G o d0 Y0 E D H → va_S (xx_F o d0) sQ.heap H locs → ∀ ls : Array Slot, lv_has ls 4 [(3, .int n), (2, .int b), (0, .ref o), (1, .int s)] → W pQ lQ eQ (wm_rm 5) sQ mQ ([Value.ref o, .int s] : List Value).toArray belowQ methQ cQ H locs 0 0 (MQ belowQ (wm_Q (fun vQ HQ => vQ = some (.int (xf_best X s).1) ∧ xx_W G o d0 (xf_best X s).2 E D HQ) (xx_F o d0)) ([Value.ref o, .int s] : List Value).toArray sQ 0 0 (xx_F o d0)) (F0 mQ 28 ls []) := by
        intro fu28
        induction fu28 with
        | zero =>
          intro b n Y0 H locs hm28 i028 i128 hgo28 hW hS ls hl
          exact absurd hm28 (by omega)
        | succ fu28 ih28 =>
          intro b n Y0 H locs hm28 i028 i128 hgo28 hW hS ls hl
          refine lv_iload_n hx hb dX0_best_28 rfl (lv_at hl 0 rfl) ?_
          refine lv_bipush (v := 10) hx hb dX0_best_29 (by decide) ?_
          refine lv_icmp_ge (tgt := 57) hx hb dX0_best_31 (by decide) (fun c31 => ?_) (fun c31 => ?_)
          · have t31 : 10 ≤ (n).toInt := ww_le c31
            refine lv_iload_n hx hb dX0_best_57 rfl (lv_at hl 1 rfl) ?_
            refine xw_iret hx hb hr hlocks hW hS ?_ dX0_best_58
            have hres : xf_best X s = (b, Y0) := by rw [← hgo28]; simp only [xf_be_go, if_pos c31]
            exact ⟨by rw [hres], by rw [hres], rfl⟩
          · have t31 : (n).toInt < 10 := ww_nle c31
            refine lv_aload_n hx hb dX0_best_34 rfl (lv_at hl 2 rfl) ?_
            refine lv_iload_n hx hb dX0_best_35 rfl (lv_at hl 3 rfl) ?_
            refine lv_iload_n hx hb dX0_best_36 rfl (lv_at hl 0 rfl) ?_
            refine xw_i (xw_rV (As := [.int s, .int n]) (rest := []) (n := 2) ⟨hx, hb, hml, hown, hts⟩ hK hN hW (xc_lasts lQ G o d0 Y0 E D s n) (lw_V q1224 q1226 qs31 q84 q1227) (xr_main hK hW) (by decide +kernel) rfl ⟨Nat.le_of_ble_eq_true rfl, Nat.le_of_ble_eq_true rfl⟩ hl.1 rfl (Nat.le_of_ble_eq_true rfl) dX0_best_37 ⟨Nat.le_of_ble_eq_true rfl, Nat.le_of_ble_eq_true rfl⟩) hS (fun v37 X37 H locs e37 f37 hW hS => ?_)
            refine lv_aload_n hx hb dX0_best_40 rfl (lv_at hl 2 rfl) ?_
            refine lv_iload_n hx hb dX0_best_41 rfl (lv_at hl 3 rfl) ?_
            refine lv_iload_n hx hb dX0_best_42 rfl (lv_at hl 1 rfl) ?_
            refine xw_i (xw_rV (As := [.int s, .int b]) (rest := [.int v37]) (n := 2) ⟨hx, hb, hml, hown, hts⟩ hK hN hW (xc_lasts lQ G o d0 X37 E D s b) (lw_V q1224 q1226 qs31 q84 q1227) (xr_main hK hW) (by decide +kernel) rfl ⟨Nat.le_of_ble_eq_true rfl, Nat.le_of_ble_eq_true rfl⟩ hl.1 rfl (Nat.le_of_ble_eq_true rfl) dX0_best_43 ⟨Nat.le_of_ble_eq_true rfl, Nat.le_of_ble_eq_true rfl⟩) hS (fun v43 X43 H locs e43 f43 hW hS => ?_)
            refine lv_icmp_le (tgt := 51) hx hb dX0_best_46 (by decide) (fun c46 => ?_) (fun c46 => ?_)
            · have t46 : (v37).toInt ≤ (v43).toInt := ww_le c46
              obtain ⟨v51, e51⟩ : ∃ yQ : Int32, yQ = n + 1 := ⟨_, rfl⟩
              refine lv_iinc (v := v51) (lv' := [(3, .int v51), (2, .int b), (0, .ref o), (1, .int s)]) hx hb dX0_best_51 hl (k := 0) rfl (by rw [e51]; rfl) (by decide) rfl (fun ls hl => ?_)
              refine lv_goto (tgt := 28) hx hb dX0_best_54 (by decide) ?_
              have tb : v51.toInt = n.toInt + 1 := by rw [e51]; exact ww_inc' (by omega)
              exact ih28 b v51 X43 H locs (by omega) (by omega) (by omega) (by rw [xf_be_go, if_neg c31] at hgo28; (first | rw [if_pos (by rw [← e37, ← f37, ← e43]; exact c46)] at hgo28 | rw [if_neg (by rw [← e37, ← f37, ← e43]; exact c46)] at hgo28); rw [← f37, ← f43, ← e51] at hgo28; exact hgo28) hW hS ls (lv_sub hl [0, 1, 2, 3] rfl)
            · have t46 : (v43).toInt < (v37).toInt := ww_nle c46
              refine lv_iload_n hx hb dX0_best_49 rfl (lv_at hl 0 rfl) ?_
              refine lv_istore_n (lv' := [(2, .int n), (3, .int n), (0, .ref o), (1, .int s)]) hx hb dX0_best_50 rfl hl (by decide) rfl (fun ls hl => ?_)
              obtain ⟨v51, e51⟩ : ∃ yQ : Int32, yQ = n + 1 := ⟨_, rfl⟩
              refine lv_iinc (v := v51) (lv' := [(3, .int v51), (2, .int n), (0, .ref o), (1, .int s)]) hx hb dX0_best_51 hl (k := 1) rfl (by rw [e51]; rfl) (by decide) rfl (fun ls hl => ?_)
              refine lv_goto (tgt := 28) hx hb dX0_best_54 (by decide) ?_
              have tb : v51.toInt = n.toInt + 1 := by rw [e51]; exact ww_inc' (by omega)
              exact ih28 n v51 X43 H locs (by omega) (by omega) (by omega) (by rw [xf_be_go, if_neg c31] at hgo28; (first | rw [if_pos (by rw [← e37, ← f37, ← e43]; exact c46)] at hgo28 | rw [if_neg (by rw [← e37, ← f37, ← e43]; exact c46)] at hgo28); rw [← f37, ← f43, ← e51] at hgo28; exact hgo28) hW hS ls (lv_sub hl [0, 1, 2, 3] rfl)
      exact L28 10 0 1 X H locs (by decide) (by decide) (by decide) (by subst e6 e15; simp only [xf_best, if_neg c9, if_neg c18]) hW hS ls (lv_sub hl [0, 1, 2, 3] rfl)
    · skip
      refine lv_bipush (v := (-2)) hx hb dX0_best_21 (by decide) ?_
      refine xw_iret hx hb hr hlocks hW hS ?_ dX0_best_23
      have hres : xf_best X s = ((-2), X) := by subst e6 e15; simp only [xf_best, if_neg c9, if_pos c18]
      exact ⟨by rw [hres], by rw [hres], rfl⟩
  · skip
    refine lv_iconst (v := (-1)) hx hb dX0_best_12 (by decide) ?_
    refine xw_iret hx hb hr hlocks hW hS ?_ dX0_best_13
    have hres : xf_best X s = ((-1), X) := by subst e6; simp only [xf_best, if_pos c9]
    exact ⟨by rw [hres], by rw [hres], rfl⟩

set_option maxHeartbeats 4000000 in
theorem xc_down (lQ : Launch) (G : wm_G) (o d0 : Nat) (X : mm_S) (E : mm_E) (D : xg) (b : Int32) (x : Int32) (h : Int32) (hY : xv_Y X) : xw_Met lQ G o d0 yX0_down (ws_ yX0_down cX0_down 7 (some .int)) 3 X E D [Value.ref o, .int b, .int x, .int h] (some (.int (xf_down X b x h).1)) (xf_down X b x h).2 E := by
  refine xw_start (own := RX0) (by decide +kernel) (Nat.le_of_ble_eq_true rfl) rfl (fun pQ eQ sQ mQ belowQ methQ cQ hx hb hml hr hlocks hts hown hK hN H hW hS ls hl => ?_)
  have hl : lv_has ls 7 [(0, .ref o), (1, .int b), (2, .int x), (3, .int h)] := hl
  generalize hlc : ([] : List Loc) = locs at hS ⊢
  refine lv_aload_n hx hb dX0_down_0 rfl (lv_at hl 0 rfl) ?_
  refine lv_iload_n hx hb dX0_down_1 rfl (lv_at hl 1 rfl) ?_
  refine xw_b (xw_rV (As := [.int b]) (rest := []) (n := 1) ⟨hx, hb, hml, hown, hts⟩ hK hN hW (xc_holeOf lQ G o d0 X E D b) (lw_V q754 q756 qs3 q84 q757) (xr_main hK hW) (by decide +kernel) rfl ⟨Nat.le_of_ble_eq_true rfl, Nat.le_of_ble_eq_true rfl⟩ hl.1 rfl (Nat.le_of_ble_eq_true rfl) dX0_down_2 ⟨Nat.le_of_ble_eq_true rfl, Nat.le_of_ble_eq_true rfl⟩) hS (fun v2 H locs e2 hW hS => ?_)
  refine xl_astore (lv' := [(4, va_rf (xx_o D v2)), (0, .ref o), (1, .int b), (2, .int x), (3, .int h)]) hx hb dX0_down_5 hl (by decide) rfl (fun ls hl => ?_)
  refine wm_join (P := fun w46 : Int32 => w46 = xf_isThing x) (j := 46) (rest := []) (ls := ls) (fun w46 ew46 => ?_) (fun J46 => ?_)
  · skip
    refine lv_istore (lv' := [(5, .int w46), (4, va_rf (xx_o D v2)), (0, .ref o), (1, .int b), (2, .int x), (3, .int h)]) hx hb dX0_down_46 hl (by decide) (by simp [va_rf_c]) (fun ls hl => ?_)
    refine xl_aload hx hb dX0_down_48 (lv_at hl 1 rfl) ?_
    by_cases n50 : v2 < 0
    · skip
      refine xl_instN hx hb n50 dX0_down_50 ?_
      refine lv_if_eq (tgt := 73) hx hb dX0_down_53 (by decide) (fun c53 => ?_) (fun c53 => ?_)
      · skip
        refine lv_iconst (v := (-1)) hx hb dX0_down_73 (by decide) ?_
        refine xw_iret hx hb hr hlocks hW hS ?_ dX0_down_74
        have hres : xf_down X b x h = ((-1), X) := by subst e2 ew46; simp only [xf_down, xf_dn_S, xf_dn_1, xf_dn_2, xf_dn_3, xf_dn_4, if_pos n50, if_pos c53]
        exact ⟨by rw [hres], by rw [hres], rfl⟩
      · skip
        exact absurd rfl c53
    · skip
      have hi : xh_in X v2 := by rw [e2]; exact xf_holeOf_q (xv_W hW) (by rw [← e2]; exact n50)
      refine xl_top hi.1.1 ?_
      refine xb_instTube hx hb hts hown hK hN hW hi.1 q572 dX0_down_50 ?_
      refine lv_if_eq (tgt := 73) hx hb dX0_down_53 (by decide) (fun c53 => ?_) (fun c53 => ?_)
      · skip
        refine lv_iconst (v := (-1)) hx hb dX0_down_73 (by decide) ?_
        refine xw_iret hx hb hr hlocks hW hS ?_ dX0_down_74
        have hres : xf_down X b x h = ((-1), X) := by subst e2 ew46; simp only [xf_down, xf_dn_S, xf_dn_1, xf_dn_2, xf_dn_3, xf_dn_4, if_neg n50, if_pos c53]
        exact ⟨by rw [hres], by rw [hres], rfl⟩
      · skip
        have ht : xtu_in X v2 := xtu_of hi.1 c53
        refine lv_iload hx hb dX0_down_56 (lv_at hl 0 rfl) ?_
        refine lv_if_eq (tgt := 73) hx hb dX0_down_58 (by decide) (fun c58 => ?_) (fun c58 => ?_)
        · skip
          refine lv_iconst (v := (-1)) hx hb dX0_down_73 (by decide) ?_
          refine xw_iret hx hb hr hlocks hW hS ?_ dX0_down_74
          have hres : xf_down X b x h = ((-1), X) := by subst e2 ew46; simp only [xf_down, xf_dn_S, xf_dn_1, xf_dn_2, xf_dn_3, xf_dn_4, if_neg n50, if_neg c53, if_pos c58]
          exact ⟨by rw [hres], by rw [hres], rfl⟩
        · skip
          refine lv_iload_n hx hb dX0_down_61 rfl (lv_at hl 5 rfl) ?_
          refine lv_i2l (v := (h).toInt64) hx hb dX0_down_62 rfl ?_
          refine lv_lconst (v := 1) hx hb dX0_down_63 (by decide) ?_
          refine lv_ldc2 (v := 9) hx hb hown (hts _ q462) dX0_down_64 ?_
          refine xx_within (rest := []) h 1 9 ⟨hx, hb, hml, hown, hts⟩ rfl (by decide) (by decide) q459 hl.1 rfl rfl (Nat.le_of_ble_eq_true rfl) rfl rfl ⟨Nat.le_of_ble_eq_true rfl, Nat.le_of_ble_eq_true rfl⟩ dX0_down_67 (fun v67 e67 => ?_)
          refine lv_if_ne (tgt := 75) hx hb dX0_down_70 (by decide) (fun c70 => ?_) (fun c70 => ?_)
          · skip
            refine xl_aload hx hb dX0_down_75 (lv_at hl 1 rfl) ?_
            refine xw_p (xd_isThrough_X0 (rest := []) lQ ⟨hx, hb, hml, hown, hts⟩ hK hN hW (xh_of_tube ht) ⟨Nat.le_of_ble_eq_true rfl, Nat.le_of_ble_eq_true rfl⟩ hl.1 (by rw [xx_o_pos ht.1.1]; rfl) (Nat.le_of_ble_eq_true rfl) dX0_down_77 ⟨Nat.le_of_ble_eq_true rfl, Nat.le_of_ble_eq_true rfl⟩) hS (fun v77 H locs e77 hW hS => ?_)
            refine lv_if_ne (tgt := 86) hx hb dX0_down_80 (by decide) (fun c80 => ?_) (fun c80 => ?_)
            · skip
              refine lv_aload_n hx hb dX0_down_86 rfl (lv_at hl 2 rfl) ?_
              refine xx_geti hx hb hts hown hK hW 35 rfl rfl (by decide) (by decide) q308 dX0_down_87 ?_
              refine lv_bipush (v := 40) hx hb dX0_down_90 (by decide) ?_
              refine lv_icmp_ne (tgt := 98) hx hb dX0_down_92 (by decide) (fun c92 => ?_) (fun c92 => ?_)
              · skip
                have hlt : (fd_ X 35).toInt < 40 := by
                  have q1 := ww_ne c92
                  have q2 := hY.2.1
                  have q3 : (40 : Int32).toInt = 40 := by decide
                  omega
                have hge := hY.1
                refine xl_aload hx hb dX0_down_98 (lv_at hl 1 rfl) ?_
                refine xl_top ht.1.1 ?_
                refine xb_castTube hx hb hts hown hK hN hW ht.1 q572 c53 dX0_down_100 ?_
                refine xl_rev ht.1.1 ?_
                refine xl_astore (lv' := [(6, va_rf (xx_o D v2)), (5, .int w46), (4, va_rf (xx_o D v2)), (0, .ref o), (1, .int b), (2, .int x), (3, .int h)]) hx hb dX0_down_103 hl (by decide) rfl (fun ls hl => ?_)
                refine xl_aload hx hb dX0_down_105 (lv_at hl 0 rfl) ?_
                refine xl_aload hx hb dX0_down_107 (lv_at hl 0 rfl) ?_
                refine xl_top ht.1.1 ?_
                refine xb_getN hx hb hts hown hK hW ht.1 (k := 15) (xf_tube ht.2) (hN.nf q578) rfl (xb_vi (f := 72) (xf_tube ht.2) (by decide)) dX0_down_109 ?_
                refine lv_aload_n hx hb dX0_down_112 rfl (lv_at hl 3 rfl) ?_
                refine xx_geti hx hb hts hown hK hW 0 rfl rfl (by decide) (by decide) q265 dX0_down_113 ?_
                refine pp_calli (As := [.int (rd_ X 72 v2), .int (fd_ X 0)]) (rest := [va_rf (xx_o D v2)]) (n := 2) ⟨hx, hb, hml, hown, hts⟩ (xc_max lQ (rd_ X 72 v2) (fd_ X 0)) (lw_S q866 q867 q101 q868) (by decide +kernel) rfl ⟨Nat.le_of_ble_eq_true rfl, Nat.le_of_ble_eq_true rfl⟩ hl.1 rfl (by simp [va_rf_c, vc_i, vc_r, vc_l]) dX0_down_116 ⟨Nat.le_of_ble_eq_true rfl, Nat.le_of_ble_eq_true rfl⟩ (fun v116 e116 => ?_)
                refine lv_iload_n hx hb dX0_down_119 rfl (lv_at hl 6 rfl) ?_
                refine nv_iadd hx hb dX0_down_120 (fun v120 e120 => ?_)
                refine xl_top2 ht.1.1 ?_
                refine xb_putN hx hb hts hown hK hW hS ht.1 (k := 15) (f := 72) (xf_tube ht.2) (xf_tnm ht.2) (by decide) rfl rfl rfl (hN.nf q578) rfl dX0_down_121 (fun X121 H locs f121 hW hS => ?_)
                have ht : xtu_in X121 v2 := by rw [f121]; exact xtu_wr ht (by decide) (by decide)
                refine lv_aload_n hx hb dX0_down_124 rfl (lv_at hl 3 rfl) ?_
                refine xx_geta hx hb hts hown hK hW 33 rfl q306 dX0_down_125 ?_
                refine lv_aload_n hx hb dX0_down_128 rfl (lv_at hl 3 rfl) ?_
                refine xx_geti hx hb hts hown hK hW 35 rfl rfl (by decide) (by decide) q308 dX0_down_129 ?_
                refine lv_iload_n hx hb dX0_down_132 rfl (lv_at hl 5 rfl) ?_
                refine xx_iast hx hb hK hW hS 33 rfl (by rw [f121, fd_wn (by decide)]; exact ww_in hge hlt) dX0_down_133 (fun X133 H locs f133 hW hS => ?_)
                have ht : xtu_in X133 v2 := by rw [f133]; exact xtu_wr ht (by decide) (by decide)
                refine lv_aload_n hx hb dX0_down_134 rfl (lv_at hl 3 rfl) ?_
                refine xx_geta hx hb hts hown hK hW 34 rfl q307 dX0_down_135 ?_
                refine lv_aload_n hx hb dX0_down_138 rfl (lv_at hl 3 rfl) ?_
                refine lv_dup hx hb dX0_down_139 rfl ?_
                refine xx_geti hx hb hts hown hK hW 35 rfl rfl (by decide) (by decide) q308 dX0_down_140 ?_
                refine lv_dup_x1 hx hb dX0_down_143 rfl rfl ?_
                refine lv_iconst (v := 1) hx hb dX0_down_144 (by decide) ?_
                refine nv_iadd hx hb dX0_down_145 (fun v145 e145 => ?_)
                refine xx_puti hx hb hts hown hK hW hS 35 rfl rfl (by decide) (by decide) (by decide) rfl rfl rfl q308 dX0_down_146 (fun X146 H locs f146 hW hS => ?_)
                have ht : xtu_in X146 v2 := by rw [f146]; exact xtu_fw ht (by decide) (by decide)
                refine xl_aload hx hb dX0_down_149 (lv_at hl 0 rfl) ?_
                refine xl_top ht.1.1 ?_
                refine xb_getN hx hb hts hown hK hW ht.1 (k := 15) (xf_tube ht.2) (hN.nf q578) rfl (xb_vi (f := 72) (xf_tube ht.2) (by decide)) dX0_down_151 ?_
                refine xx_iast hx hb hK hW hS 34 rfl (by rw [f133, fd_wn (by decide), f121, fd_wn (by decide)]; exact ww_in hge hlt) dX0_down_154 (fun X154 H locs f154 hW hS => ?_)
                have ht : xtu_in X154 v2 := by rw [f154]; exact xtu_wr ht (by decide) (by decide)
                refine xl_aload hx hb dX0_down_155 (lv_at hl 0 rfl) ?_
                refine xl_top ht.1.1 ?_
                refine xb_getN hx hb hts hown hK hW ht.1 (k := 15) (xf_tube ht.2) (hN.nf q578) rfl (xb_vi (f := 72) (xf_tube ht.2) (by decide)) dX0_down_157 ?_
                refine xw_iret hx hb hr hlocks hW hS ?_ dX0_down_160
                have hres : xf_down X b x h = ((rd_ X154 72 v2), X154) := by subst e2 ew46 e67 e77 e116 e120 f121 f133 e145 f146 f154; simp only [xf_down, xf_dn_S, xf_dn_1, xf_dn_2, xf_dn_3, xf_dn_4, if_neg n50, if_neg c53, if_neg c58, if_neg c70, if_neg c80, if_neg c92]
                exact ⟨by rw [hres], by rw [hres], rfl⟩
              · skip
                refine lv_bipush (v := (-3)) hx hb dX0_down_95 (by decide) ?_
                refine xw_iret hx hb hr hlocks hW hS ?_ dX0_down_97
                have hres : xf_down X b x h = ((-3), X) := by subst e2 ew46 e67 e77; simp only [xf_down, xf_dn_S, xf_dn_1, xf_dn_2, xf_dn_3, xf_dn_4, if_neg n50, if_neg c53, if_neg c58, if_neg c70, if_neg c80, if_pos c92]
                exact ⟨by rw [hres], by rw [hres], rfl⟩
            · skip
              refine lv_bipush (v := (-2)) hx hb dX0_down_83 (by decide) ?_
              refine xw_iret hx hb hr hlocks hW hS ?_ dX0_down_85
              have hres : xf_down X b x h = ((-2), X) := by subst e2 ew46 e67 e77; simp only [xf_down, xf_dn_S, xf_dn_1, xf_dn_2, xf_dn_3, xf_dn_4, if_neg n50, if_neg c53, if_neg c58, if_neg c70, if_pos c80]
              exact ⟨by rw [hres], by rw [hres], rfl⟩
          · skip
            refine lv_iconst (v := (-1)) hx hb dX0_down_73 (by decide) ?_
            refine xw_iret hx hb hr hlocks hW hS ?_ dX0_down_74
            have hres : xf_down X b x h = ((-1), X) := by subst e2 ew46 e67; simp only [xf_down, xf_dn_S, xf_dn_1, xf_dn_2, xf_dn_3, xf_dn_4, if_neg n50, if_neg c53, if_neg c58, if_pos c70]
            exact ⟨by rw [hres], by rw [hres], rfl⟩
  refine lv_iload_n hx hb dX0_down_7 rfl (lv_at hl 3 rfl) ?_
  refine lv_bipush (v := 10) hx hb dX0_down_8 (by decide) ?_
  refine lv_icmp_lt (tgt := 27) hx hb dX0_down_10 (by decide) (fun c10 => ?_) (fun c10 => ?_)
  · have t10 : (x).toInt < 10 := ww_lt c10
    refine lv_iload_n hx hb dX0_down_27 rfl (lv_at hl 3 rfl) ?_
    refine lv_i2l (v := (x).toInt64) hx hb dX0_down_28 rfl ?_
    refine lv_ldc2 (v := 11) hx hb hown (hts _ q1236) dX0_down_29 ?_
    refine lv_ldc2 (v := 19) hx hb hown (hts _ q1237) dX0_down_32 ?_
    refine xx_within (rest := []) x 11 19 ⟨hx, hb, hml, hown, hts⟩ rfl (by decide) (by decide) q459 hl.1 rfl rfl (Nat.le_of_ble_eq_true rfl) rfl rfl ⟨Nat.le_of_ble_eq_true rfl, Nat.le_of_ble_eq_true rfl⟩ dX0_down_35 (fun v35 e35 => ?_)
    refine lv_if_eq (tgt := 45) hx hb dX0_down_38 (by decide) (fun c38 => ?_) (fun c38 => ?_)
    · skip
      refine lv_iconst (v := 0) hx hb dX0_down_45 (by decide) ?_
      exact J46 _ (by subst e2 e35; simp only [if_pos c10, if_pos c38, xf_isThing])
    · skip
      refine lv_iconst (v := 1) hx hb dX0_down_41 (by decide) ?_
      refine lv_goto (tgt := 46) hx hb dX0_down_42 (by decide) ?_
      exact J46 _ (by subst e2 e35; simp only [if_pos c10, if_neg c38, xf_isThing])
  · have t10 : 10 ≤ (x).toInt := ww_nlt c10
    refine lv_iload_n hx hb dX0_down_13 rfl (lv_at hl 3 rfl) ?_
    refine lv_sipush (v := 9990) hx hb dX0_down_14 (by decide) ?_
    refine lv_icmp_gt (tgt := 27) hx hb dX0_down_17 (by decide) (fun c17 => ?_) (fun c17 => ?_)
    · have t17 : 9990 < (x).toInt := ww_lt c17
      refine lv_iload_n hx hb dX0_down_27 rfl (lv_at hl 3 rfl) ?_
      refine lv_i2l (v := (x).toInt64) hx hb dX0_down_28 rfl ?_
      refine lv_ldc2 (v := 11) hx hb hown (hts _ q1236) dX0_down_29 ?_
      refine lv_ldc2 (v := 19) hx hb hown (hts _ q1237) dX0_down_32 ?_
      refine xx_within (rest := []) x 11 19 ⟨hx, hb, hml, hown, hts⟩ rfl (by decide) (by decide) q459 hl.1 rfl rfl (Nat.le_of_ble_eq_true rfl) rfl rfl ⟨Nat.le_of_ble_eq_true rfl, Nat.le_of_ble_eq_true rfl⟩ dX0_down_35 (fun v35 e35 => ?_)
      refine lv_if_eq (tgt := 45) hx hb dX0_down_38 (by decide) (fun c38 => ?_) (fun c38 => ?_)
      · skip
        refine lv_iconst (v := 0) hx hb dX0_down_45 (by decide) ?_
        exact J46 _ (by subst e2 e35; simp only [if_neg c10, if_pos c17, if_pos c38, xf_isThing])
      · skip
        refine lv_iconst (v := 1) hx hb dX0_down_41 (by decide) ?_
        refine lv_goto (tgt := 46) hx hb dX0_down_42 (by decide) ?_
        exact J46 _ (by subst e2 e35; simp only [if_neg c10, if_pos c17, if_neg c38, xf_isThing])
    · have t17 : (x).toInt ≤ 9990 := ww_nlt c17
      refine lv_iload_n hx hb dX0_down_20 rfl (lv_at hl 3 rfl) ?_
      refine lv_bipush (v := 10) hx hb dX0_down_21 (by decide) ?_
      refine nv_irem hx hb dX0_down_23 (by decide) (fun v23 e23 => ?_)
      refine lv_if_eq (tgt := 41) hx hb dX0_down_24 (by decide) (fun c24 => ?_) (fun c24 => ?_)
      · skip
        refine lv_iconst (v := 1) hx hb dX0_down_41 (by decide) ?_
        refine lv_goto (tgt := 46) hx hb dX0_down_42 (by decide) ?_
        exact J46 _ (by subst e2 e23; simp only [if_neg c10, if_neg c17, if_pos c24, xf_isThing])
      · skip
        refine lv_iload_n hx hb dX0_down_27 rfl (lv_at hl 3 rfl) ?_
        refine lv_i2l (v := (x).toInt64) hx hb dX0_down_28 rfl ?_
        refine lv_ldc2 (v := 11) hx hb hown (hts _ q1236) dX0_down_29 ?_
        refine lv_ldc2 (v := 19) hx hb hown (hts _ q1237) dX0_down_32 ?_
        refine xx_within (rest := []) x 11 19 ⟨hx, hb, hml, hown, hts⟩ rfl (by decide) (by decide) q459 hl.1 rfl rfl (Nat.le_of_ble_eq_true rfl) rfl rfl ⟨Nat.le_of_ble_eq_true rfl, Nat.le_of_ble_eq_true rfl⟩ dX0_down_35 (fun v35 e35 => ?_)
        refine lv_if_eq (tgt := 45) hx hb dX0_down_38 (by decide) (fun c38 => ?_) (fun c38 => ?_)
        · skip
          refine lv_iconst (v := 0) hx hb dX0_down_45 (by decide) ?_
          exact J46 _ (by subst e2 e23 e35; simp only [if_neg c10, if_neg c17, if_neg c24, if_pos c38, xf_isThing])
        · skip
          refine lv_iconst (v := 1) hx hb dX0_down_41 (by decide) ?_
          refine lv_goto (tgt := 46) hx hb dX0_down_42 (by decide) ?_
          exact J46 _ (by subst e2 e23 e35; simp only [if_neg c10, if_neg c17, if_neg c24, if_neg c38, xf_isThing])

set_option maxHeartbeats 4000000 in
theorem xc_below (lQ : Launch) (G : wm_G) (o d0 : Nat) (X : mm_S) (E : mm_E) (D : xg) (w : Int32) : xw_Met lQ G o d0 yX0_below (ws_ yX0_below cX0_below 2 (some .int)) 1 X E D [Value.ref o, .int w] (some (.int (xf_below X w))) X E := by
  refine xw_start (own := RX0) (by decide +kernel) (Nat.le_of_ble_eq_true rfl) rfl (fun pQ eQ sQ mQ belowQ methQ cQ hx hb hml hr hlocks hts hown hK hN H hW hS ls hl => ?_)
  have hl : lv_has ls 2 [(0, .ref o), (1, .int w)] := hl
  generalize hlc : ([] : List Loc) = locs at hS ⊢
  refine lv_iload_n hx hb dX0_below_0 rfl (lv_at hl 1 rfl) ?_
  refine lv_i2l (v := (w).toInt64) hx hb dX0_below_1 rfl ?_
  refine lv_lconst (v := 0) hx hb dX0_below_2 (by decide) ?_
  refine lv_ldc2 (v := 9) hx hb hown (hts _ q462) dX0_below_3 ?_
  refine xx_within (rest := []) w 0 9 ⟨hx, hb, hml, hown, hts⟩ rfl (by decide) (by decide) q459 hl.1 rfl rfl (Nat.le_of_ble_eq_true rfl) rfl rfl ⟨Nat.le_of_ble_eq_true rfl, Nat.le_of_ble_eq_true rfl⟩ dX0_below_6 (fun v6 e6 => ?_)
  refine lv_if_eq (tgt := 32) hx hb dX0_below_9 (by decide) (fun c9 => ?_) (fun c9 => ?_)
  · skip
    refine lv_iconst (v := (-1)) hx hb dX0_below_32 (by decide) ?_
    refine xw_iret hx hb hr hlocks hW hS ?_ dX0_below_33
    have hres : xf_below X w = (-1) := by subst e6; simp only [xf_below, if_pos c9]
    exact ⟨by rw [hres], rfl, rfl⟩
  · skip
    obtain ⟨w0, w1⟩ := ff_in_t (v := w) (a := 0) (b := 9) (by rw [← e6]; exact c9)
    have w0 : 0 ≤ w.toInt := w0
    have w1 : w.toInt ≤ 9 := w1
    refine lv_iload_n hx hb dX0_below_12 rfl (lv_at hl 1 rfl) ?_
    refine lv_if_ne (tgt := 23) hx hb dX0_below_13 (by decide) (fun c13 => ?_) (fun c13 => ?_)
    · skip
      refine lv_aload_n hx hb dX0_below_23 rfl (lv_at hl 0 rfl) ?_
      refine xx_geta hx hb hts hown hK hW 36 rfl q309 dX0_below_24 ?_
      refine lv_iload_n hx hb dX0_below_27 rfl (lv_at hl 1 rfl) ?_
      refine xx_iald hx hb hK hW 36 rfl (ww_in (by omega) (by omega)) dX0_below_28 ?_
      refine lv_goto (tgt := 33) hx hb dX0_below_29 (by decide) ?_
      refine xw_iret hx hb hr hlocks hW hS ?_ dX0_below_33
      have hres : xf_below X w = (rd_ X 36 w) := by subst e6; simp only [xf_below, if_neg c9, if_neg c13]
      exact ⟨by rw [hres], rfl, rfl⟩
    · skip
      refine lv_aload_n hx hb dX0_below_16 rfl (lv_at hl 0 rfl) ?_
      refine xx_geti hx hb hts hown hK hW 26 rfl rfl (by decide) (by decide) q299 dX0_below_17 ?_
      refine lv_goto (tgt := 33) hx hb dX0_below_20 (by decide) ?_
      refine xw_iret hx hb hr hlocks hW hS ?_ dX0_below_33
      have hres : xf_below X w = (fd_ X 26) := by subst e6; simp only [xf_below, if_neg c9, if_pos c13]
      exact ⟨by rw [hres], rfl, rfl⟩

set_option maxHeartbeats 4000000 in
theorem xc_need (lQ : Launch) (G : wm_G) (o d0 : Nat) (X : mm_S) (E : mm_E) (D : xg) (w : Int32) (b : Int32) (hN0 : xv_N X) : xw_Met lQ G o d0 yX0_need (ws_ yX0_need cX0_need 3 (some .int)) 1 X E D [Value.ref o, .int w, .int b] (some (.int (xf_need X w b).1)) (xf_need X w b).2 E := by
  refine xw_start (own := RX0) (by decide +kernel) (Nat.le_of_ble_eq_true rfl) rfl (fun pQ eQ sQ mQ belowQ methQ cQ hx hb hml hr hlocks hts hown hK hN H hW hS ls hl => ?_)
  have hl : lv_has ls 3 [(0, .ref o), (1, .int w), (2, .int b)] := hl
  generalize hlc : ([] : List Loc) = locs at hS ⊢
  refine lv_iload_n hx hb dX0_need_0 rfl (lv_at hl 1 rfl) ?_
  refine lv_if_lt (tgt := 38) hx hb dX0_need_1 (by decide) (fun c1 => ?_) (fun c1 => ?_)
  · have t1 : (w).toInt < 0 := ww_lt c1
    refine lv_iconst (v := (-1)) hx hb dX0_need_38 (by decide) ?_
    refine xw_iret hx hb hr hlocks hW hS ?_ dX0_need_39
    have hres : xf_need X w b = ((-1), X) := by simp only [xf_need, xf_nd_S, xf_nd_1, xf_nd_2, xf_nd_3, xf_nd_4, if_pos c1]
    exact ⟨by rw [hres], by rw [hres], rfl⟩
  · have t1 : 0 ≤ (w).toInt := ww_nlt c1
    refine lv_iload_n hx hb dX0_need_4 rfl (lv_at hl 1 rfl) ?_
    refine lv_bipush (v := 100) hx hb dX0_need_5 (by decide) ?_
    refine nv_idiv hx hb dX0_need_7 (by decide) (fun v7 e7 => ?_)
    refine lv_i2l (v := (v7).toInt64) hx hb dX0_need_8 rfl ?_
    refine lv_lconst (v := 1) hx hb dX0_need_9 (by decide) ?_
    refine lv_ldc2 (v := 9) hx hb hown (hts _ q462) dX0_need_10 ?_
    refine xx_within (rest := []) v7 1 9 ⟨hx, hb, hml, hown, hts⟩ rfl (by decide) (by decide) q459 hl.1 rfl rfl (Nat.le_of_ble_eq_true rfl) rfl rfl ⟨Nat.le_of_ble_eq_true rfl, Nat.le_of_ble_eq_true rfl⟩ dX0_need_13 (fun v13 e13 => ?_)
    refine lv_if_eq (tgt := 38) hx hb dX0_need_16 (by decide) (fun c16 => ?_) (fun c16 => ?_)
    · skip
      refine lv_iconst (v := (-1)) hx hb dX0_need_38 (by decide) ?_
      refine xw_iret hx hb hr hlocks hW hS ?_ dX0_need_39
      have hres : xf_need X w b = ((-1), X) := by subst e7 e13; simp only [xf_need, xf_nd_S, xf_nd_1, xf_nd_2, xf_nd_3, xf_nd_4, if_neg c1, if_pos c16]
      exact ⟨by rw [hres], by rw [hres], rfl⟩
    · skip
      refine lv_iload_n hx hb dX0_need_19 rfl (lv_at hl 1 rfl) ?_
      refine lv_bipush (v := 100) hx hb dX0_need_20 (by decide) ?_
      refine nv_irem hx hb dX0_need_22 (by decide) (fun v22 e22 => ?_)
      refine lv_if_eq (tgt := 38) hx hb dX0_need_23 (by decide) (fun c23 => ?_) (fun c23 => ?_)
      · skip
        refine lv_iconst (v := (-1)) hx hb dX0_need_38 (by decide) ?_
        refine xw_iret hx hb hr hlocks hW hS ?_ dX0_need_39
        have hres : xf_need X w b = ((-1), X) := by subst e7 e13 e22; simp only [xf_need, xf_nd_S, xf_nd_1, xf_nd_2, xf_nd_3, xf_nd_4, if_neg c1, if_neg c16, if_pos c23]
        exact ⟨by rw [hres], by rw [hres], rfl⟩
      · skip
        refine lv_iload_n hx hb dX0_need_26 rfl (lv_at hl 2 rfl) ?_
        refine lv_i2l (v := (b).toInt64) hx hb dX0_need_27 rfl ?_
        refine lv_lconst (v := 0) hx hb dX0_need_28 (by decide) ?_
        refine lv_ldc2 (v := 99) hx hb hown (hts _ q691) dX0_need_29 ?_
        refine xx_within (rest := []) b 0 99 ⟨hx, hb, hml, hown, hts⟩ rfl (by decide) (by decide) q459 hl.1 rfl rfl (Nat.le_of_ble_eq_true rfl) rfl rfl ⟨Nat.le_of_ble_eq_true rfl, Nat.le_of_ble_eq_true rfl⟩ dX0_need_32 (fun v32 e32 => ?_)
        refine lv_if_ne (tgt := 40) hx hb dX0_need_35 (by decide) (fun c35 => ?_) (fun c35 => ?_)
        · skip
          refine lv_aload_n hx hb dX0_need_40 rfl (lv_at hl 0 rfl) ?_
          refine xx_geti hx hb hts hown hK hW 40 rfl rfl (by decide) (by decide) q313 dX0_need_41 ?_
          refine lv_bipush (v := 10) hx hb dX0_need_44 (by decide) ?_
          refine lv_icmp_ne (tgt := 52) hx hb dX0_need_46 (by decide) (fun c46 => ?_) (fun c46 => ?_)
          · skip
            have hlt : (fd_ X 40).toInt < 10 := by
              have q1 := ww_ne c46
              have q2 := hN0.2
              have q3 : (10 : Int32).toInt = 10 := by decide
              omega
            have hge := hN0.1
            refine lv_aload_n hx hb dX0_need_52 rfl (lv_at hl 0 rfl) ?_
            refine xx_geta hx hb hts hown hK hW 37 rfl q310 dX0_need_53 ?_
            refine lv_aload_n hx hb dX0_need_56 rfl (lv_at hl 0 rfl) ?_
            refine xx_geti hx hb hts hown hK hW 40 rfl rfl (by decide) (by decide) q313 dX0_need_57 ?_
            refine lv_iload_n hx hb dX0_need_60 rfl (lv_at hl 1 rfl) ?_
            refine lv_bipush (v := 100) hx hb dX0_need_61 (by decide) ?_
            refine nv_idiv hx hb dX0_need_63 (by decide) (fun v63 e63 => ?_)
            refine xx_iast hx hb hK hW hS 37 rfl (ww_in hge hlt) dX0_need_64 (fun X64 H locs f64 hW hS => ?_)
            refine lv_aload_n hx hb dX0_need_65 rfl (lv_at hl 0 rfl) ?_
            refine xx_geta hx hb hts hown hK hW 38 rfl q311 dX0_need_66 ?_
            refine lv_aload_n hx hb dX0_need_69 rfl (lv_at hl 0 rfl) ?_
            refine xx_geti hx hb hts hown hK hW 40 rfl rfl (by decide) (by decide) q313 dX0_need_70 ?_
            refine lv_iload_n hx hb dX0_need_73 rfl (lv_at hl 1 rfl) ?_
            refine lv_bipush (v := 100) hx hb dX0_need_74 (by decide) ?_
            refine nv_irem hx hb dX0_need_76 (by decide) (fun v76 e76 => ?_)
            refine xx_iast hx hb hK hW hS 38 rfl (by rw [f64, fd_wn (by decide)]; exact ww_in hge hlt) dX0_need_77 (fun X77 H locs f77 hW hS => ?_)
            refine lv_aload_n hx hb dX0_need_78 rfl (lv_at hl 0 rfl) ?_
            refine xx_geta hx hb hts hown hK hW 39 rfl q312 dX0_need_79 ?_
            refine lv_aload_n hx hb dX0_need_82 rfl (lv_at hl 0 rfl) ?_
            refine xx_geti hx hb hts hown hK hW 40 rfl rfl (by decide) (by decide) q313 dX0_need_83 ?_
            refine lv_iload_n hx hb dX0_need_86 rfl (lv_at hl 2 rfl) ?_
            refine xx_iast hx hb hK hW hS 39 rfl (by rw [f77, fd_wn (by decide), f64, fd_wn (by decide)]; exact ww_in hge hlt) dX0_need_87 (fun X87 H locs f87 hW hS => ?_)
            refine lv_aload_n hx hb dX0_need_88 rfl (lv_at hl 0 rfl) ?_
            refine lv_dup hx hb dX0_need_89 rfl ?_
            refine xx_geti hx hb hts hown hK hW 40 rfl rfl (by decide) (by decide) q313 dX0_need_90 ?_
            refine lv_iconst (v := 1) hx hb dX0_need_93 (by decide) ?_
            refine nv_iadd hx hb dX0_need_94 (fun v94 e94 => ?_)
            refine lv_dup_x1 hx hb dX0_need_95 rfl rfl ?_
            refine xx_puti hx hb hts hown hK hW hS 40 rfl rfl (by decide) (by decide) (by decide) rfl rfl rfl q313 dX0_need_96 (fun X96 H locs f96 hW hS => ?_)
            refine xw_iret hx hb hr hlocks hW hS ?_ dX0_need_99
            have hres : xf_need X w b = (v94, X96) := by subst e7 e13 e22 e32 e63 f64 e76 f77 f87 e94 f96; simp only [xf_need, xf_nd_S, xf_nd_1, xf_nd_2, xf_nd_3, xf_nd_4, if_neg c1, if_neg c16, if_neg c23, if_neg c35, if_neg c46]
            exact ⟨by rw [hres], by rw [hres], rfl⟩
          · skip
            refine lv_bipush (v := (-3)) hx hb dX0_need_49 (by decide) ?_
            refine xw_iret hx hb hr hlocks hW hS ?_ dX0_need_51
            have hres : xf_need X w b = ((-3), X) := by subst e7 e13 e22 e32; simp only [xf_need, xf_nd_S, xf_nd_1, xf_nd_2, xf_nd_3, xf_nd_4, if_neg c1, if_neg c16, if_neg c23, if_neg c35, if_pos c46]
            exact ⟨by rw [hres], by rw [hres], rfl⟩
        · skip
          refine lv_iconst (v := (-1)) hx hb dX0_need_38 (by decide) ?_
          refine xw_iret hx hb hr hlocks hW hS ?_ dX0_need_39
          have hres : xf_need X w b = ((-1), X) := by subst e7 e13 e22 e32; simp only [xf_need, xf_nd_S, xf_nd_1, xf_nd_2, xf_nd_3, xf_nd_4, if_neg c1, if_neg c16, if_neg c23, if_pos c35]
          exact ⟨by rw [hres], by rw [hres], rfl⟩

set_option maxHeartbeats 4000000 in
theorem xc_hoursOf (lQ : Launch) (G : wm_G) (o d0 : Nat) (X : mm_S) (E : mm_E) (D : xg) (s : Int32) (hN0 : xv_N X) : xw_Met lQ G o d0 yX0_hoursOf (ws_ yX0_hoursOf cX0_hoursOf 4 (some .int)) 1 X E D [Value.ref o, .int s] (some (.int (xf_hoursOf X s))) X E := by
  refine xw_start (own := RX0) (by decide +kernel) (Nat.le_of_ble_eq_true rfl) rfl (fun pQ eQ sQ mQ belowQ methQ cQ hx hb hml hr hlocks hts hown hK hN H hW hS ls hl => ?_)
  have hl : lv_has ls 4 [(0, .ref o), (1, .int s)] := hl
  generalize hlc : ([] : List Loc) = locs at hS ⊢
  refine lv_iconst (v := 0) hx hb dX0_hoursOf_0 (by decide) ?_
  refine lv_istore_n (lv' := [(2, .int 0), (0, .ref o), (1, .int s)]) hx hb dX0_hoursOf_1 rfl hl (by decide) rfl (fun ls hl => ?_)
  refine lv_iconst (v := 0) hx hb dX0_hoursOf_2 (by decide) ?_
  refine lv_istore_n (lv' := [(3, .int 0), (2, .int 0), (0, .ref o), (1, .int s)]) hx hb dX0_hoursOf_3 rfl hl (by decide) rfl (fun ls hl => ?_)
  have L4 : ∀ (fu4 : Nat) (n : Int32) (i : Int32), ((fd_ X 40).toInt - i.toInt < fu4) → (0 ≤ i.toInt) → (i.toInt ≤ (fd_ X 40).toInt) → (xf_ho_go fu4 X s n i = xf_hoursOf X s) → ∀ ls : Array Slot, lv_has ls 4 [(3, .int i), (2, .int n), (0, .ref o), (1, .int s)] → W pQ lQ eQ (wm_rm 1) sQ mQ ([Value.ref o, .int s] : List Value).toArray belowQ methQ cQ H locs 0 0 (MQ belowQ (wm_Q (fun vQ HQ => vQ = some (.int (xf_hoursOf X s)) ∧ xx_W G o d0 X E D HQ) (xx_F o d0)) ([Value.ref o, .int s] : List Value).toArray sQ 0 0 (xx_F o d0)) (F0 mQ 4 ls []) := by
    intro fu4
    induction fu4 with
    | zero =>
      intro n i hm4 i04 i14 hgo4 ls hl
      exact absurd hm4 (by omega)
    | succ fu4 ih4 =>
      intro n i hm4 i04 i14 hgo4 ls hl
      have hb2 := hN0.2
      refine lv_iload_n hx hb dX0_hoursOf_4 rfl (lv_at hl 0 rfl) ?_
      refine lv_aload_n hx hb dX0_hoursOf_5 rfl (lv_at hl 2 rfl) ?_
      refine xx_geti hx hb hts hown hK hW 40 rfl rfl (by decide) (by decide) q313 dX0_hoursOf_6 ?_
      refine lv_icmp_ge (tgt := 40) hx hb dX0_hoursOf_9 (by decide) (fun c9 => ?_) (fun c9 => ?_)
      · have t9 : ((fd_ X 40)).toInt ≤ (i).toInt := ww_le c9
        refine lv_iload_n hx hb dX0_hoursOf_40 rfl (lv_at hl 1 rfl) ?_
        refine xw_iret hx hb hr hlocks hW hS ?_ dX0_hoursOf_41
        have hres : xf_hoursOf X s = n := by rw [← hgo4]; simp only [xf_ho_go, nb_, if_pos c9]
        exact ⟨by rw [hres], rfl, rfl⟩
      · have t9 : (i).toInt < ((fd_ X 40)).toInt := ww_nle c9
        refine lv_iload_n hx hb dX0_hoursOf_12 rfl (lv_at hl 1 rfl) ?_
        refine lv_iload_n hx hb dX0_hoursOf_13 rfl (lv_at hl 3 rfl) ?_
        refine lv_iload_n hx hb dX0_hoursOf_14 rfl (lv_at hl 0 rfl) ?_
        refine nv_ishr hx hb dX0_hoursOf_15 (fun v15 e15 => ?_)
        refine lv_iconst (v := 1) hx hb dX0_hoursOf_16 (by decide) ?_
        refine nv_iand hx hb dX0_hoursOf_17 (fun v17 e17 => ?_)
        refine lv_iconst (v := 1) hx hb dX0_hoursOf_18 (by decide) ?_
        refine lv_icmp_ne (tgt := 31) hx hb dX0_hoursOf_19 (by decide) (fun c19 => ?_) (fun c19 => ?_)
        · skip
          refine lv_iconst (v := 0) hx hb dX0_hoursOf_31 (by decide) ?_
          refine nv_iadd hx hb dX0_hoursOf_32 (fun v32 e32 => ?_)
          refine lv_istore_n (lv' := [(2, .int v32), (3, .int i), (0, .ref o), (1, .int s)]) hx hb dX0_hoursOf_33 rfl hl (by decide) rfl (fun ls hl => ?_)
          obtain ⟨v34, e34⟩ : ∃ yQ : Int32, yQ = i + 1 := ⟨_, rfl⟩
          refine lv_iinc (v := v34) (lv' := [(3, .int v34), (2, .int v32), (0, .ref o), (1, .int s)]) hx hb dX0_hoursOf_34 hl (k := 1) rfl (by rw [e34]; rfl) (by decide) rfl (fun ls hl => ?_)
          refine lv_goto (tgt := 4) hx hb dX0_hoursOf_37 (by decide) ?_
          have tb : v34.toInt = i.toInt + 1 := by rw [e34]; exact ww_inc t9
          exact ih4 v32 v34 (by omega) (by omega) (by omega) (by subst e15 e17 e32 e34; simp only [xf_ho_go, nb_, if_neg c9, if_neg c19] at hgo4; exact hgo4) ls (lv_sub hl [0, 1, 2, 3] rfl)
        · skip
          refine lv_aload_n hx hb dX0_hoursOf_22 rfl (lv_at hl 2 rfl) ?_
          refine xx_geta hx hb hts hown hK hW 37 rfl q310 dX0_hoursOf_23 ?_
          refine lv_iload_n hx hb dX0_hoursOf_26 rfl (lv_at hl 0 rfl) ?_
          refine xx_iald hx hb hK hW 37 rfl (ww_in (by omega) (by omega)) dX0_hoursOf_27 ?_
          refine lv_goto (tgt := 32) hx hb dX0_hoursOf_28 (by decide) ?_
          refine nv_iadd hx hb dX0_hoursOf_32 (fun v32 e32 => ?_)
          refine lv_istore_n (lv' := [(2, .int v32), (3, .int i), (0, .ref o), (1, .int s)]) hx hb dX0_hoursOf_33 rfl hl (by decide) rfl (fun ls hl => ?_)
          obtain ⟨v34, e34⟩ : ∃ yQ : Int32, yQ = i + 1 := ⟨_, rfl⟩
          refine lv_iinc (v := v34) (lv' := [(3, .int v34), (2, .int v32), (0, .ref o), (1, .int s)]) hx hb dX0_hoursOf_34 hl (k := 1) rfl (by rw [e34]; rfl) (by decide) rfl (fun ls hl => ?_)
          refine lv_goto (tgt := 4) hx hb dX0_hoursOf_37 (by decide) ?_
          have tb : v34.toInt = i.toInt + 1 := by rw [e34]; exact ww_inc t9
          exact ih4 v32 v34 (by omega) (by omega) (by omega) (by subst e15 e17 e32 e34; simp only [xf_ho_go, nb_, if_neg c9, if_pos c19] at hgo4; exact hgo4) ls (lv_sub hl [0, 1, 2, 3] rfl)
  exact L4 11 0 0 (by have := hN0.2; show _ - 0 < _; omega) (by decide) hN0.1 (rfl) ls (lv_sub hl [0, 1, 2, 3] rfl)

set_option maxHeartbeats 4000000 in
theorem xc_lateOf (lQ : Launch) (G : wm_G) (o d0 : Nat) (X : mm_S) (E : mm_E) (D : xg) (i : Int32) (s : Int32) (hN0 : xv_N X) (q0 : 0 ≤ i.toInt) (q1 : i.toInt < 10) : xw_Met lQ G o d0 yX0_lateOf (ws_ yX0_lateOf cX0_lateOf 3 (some .int)) 2 X E D [Value.ref o, .int i, .int s] (some (.int (xf_lateOf X i s))) X E := by
  refine xw_start (own := RX0) (by decide +kernel) (Nat.le_of_ble_eq_true rfl) rfl (fun pQ eQ sQ mQ belowQ methQ cQ hx hb hml hr hlocks hts hown hK hN H hW hS ls hl => ?_)
  have hl : lv_has ls 3 [(0, .ref o), (1, .int i), (2, .int s)] := hl
  generalize hlc : ([] : List Loc) = locs at hS ⊢
  refine lv_aload_n hx hb dX0_lateOf_0 rfl (lv_at hl 0 rfl) ?_
  refine xx_geta hx hb hts hown hK hW 38 rfl q311 dX0_lateOf_1 ?_
  refine lv_iload_n hx hb dX0_lateOf_4 rfl (lv_at hl 1 rfl) ?_
  refine xx_iald hx hb hK hW 38 rfl (ww_in (by omega) (by omega)) dX0_lateOf_5 ?_
  refine lv_iconst (v := 0) hx hb dX0_lateOf_6 (by decide) ?_
  refine lv_aload_n hx hb dX0_lateOf_7 rfl (lv_at hl 0 rfl) ?_
  refine lv_iload_n hx hb dX0_lateOf_8 rfl (lv_at hl 2 rfl) ?_
  refine xw_p (xw_rV (As := [.int s]) (rest := [.int 0, .int (rd_ X 38 i)]) (n := 1) ⟨hx, hb, hml, hown, hts⟩ hK hN hW (xc_hoursOf lQ G o d0 X E D s hN0) (lw_V q1255 q1257 qs33 q84 q1258) (xr_main hK hW) (by decide +kernel) rfl ⟨Nat.le_of_ble_eq_true rfl, Nat.le_of_ble_eq_true rfl⟩ hl.1 rfl (Nat.le_of_ble_eq_true rfl) dX0_lateOf_9 ⟨Nat.le_of_ble_eq_true rfl, Nat.le_of_ble_eq_true rfl⟩) hS (fun v9 H locs e9 hW hS => ?_)
  refine lv_aload_n hx hb dX0_lateOf_12 rfl (lv_at hl 0 rfl) ?_
  refine xx_geta hx hb hts hown hK hW 37 rfl q310 dX0_lateOf_13 ?_
  refine lv_iload_n hx hb dX0_lateOf_16 rfl (lv_at hl 1 rfl) ?_
  refine xx_iald hx hb hK hW 37 rfl (ww_in (by omega) (by omega)) dX0_lateOf_17 ?_
  refine nv_iadd hx hb dX0_lateOf_18 (fun v18 e18 => ?_)
  refine lv_aload_n hx hb dX0_lateOf_19 rfl (lv_at hl 0 rfl) ?_
  refine xx_geta hx hb hts hown hK hW 39 rfl q312 dX0_lateOf_20 ?_
  refine lv_iload_n hx hb dX0_lateOf_23 rfl (lv_at hl 1 rfl) ?_
  refine xx_iald hx hb hK hW 39 rfl (ww_in (by omega) (by omega)) dX0_lateOf_24 ?_
  refine nv_isub hx hb dX0_lateOf_25 (fun v25 e25 => ?_)
  refine pp_calli (As := [.int 0, .int v25]) (rest := [.int (rd_ X 38 i)]) (n := 2) ⟨hx, hb, hml, hown, hts⟩ (xc_max lQ 0 v25) (lw_S q866 q867 q101 q868) (by decide +kernel) rfl ⟨Nat.le_of_ble_eq_true rfl, Nat.le_of_ble_eq_true rfl⟩ hl.1 rfl (Nat.le_of_ble_eq_true rfl) dX0_lateOf_26 ⟨Nat.le_of_ble_eq_true rfl, Nat.le_of_ble_eq_true rfl⟩ (fun v26 e26 => ?_)
  refine nv_imul hx hb dX0_lateOf_29 (fun v29 e29 => ?_)
  refine xw_iret hx hb hr hlocks hW hS ?_ dX0_lateOf_30
  have hres : xf_lateOf X i s = v29 := by subst e9 e18 e25 e26 e29; simp only [xf_lateOf]
  exact ⟨by rw [hres], rfl, rfl⟩

set_option maxHeartbeats 4000000 in
theorem xc_ordered (lQ : Launch) (G : wm_G) (o d0 : Nat) (X : mm_S) (E : mm_E) (D : xg) (i : Int32) (hm0 : 0 ≤ (fd_ X 43).toInt) (hm1 : (fd_ X 43).toInt ≤ 10) : xw_Met lQ G o d0 yX0_ordered (ws_ yX0_ordered cX0_ordered 2 (some .int)) 1 X E D [Value.ref o, .int i] (some (.int (xf_ordered X i))) X E := by
  refine xw_start (own := RX0) (by decide +kernel) (Nat.le_of_ble_eq_true rfl) rfl (fun pQ eQ sQ mQ belowQ methQ cQ hx hb hml hr hlocks hts hown hK hN H hW hS ls hl => ?_)
  have hl : lv_has ls 2 [(0, .ref o), (1, .int i)] := hl
  generalize hlc : ([] : List Loc) = locs at hS ⊢
  refine lv_iload_n hx hb dX0_ordered_0 rfl (lv_at hl 1 rfl) ?_
  refine lv_i2l (v := (i).toInt64) hx hb dX0_ordered_1 rfl ?_
  refine lv_lconst (v := 0) hx hb dX0_ordered_2 (by decide) ?_
  refine lv_aload_n hx hb dX0_ordered_3 rfl (lv_at hl 0 rfl) ?_
  refine xx_geti hx hb hts hown hK hW 43 rfl rfl (by decide) (by decide) q316 dX0_ordered_4 ?_
  refine lv_iconst (v := 1) hx hb dX0_ordered_7 (by decide) ?_
  refine nv_isub hx hb dX0_ordered_8 (fun v8 e8 => ?_)
  refine lv_i2l (v := (v8).toInt64) hx hb dX0_ordered_9 rfl ?_
  refine xx_within (rest := []) i 0 v8 ⟨hx, hb, hml, hown, hts⟩ rfl (by decide) rfl q459 hl.1 rfl rfl (Nat.le_of_ble_eq_true rfl) rfl rfl ⟨Nat.le_of_ble_eq_true rfl, Nat.le_of_ble_eq_true rfl⟩ dX0_ordered_10 (fun v10 e10 => ?_)
  refine lv_if_eq (tgt := 25) hx hb dX0_ordered_13 (by decide) (fun c13 => ?_) (fun c13 => ?_)
  · skip
    refine lv_iconst (v := (-1)) hx hb dX0_ordered_25 (by decide) ?_
    refine xw_iret hx hb hr hlocks hW hS ?_ dX0_ordered_26
    have hres : xf_ordered X i = (-1) := by subst e8 e10; simp only [xf_ordered, if_pos c13]
    exact ⟨by rw [hres], rfl, rfl⟩
  · skip
    obtain ⟨i0, i1⟩ := ff_in_t (v := i) (a := 0) (b := fd_ X 43 - 1) (by rw [← e8, ← e10]; exact c13)
    have i0 : 0 ≤ i.toInt := i0
    rw [ww_sub1 (by omega)] at i1
    refine lv_aload_n hx hb dX0_ordered_16 rfl (lv_at hl 0 rfl) ?_
    refine xx_geta hx hb hts hown hK hW 42 rfl q315 dX0_ordered_17 ?_
    refine lv_iload_n hx hb dX0_ordered_20 rfl (lv_at hl 1 rfl) ?_
    refine xx_iald hx hb hK hW 42 rfl (ww_in (by omega) (by omega)) dX0_ordered_21 ?_
    refine lv_goto (tgt := 26) hx hb dX0_ordered_22 (by decide) ?_
    refine xw_iret hx hb hr hlocks hW hS ?_ dX0_ordered_26
    have hres : xf_ordered X i = (rd_ X 42 i) := by subst e8 e10; simp only [xf_ordered, if_neg c13]
    exact ⟨by rw [hres], rfl, rfl⟩

set_option maxHeartbeats 4000000 in
theorem xc_watch (lQ : Launch) (G : wm_G) (o d0 : Nat) (X : mm_S) (E : mm_E) (D : xg) (p : Int32) (q : Int32) : xw_Met lQ G o d0 yX0_watch (ws_ yX0_watch cX0_watch 8 (some .int)) 4 X E D [Value.ref o, .int p, .int q] (some (.int (xf_watch X p q).1)) (xf_watch X p q).2 E := by
  refine xw_start (own := RX0) (by decide +kernel) (Nat.le_of_ble_eq_true rfl) rfl (fun pQ eQ sQ mQ belowQ methQ cQ hx hb hml hr hlocks hts hown hK hN H hW hS ls hl => ?_)
  have hl : lv_has ls 8 [(0, .ref o), (1, .int p), (2, .int q)] := hl
  generalize hlc : ([] : List Loc) = locs at hS ⊢
  refine lv_iload_n hx hb dX0_watch_0 rfl (lv_at hl 1 rfl) ?_
  refine lv_i2l (v := (p).toInt64) hx hb dX0_watch_1 rfl ?_
  refine lv_lconst (v := 1) hx hb dX0_watch_2 (by decide) ?_
  refine lv_ldc2 (v := 3) hx hb hown (hts _ q1267) dX0_watch_3 ?_
  refine xx_within (rest := []) p 1 3 ⟨hx, hb, hml, hown, hts⟩ rfl (by decide) (by decide) q459 hl.1 rfl rfl (Nat.le_of_ble_eq_true rfl) rfl rfl ⟨Nat.le_of_ble_eq_true rfl, Nat.le_of_ble_eq_true rfl⟩ dX0_watch_6 (fun v6 e6 => ?_)
  refine lv_if_eq (tgt := 24) hx hb dX0_watch_9 (by decide) (fun c9 => ?_) (fun c9 => ?_)
  · skip
    refine lv_iconst (v := (-1)) hx hb dX0_watch_24 (by decide) ?_
    refine xw_iret hx hb hr hlocks hW hS ?_ dX0_watch_25
    have hres : xf_watch X p q = ((-1), X) := by subst e6; simp only [xf_watch, if_pos c9]
    exact ⟨by rw [hres], by rw [hres], rfl⟩
  · skip
    obtain ⟨p0, p1⟩ := ff_in_t (v := p) (a := 1) (b := 3) (by rw [← e6]; exact c9)
    have p0 : 1 ≤ p.toInt := p0
    have p1 : p.toInt ≤ 3 := p1
    have t3p : ∀ v : Int32, v = 3 * p → v.toInt = 3 * p.toInt := by
      intro v e
      have z : (3 : Int32).toInt = 3 := by decide
      rw [e, ww_mul, z] <;> rw [z] <;> omega
    refine lv_iload_n hx hb dX0_watch_12 rfl (lv_at hl 2 rfl) ?_
    refine lv_i2l (v := (q).toInt64) hx hb dX0_watch_13 rfl ?_
    refine lv_lconst (v := 0) hx hb dX0_watch_14 (by decide) ?_
    refine lv_ldc2 (v := 9) hx hb hown (hts _ q462) dX0_watch_15 ?_
    refine xx_within (rest := []) q 0 9 ⟨hx, hb, hml, hown, hts⟩ rfl (by decide) (by decide) q459 hl.1 rfl rfl (Nat.le_of_ble_eq_true rfl) rfl rfl ⟨Nat.le_of_ble_eq_true rfl, Nat.le_of_ble_eq_true rfl⟩ dX0_watch_18 (fun v18 e18 => ?_)
    refine lv_if_ne (tgt := 26) hx hb dX0_watch_21 (by decide) (fun c21 => ?_) (fun c21 => ?_)
    · skip
      refine lv_aload_n hx hb dX0_watch_26 rfl (lv_at hl 0 rfl) ?_
      refine lv_iload_n hx hb dX0_watch_27 rfl (lv_at hl 1 rfl) ?_
      refine xx_puti hx hb hts hown hK hW hS 45 rfl rfl (by decide) (by decide) (by decide) rfl rfl rfl q318 dX0_watch_28 (fun X28 H locs f28 hW hS => ?_)
      refine lv_iconst (v := 0) hx hb dX0_watch_31 (by decide) ?_
      refine lv_istore_n (lv' := [(3, .int 0), (0, .ref o), (1, .int p), (2, .int q)]) hx hb dX0_watch_32 rfl hl (by decide) rfl (fun ls hl => ?_)
      refine lv_iconst (v := 0) hx hb dX0_watch_33 (by decide) ?_
      refine lv_istore (lv' := [(4, .int 0), (3, .int 0), (0, .ref o), (1, .int p), (2, .int q)]) hx hb dX0_watch_34 hl (by decide) rfl (fun ls hl => ?_)
      refine lv_iconst (v := 0) hx hb dX0_watch_36 (by decide) ?_
      refine lv_istore (lv' := [(5, .int 0), (4, .int 0), (3, .int 0), (0, .ref o), (1, .int p), (2, .int q)]) hx hb dX0_watch_37 hl (by decide) rfl (fun ls hl => ?_)
      refine lv_iconst (v := 0) hx hb dX0_watch_39 (by decide) ?_
      refine lv_istore (lv' := [(6, .int 0), (5, .int 0), (4, .int 0), (3, .int 0), (0, .ref o), (1, .int p), (2, .int q)]) hx hb dX0_watch_40 hl (by decide) rfl (fun ls hl => ?_)
      have L42 : ∀ (fu42 : Nat) (z : Int32) (n : Int32) (k : Int32) (Y0 : mm_S) (H : Heap) (locs : List Loc), ((fd_ X 4).toInt - k.toInt < fu42) → (0 ≤ k.toInt) → (k.toInt ≤ (fd_ X 4).toInt) → (fr_ [44, 45] X Y0) → (0 ≤ n.toInt) → (n.toInt ≤ z.toInt) → (z.toInt ≤ 9) → (n.toInt ≤ 3 * p.toInt) → (xf_wa_go fu42 Y0 p q z n k = xf_watch X p q) → xx_W G o d0 Y0 E D H → va_S (xx_F o d0) sQ.heap H locs → ∀ ls : Array Slot, lv_has ls 8 [(6, .int k), (5, .int 0), (4, .int n), (3, .int z), (0, .ref o), (1, .int p), (2, .int q)] → W pQ lQ eQ (wm_rm 4) sQ mQ ([Value.ref o, .int p, .int q] : List Value).toArray belowQ methQ cQ H locs 0 0 (MQ belowQ (wm_Q (fun vQ HQ => vQ = some (.int (xf_watch X p q).1) ∧ xx_W G o d0 (xf_watch X p q).2 E D HQ) (xx_F o d0)) ([Value.ref o, .int p, .int q] : List Value).toArray sQ 0 0 (xx_F o d0)) (F0 mQ 42 ls []) := by
        intro fu42
        induction fu42 with
        | zero =>
          intro z n k Y0 H locs hm42 i042 i142 iF42 i242 i342 i442 i542 hgo42 hW hS ls hl
          exact absurd hm42 (by omega)
        | succ fu42 ih42 =>
          intro z n k Y0 H locs hm42 i042 i142 iF42 i242 i342 i442 i542 hgo42 hW hS ls hl
          have e4 : (fd_ Y0 4).toInt = (fd_ X 4).toInt := by rw [fd_of (iF42 4 (by decide))]
          have hb2 := (xv_W hW).2
          refine lv_iload hx hb dX0_watch_42 (lv_at hl 0 rfl) ?_
          refine lv_aload_n hx hb dX0_watch_44 rfl (lv_at hl 4 rfl) ?_
          refine xx_geti hx hb hts hown hK hW 4 rfl rfl (by decide) (by decide) q271 dX0_watch_45 ?_
          refine lv_icmp_ge (tgt := 114) hx hb dX0_watch_48 (by decide) (fun c48 => ?_) (fun c48 => ?_)
          · have t48 : ((fd_ Y0 4)).toInt ≤ (k).toInt := ww_le c48
            refine lv_iload hx hb dX0_watch_114 (lv_at hl 2 rfl) ?_
            refine lv_istore (lv' := [(5, .int n), (6, .int k), (4, .int n), (3, .int z), (0, .ref o), (1, .int p), (2, .int q)]) hx hb dX0_watch_116 hl (by decide) rfl (fun ls hl => ?_)
            have L118 : ∀ (fu118 : Nat) (i : Int32) (Y1 : mm_S) (H : Heap) (locs : List Loc), (9 - i.toInt < fu118) → (0 ≤ i.toInt) → (i.toInt ≤ 9) → (xf_wf_go fu118 Y1 p n i = xf_watch X p q) → xx_W G o d0 Y1 E D H → va_S (xx_F o d0) sQ.heap H locs → ∀ ls : Array Slot, lv_has ls 8 [(5, .int i), (6, .int k), (4, .int n), (3, .int z), (0, .ref o), (1, .int p), (2, .int q)] → W pQ lQ eQ (wm_rm 4) sQ mQ ([Value.ref o, .int p, .int q] : List Value).toArray belowQ methQ cQ H locs 0 0 (MQ belowQ (wm_Q (fun vQ HQ => vQ = some (.int (xf_watch X p q).1) ∧ xx_W G o d0 (xf_watch X p q).2 E D HQ) (xx_F o d0)) ([Value.ref o, .int p, .int q] : List Value).toArray sQ 0 0 (xx_F o d0)) (F0 mQ 118 ls []) := by
              intro fu118
              induction fu118 with
              | zero =>
                intro i Y1 H locs hm118 j0118 j1118 hgo118 hW hS ls hl
                exact absurd hm118 (by omega)
              | succ fu118 ih118 =>
                intro i Y1 H locs hm118 j0118 j1118 hgo118 hW hS ls hl
                refine lv_iload hx hb dX0_watch_118 (lv_at hl 0 rfl) ?_
                refine lv_iconst (v := 3) hx hb dX0_watch_120 (by decide) ?_
                refine lv_iload_n hx hb dX0_watch_121 rfl (lv_at hl 5 rfl) ?_
                refine nv_imul hx hb dX0_watch_122 (fun v122 e122 => ?_)
                have t122 := t3p v122 e122
                refine lv_icmp_ge (tgt := 141) hx hb dX0_watch_123 (by decide) (fun c123 => ?_) (fun c123 => ?_)
                · have t123 : (v122).toInt ≤ (i).toInt := ww_le c123
                  refine lv_iload hx hb dX0_watch_141 (lv_at hl 2 rfl) ?_
                  refine xw_iret hx hb hr hlocks hW hS ?_ dX0_watch_143
                  have hres : xf_watch X p q = (n, Y1) := by rw [← hgo118]; subst e122; simp only [xf_wf_go, if_pos c123]
                  exact ⟨by rw [hres], by rw [hres], rfl⟩
                · have t123 : (i).toInt < (v122).toInt := ww_nle c123
                  refine lv_aload_n hx hb dX0_watch_126 rfl (lv_at hl 4 rfl) ?_
                  refine xx_geta hx hb hts hown hK hW 44 rfl q317 dX0_watch_127 ?_
                  refine lv_iload hx hb dX0_watch_130 (lv_at hl 0 rfl) ?_
                  refine lv_bipush (v := (-2)) hx hb dX0_watch_132 (by decide) ?_
                  refine xx_iast hx hb hK hW hS 44 rfl (ww_in (by omega) (by omega)) dX0_watch_134 (fun X134 H locs f134 hW hS => ?_)
                  obtain ⟨v135, e135⟩ : ∃ yQ : Int32, yQ = i + 1 := ⟨_, rfl⟩
                  refine lv_iinc (v := v135) (lv' := [(5, .int v135), (6, .int k), (4, .int n), (3, .int z), (0, .ref o), (1, .int p), (2, .int q)]) hx hb dX0_watch_135 hl (k := 0) rfl (by rw [e135]; rfl) (by decide) rfl (fun ls hl => ?_)
                  refine lv_goto (tgt := 118) hx hb dX0_watch_138 (by decide) ?_
                  have tb : v135.toInt = i.toInt + 1 := by rw [e135]; exact ww_inc' (by omega)
                  exact ih118 v135 X134 H locs (by omega) (by omega) (by omega) (by subst e122 f134 e135; simp only [xf_wf_go, if_neg c123] at hgo118; exact hgo118) hW hS ls (lv_sub hl [0, 1, 2, 3, 4, 5, 6] rfl)
            exact L118 10 n Y0 H locs (by show (9 : Int) - _ < 10; omega) i242 (by omega) (by rw [← hgo42]; simp only [xf_wa_go, xf_wf_S, if_pos c48]) hW hS ls (lv_sub hl [0, 1, 2, 3, 4, 5, 6] rfl)
          · have t48 : (k).toInt < ((fd_ Y0 4)).toInt := ww_nle c48
            refine lv_iload_n hx hb dX0_watch_51 rfl (lv_at hl 3 rfl) ?_
            refine lv_bipush (v := 9) hx hb dX0_watch_52 (by decide) ?_
            refine lv_icmp_ge (tgt := 114) hx hb dX0_watch_54 (by decide) (fun c54 => ?_) (fun c54 => ?_)
            · have t54 : 9 ≤ (z).toInt := ww_le c54
              refine lv_iload hx hb dX0_watch_114 (lv_at hl 2 rfl) ?_
              refine lv_istore (lv' := [(5, .int n), (6, .int k), (4, .int n), (3, .int z), (0, .ref o), (1, .int p), (2, .int q)]) hx hb dX0_watch_116 hl (by decide) rfl (fun ls hl => ?_)
              have L118 : ∀ (fu118 : Nat) (i : Int32) (Y1 : mm_S) (H : Heap) (locs : List Loc), (9 - i.toInt < fu118) → (0 ≤ i.toInt) → (i.toInt ≤ 9) → (xf_wf_go fu118 Y1 p n i = xf_watch X p q) → xx_W G o d0 Y1 E D H → va_S (xx_F o d0) sQ.heap H locs → ∀ ls : Array Slot, lv_has ls 8 [(5, .int i), (6, .int k), (4, .int n), (3, .int z), (0, .ref o), (1, .int p), (2, .int q)] → W pQ lQ eQ (wm_rm 4) sQ mQ ([Value.ref o, .int p, .int q] : List Value).toArray belowQ methQ cQ H locs 0 0 (MQ belowQ (wm_Q (fun vQ HQ => vQ = some (.int (xf_watch X p q).1) ∧ xx_W G o d0 (xf_watch X p q).2 E D HQ) (xx_F o d0)) ([Value.ref o, .int p, .int q] : List Value).toArray sQ 0 0 (xx_F o d0)) (F0 mQ 118 ls []) := by
                intro fu118
                induction fu118 with
                | zero =>
                  intro i Y1 H locs hm118 j0118 j1118 hgo118 hW hS ls hl
                  exact absurd hm118 (by omega)
                | succ fu118 ih118 =>
                  intro i Y1 H locs hm118 j0118 j1118 hgo118 hW hS ls hl
                  refine lv_iload hx hb dX0_watch_118 (lv_at hl 0 rfl) ?_
                  refine lv_iconst (v := 3) hx hb dX0_watch_120 (by decide) ?_
                  refine lv_iload_n hx hb dX0_watch_121 rfl (lv_at hl 5 rfl) ?_
                  refine nv_imul hx hb dX0_watch_122 (fun v122 e122 => ?_)
                  have t122 := t3p v122 e122
                  refine lv_icmp_ge (tgt := 141) hx hb dX0_watch_123 (by decide) (fun c123 => ?_) (fun c123 => ?_)
                  · have t123 : (v122).toInt ≤ (i).toInt := ww_le c123
                    refine lv_iload hx hb dX0_watch_141 (lv_at hl 2 rfl) ?_
                    refine xw_iret hx hb hr hlocks hW hS ?_ dX0_watch_143
                    have hres : xf_watch X p q = (n, Y1) := by rw [← hgo118]; subst e122; simp only [xf_wf_go, if_pos c123]
                    exact ⟨by rw [hres], by rw [hres], rfl⟩
                  · have t123 : (i).toInt < (v122).toInt := ww_nle c123
                    refine lv_aload_n hx hb dX0_watch_126 rfl (lv_at hl 4 rfl) ?_
                    refine xx_geta hx hb hts hown hK hW 44 rfl q317 dX0_watch_127 ?_
                    refine lv_iload hx hb dX0_watch_130 (lv_at hl 0 rfl) ?_
                    refine lv_bipush (v := (-2)) hx hb dX0_watch_132 (by decide) ?_
                    refine xx_iast hx hb hK hW hS 44 rfl (ww_in (by omega) (by omega)) dX0_watch_134 (fun X134 H locs f134 hW hS => ?_)
                    obtain ⟨v135, e135⟩ : ∃ yQ : Int32, yQ = i + 1 := ⟨_, rfl⟩
                    refine lv_iinc (v := v135) (lv' := [(5, .int v135), (6, .int k), (4, .int n), (3, .int z), (0, .ref o), (1, .int p), (2, .int q)]) hx hb dX0_watch_135 hl (k := 0) rfl (by rw [e135]; rfl) (by decide) rfl (fun ls hl => ?_)
                    refine lv_goto (tgt := 118) hx hb dX0_watch_138 (by decide) ?_
                    have tb : v135.toInt = i.toInt + 1 := by rw [e135]; exact ww_inc' (by omega)
                    exact ih118 v135 X134 H locs (by omega) (by omega) (by omega) (by subst e122 f134 e135; simp only [xf_wf_go, if_neg c123] at hgo118; exact hgo118) hW hS ls (lv_sub hl [0, 1, 2, 3, 4, 5, 6] rfl)
              exact L118 10 n Y0 H locs (by show (9 : Int) - _ < 10; omega) i242 (by omega) (by rw [← hgo42]; simp only [xf_wa_go, xf_wf_S, if_neg c48, if_pos c54]) hW hS ls (lv_sub hl [0, 1, 2, 3, 4, 5, 6] rfl)
            · have t54 : (z).toInt < 9 := ww_nle c54
              refine lv_aload_n hx hb dX0_watch_57 rfl (lv_at hl 4 rfl) ?_
              refine lv_iload hx hb dX0_watch_58 (lv_at hl 0 rfl) ?_
              refine xw_b (xw_rV (As := [.int k]) (rest := []) (n := 1) ⟨hx, hb, hml, hown, hts⟩ hK hN hW (xc_belowOf lQ G o d0 Y0 E D k) (lw_V q1145 q1147 qs24 q84 q1148) (xr_main hK hW) (by decide +kernel) rfl ⟨Nat.le_of_ble_eq_true rfl, Nat.le_of_ble_eq_true rfl⟩ hl.1 rfl (Nat.le_of_ble_eq_true rfl) dX0_watch_60 ⟨Nat.le_of_ble_eq_true rfl, Nat.le_of_ble_eq_true rfl⟩) hS (fun v60 H locs e60 hW hS => ?_)
              refine xl_astore (lv' := [(7, va_rf (xx_o D v60)), (6, .int k), (5, .int 0), (4, .int n), (3, .int z), (0, .ref o), (1, .int p), (2, .int q)]) hx hb dX0_watch_63 hl (by decide) rfl (fun ls hl => ?_)
              refine xl_aload hx hb dX0_watch_65 (lv_at hl 0 rfl) ?_
              refine xl_ifnonnull (tgt := 73) hx hb dX0_watch_67 (by decide) (fun c67 => ?_) (fun c67 => ?_)
              · have t67 : 0 ≤ (v60).toInt := ww_nl0 c67
                have hi67 : xm_in Y0 (xf_belowOf Y0 k) := xf_belowOf_q (xv_W hW) (by rw [← e60]; exact c67)
                obtain ⟨v73, e73⟩ : ∃ yQ : Int32, yQ = z + 1 := ⟨_, rfl⟩
                refine lv_iinc (v := v73) (lv' := [(3, .int v73), (7, va_rf (xx_o D v60)), (6, .int k), (5, .int 0), (4, .int n), (0, .ref o), (1, .int p), (2, .int q)]) hx hb dX0_watch_73 hl (k := 4) rfl (by rw [e73]; rfl) (by decide) rfl (fun ls hl => ?_)
                refine xl_aload hx hb dX0_watch_76 (lv_at hl 1 rfl) ?_
                refine xl_top (show xm_in Y0 v60 from by rw [e60]; exact hi67).1.1 ?_
                refine xb_getN hx hb hts hown hK hW (show xm_in Y0 v60 from by rw [e60]; exact hi67).1 (k := 4) (xf_man (show xm_in Y0 v60 from by rw [e60]; exact hi67).2 (k := 4) (by decide)) (hN.nf q703) rfl (xb_vi (f := 79) (xf_man (show xm_in Y0 v60 from by rw [e60]; exact hi67).2 (k := 4) (by decide)) (by decide)) dX0_watch_78 ?_
                refine lv_iload_n hx hb dX0_watch_81 rfl (lv_at hl 7 rfl) ?_
                refine lv_icmp_gt (tgt := 108) hx hb dX0_watch_82 (by decide) (fun c82 => ?_) (fun c82 => ?_)
                · have t82 : (q).toInt < ((rd_ Y0 79 v60)).toInt := ww_lt c82
                  obtain ⟨v108, e108⟩ : ∃ yQ : Int32, yQ = k + 1 := ⟨_, rfl⟩
                  refine lv_iinc (v := v108) (lv' := [(6, .int v108), (3, .int v73), (7, va_rf (xx_o D v60)), (5, .int 0), (4, .int n), (0, .ref o), (1, .int p), (2, .int q)]) hx hb dX0_watch_108 hl (k := 2) rfl (by rw [e108]; rfl) (by decide) rfl (fun ls hl => ?_)
                  refine lv_goto (tgt := 42) hx hb dX0_watch_111 (by decide) ?_
                  have tb : v108.toInt = k.toInt + 1 := by rw [e108]; exact ww_inc' (by omega)
                  have tn : (n + 1).toInt = n.toInt + 1 := ww_inc' (by omega)
                  have tz : (z + 1).toInt = z.toInt + 1 := ww_inc' (by omega)
                  exact ih42 v73 n v108 Y0 H locs (by omega) (by omega) (by omega) (by first | exact iF42 | (rw [f107]; exact iF42.wr (by decide))) (by first | omega | (rw [e102]; omega)) (by first | omega | (rw [e73]; omega) | (rw [e73, e102]; omega)) (by first | omega | (rw [e73]; omega)) (by first | omega | (rw [e102]; omega)) (by subst e60 e73 e108; simp only [xf_wa_go, if_neg c48, if_neg c54, if_neg c67, if_pos c82] at hgo42; exact hgo42) hW hS ls (lv_sub hl [0, 3, 4, 1, 5, 6, 7] rfl)
                · have t82 : ((rd_ Y0 79 v60)).toInt ≤ (q).toInt := ww_nlt c82
                  refine lv_iload hx hb dX0_watch_85 (lv_at hl 4 rfl) ?_
                  refine lv_iconst (v := 3) hx hb dX0_watch_87 (by decide) ?_
                  refine lv_iload_n hx hb dX0_watch_88 rfl (lv_at hl 6 rfl) ?_
                  refine nv_imul hx hb dX0_watch_89 (fun v89 e89 => ?_)
                  refine lv_icmp_ne (tgt := 96) hx hb dX0_watch_90 (by decide) (fun c90 => ?_) (fun c90 => ?_)
                  · skip
                    have tne : n.toInt < 3 * p.toInt := by
                      have z := ww_ne c90
                      have z2 := t3p v89 e89
                      omega
                    refine lv_aload_n hx hb dX0_watch_96 rfl (lv_at hl 5 rfl) ?_
                    refine xx_geta hx hb hts hown hK hW 44 rfl q317 dX0_watch_97 ?_
                    refine lv_iload hx hb dX0_watch_100 (lv_at hl 4 rfl) ?_
                    obtain ⟨v102, e102⟩ : ∃ yQ : Int32, yQ = n + 1 := ⟨_, rfl⟩
                    refine lv_iinc (v := v102) (lv' := [(4, .int v102), (3, .int v73), (7, va_rf (xx_o D v60)), (6, .int k), (5, .int 0), (0, .ref o), (1, .int p), (2, .int q)]) hx hb dX0_watch_102 hl (k := 4) rfl (by rw [e102]; rfl) (by decide) rfl (fun ls hl => ?_)
                    refine lv_iload hx hb dX0_watch_105 (lv_at hl 3 rfl) ?_
                    refine xx_iast hx hb hK hW hS 44 rfl (ww_in (by omega) (by omega)) dX0_watch_107 (fun X107 H locs f107 hW hS => ?_)
                    have hi67 : xm_in X107 (xf_belowOf Y0 k) := by rw [f107]; exact xm_wr hi67 (by decide) (by decide)
                    obtain ⟨v108, e108⟩ : ∃ yQ : Int32, yQ = k + 1 := ⟨_, rfl⟩
                    refine lv_iinc (v := v108) (lv' := [(6, .int v108), (4, .int v102), (3, .int v73), (7, va_rf (xx_o D v60)), (5, .int 0), (0, .ref o), (1, .int p), (2, .int q)]) hx hb dX0_watch_108 hl (k := 3) rfl (by rw [e108]; rfl) (by decide) rfl (fun ls hl => ?_)
                    refine lv_goto (tgt := 42) hx hb dX0_watch_111 (by decide) ?_
                    have tb : v108.toInt = k.toInt + 1 := by rw [e108]; exact ww_inc' (by omega)
                    have tn : (n + 1).toInt = n.toInt + 1 := ww_inc' (by omega)
                    have tz : (z + 1).toInt = z.toInt + 1 := ww_inc' (by omega)
                    exact ih42 v73 v102 v108 X107 H locs (by omega) (by omega) (by omega) (by first | exact iF42 | (rw [f107]; exact iF42.wr (by decide))) (by first | omega | (rw [e102]; omega)) (by first | omega | (rw [e73]; omega) | (rw [e73, e102]; omega)) (by first | omega | (rw [e73]; omega)) (by first | omega | (rw [e102]; omega)) (by subst e60 e73 e89 e102 f107 e108; simp only [xf_wa_go, if_neg c48, if_neg c54, if_neg c67, if_neg c82, if_neg c90] at hgo42; exact hgo42) hW hS ls (lv_sub hl [0, 4, 1, 2, 5, 6, 7] rfl)
                  · skip
                    refine lv_goto (tgt := 108) hx hb dX0_watch_93 (by decide) ?_
                    obtain ⟨v108, e108⟩ : ∃ yQ : Int32, yQ = k + 1 := ⟨_, rfl⟩
                    refine lv_iinc (v := v108) (lv' := [(6, .int v108), (3, .int v73), (7, va_rf (xx_o D v60)), (5, .int 0), (4, .int n), (0, .ref o), (1, .int p), (2, .int q)]) hx hb dX0_watch_108 hl (k := 2) rfl (by rw [e108]; rfl) (by decide) rfl (fun ls hl => ?_)
                    refine lv_goto (tgt := 42) hx hb dX0_watch_111 (by decide) ?_
                    have tb : v108.toInt = k.toInt + 1 := by rw [e108]; exact ww_inc' (by omega)
                    have tn : (n + 1).toInt = n.toInt + 1 := ww_inc' (by omega)
                    have tz : (z + 1).toInt = z.toInt + 1 := ww_inc' (by omega)
                    exact ih42 v73 n v108 Y0 H locs (by omega) (by omega) (by omega) (by first | exact iF42 | (rw [f107]; exact iF42.wr (by decide))) (by first | omega | (rw [e102]; omega)) (by first | omega | (rw [e73]; omega) | (rw [e73, e102]; omega)) (by first | omega | (rw [e73]; omega)) (by first | omega | (rw [e102]; omega)) (by subst e60 e73 e89 e108; simp only [xf_wa_go, if_neg c48, if_neg c54, if_neg c67, if_neg c82, if_pos c90] at hgo42; exact hgo42) hW hS ls (lv_sub hl [0, 3, 4, 1, 5, 6, 7] rfl)
              · have t67 : (v60).toInt < 0 := ww_l0 c67
                refine lv_goto (tgt := 108) hx hb dX0_watch_70 (by decide) ?_
                obtain ⟨v108, e108⟩ : ∃ yQ : Int32, yQ = k + 1 := ⟨_, rfl⟩
                refine lv_iinc (v := v108) (lv' := [(6, .int v108), (7, va_rf (xx_o D v60)), (5, .int 0), (4, .int n), (3, .int z), (0, .ref o), (1, .int p), (2, .int q)]) hx hb dX0_watch_108 hl (k := 1) rfl (by rw [e108]; rfl) (by decide) rfl (fun ls hl => ?_)
                refine lv_goto (tgt := 42) hx hb dX0_watch_111 (by decide) ?_
                have tb : v108.toInt = k.toInt + 1 := by rw [e108]; exact ww_inc' (by omega)
                have tn : (n + 1).toInt = n.toInt + 1 := ww_inc' (by omega)
                have tz : (z + 1).toInt = z.toInt + 1 := ww_inc' (by omega)
                exact ih42 z n v108 Y0 H locs (by omega) (by omega) (by omega) (by first | exact iF42 | (rw [f107]; exact iF42.wr (by decide))) (by first | omega | (rw [e102]; omega)) (by first | omega | (rw [e73]; omega) | (rw [e73, e102]; omega)) (by first | omega | (rw [e73]; omega)) (by first | omega | (rw [e102]; omega)) (by subst e60 e108; simp only [xf_wa_go, if_neg c48, if_neg c54, if_pos c67] at hgo42; exact hgo42) hW hS ls (lv_sub hl [0, 2, 3, 4, 5, 6, 7] rfl)
      exact L42 121 0 0 0 X28 H locs (by have := (xv_W hW).2; rw [f28, fd_fn (by decide)] at this; show _ - 0 < (121 : Int); omega) (by decide) (by have := (xv_W hW).1; rw [f28, fd_fn (by decide)] at this; show (0 : Int) ≤ _; exact this) (by rw [f28]; exact fr_fw (by decide)) (by decide) (by decide) (by decide) (by show (0 : Int) ≤ _; omega) (by subst e6 e18 f28; simp only [xf_watch, if_neg c9, if_neg c21]) hW hS ls (lv_sub hl [0, 1, 2, 3, 4, 5, 6] rfl)
    · skip
      refine lv_iconst (v := (-1)) hx hb dX0_watch_24 (by decide) ?_
      refine xw_iret hx hb hr hlocks hW hS ?_ dX0_watch_25
      have hres : xf_watch X p q = ((-1), X) := by subst e6 e18; simp only [xf_watch, if_neg c9, if_pos c21]
      exact ⟨by rw [hres], by rw [hres], rfl⟩

set_option maxHeartbeats 4000000 in
theorem xc_watched (lQ : Launch) (G : wm_G) (o d0 : Nat) (X : mm_S) (E : mm_E) (D : xg) (s : Int32) (p : Int32) (hw0 : 0 ≤ (fd_ X 45).toInt) (hw1 : (fd_ X 45).toInt ≤ 3) : xw_Met lQ G o d0 yX0_watched (ws_ yX0_watched cX0_watched 3 (some .int)) 1 X E D [Value.ref o, .int s, .int p] (some (.int (xf_watched X s p))) X E := by
  refine xw_start (own := RX0) (by decide +kernel) (Nat.le_of_ble_eq_true rfl) rfl (fun pQ eQ sQ mQ belowQ methQ cQ hx hb hml hr hlocks hts hown hK hN H hW hS ls hl => ?_)
  have hl : lv_has ls 3 [(0, .ref o), (1, .int s), (2, .int p)] := hl
  generalize hlc : ([] : List Loc) = locs at hS ⊢
  refine lv_iload_n hx hb dX0_watched_0 rfl (lv_at hl 1 rfl) ?_
  refine lv_i2l (v := (s).toInt64) hx hb dX0_watched_1 rfl ?_
  refine lv_lconst (v := 0) hx hb dX0_watched_2 (by decide) ?_
  refine lv_ldc2 (v := 2) hx hb hown (hts _ q514) dX0_watched_3 ?_
  refine xx_within (rest := []) s 0 2 ⟨hx, hb, hml, hown, hts⟩ rfl (by decide) (by decide) q459 hl.1 rfl rfl (Nat.le_of_ble_eq_true rfl) rfl rfl ⟨Nat.le_of_ble_eq_true rfl, Nat.le_of_ble_eq_true rfl⟩ dX0_watched_6 (fun v6 e6 => ?_)
  refine lv_if_eq (tgt := 44) hx hb dX0_watched_9 (by decide) (fun c9 => ?_) (fun c9 => ?_)
  · skip
    refine lv_iconst (v := (-1)) hx hb dX0_watched_44 (by decide) ?_
    refine xw_iret hx hb hr hlocks hW hS ?_ dX0_watched_45
    have hres : xf_watched X s p = (-1) := by subst e6; simp only [xf_watched, if_pos c9]
    exact ⟨by rw [hres], rfl, rfl⟩
  · skip
    obtain ⟨s0, s1⟩ := ff_in_t (v := s) (a := 0) (b := 2) (by rw [← e6]; exact c9)
    have s0 : 0 ≤ s.toInt := s0
    have s1 : s.toInt ≤ 2 := s1
    refine lv_iload_n hx hb dX0_watched_12 rfl (lv_at hl 2 rfl) ?_
    refine lv_i2l (v := (p).toInt64) hx hb dX0_watched_13 rfl ?_
    refine lv_lconst (v := 0) hx hb dX0_watched_14 (by decide) ?_
    refine lv_aload_n hx hb dX0_watched_15 rfl (lv_at hl 0 rfl) ?_
    refine xx_geti hx hb hts hown hK hW 45 rfl rfl (by decide) (by decide) q318 dX0_watched_16 ?_
    refine lv_iconst (v := 1) hx hb dX0_watched_19 (by decide) ?_
    refine nv_isub hx hb dX0_watched_20 (fun v20 e20 => ?_)
    refine lv_i2l (v := (v20).toInt64) hx hb dX0_watched_21 rfl ?_
    refine xx_within (rest := []) p 0 v20 ⟨hx, hb, hml, hown, hts⟩ rfl (by decide) rfl q459 hl.1 rfl rfl (Nat.le_of_ble_eq_true rfl) rfl rfl ⟨Nat.le_of_ble_eq_true rfl, Nat.le_of_ble_eq_true rfl⟩ dX0_watched_22 (fun v22 e22 => ?_)
    refine lv_if_eq (tgt := 44) hx hb dX0_watched_25 (by decide) (fun c25 => ?_) (fun c25 => ?_)
    · skip
      refine lv_iconst (v := (-1)) hx hb dX0_watched_44 (by decide) ?_
      refine xw_iret hx hb hr hlocks hW hS ?_ dX0_watched_45
      have hres : xf_watched X s p = (-1) := by subst e6 e20 e22; simp only [xf_watched, if_neg c9, if_pos c25]
      exact ⟨by rw [hres], rfl, rfl⟩
    · skip
      obtain ⟨p0, p1⟩ := ff_in_t (v := p) (a := 0) (b := fd_ X 45 - 1) (by rw [← e20, ← e22]; exact c25)
      have p0 : 0 ≤ p.toInt := p0
      rw [ww_sub1 (by omega)] at p1
      refine lv_aload_n hx hb dX0_watched_28 rfl (lv_at hl 0 rfl) ?_
      refine xx_geta hx hb hts hown hK hW 44 rfl q317 dX0_watched_29 ?_
      refine lv_iload_n hx hb dX0_watched_32 rfl (lv_at hl 1 rfl) ?_
      refine lv_aload_n hx hb dX0_watched_33 rfl (lv_at hl 0 rfl) ?_
      refine xx_geti hx hb hts hown hK hW 45 rfl rfl (by decide) (by decide) q318 dX0_watched_34 ?_
      refine nv_imul hx hb dX0_watched_37 (fun v37 e37 => ?_)
      refine lv_iload_n hx hb dX0_watched_38 rfl (lv_at hl 2 rfl) ?_
      refine nv_iadd hx hb dX0_watched_39 (fun v39 e39 => ?_)
      refine xx_iald hx hb hK hW 44 rfl (by rw [e39, e37]; exact ix_9' hw1 s0 s1 p0 (by omega)) dX0_watched_40 ?_
      refine lv_goto (tgt := 45) hx hb dX0_watched_41 (by decide) ?_
      refine xw_iret hx hb hr hlocks hW hS ?_ dX0_watched_45
      have hres : xf_watched X s p = (rd_ X 44 v39) := by subst e6 e20 e22 e37 e39; simp only [xf_watched, if_neg c9, if_neg c25]
      exact ⟨by rw [hres], rfl, rfl⟩

set_option maxHeartbeats 4000000 in
theorem xc_aim (lQ : Launch) (G : wm_G) (o d0 : Nat) (X : mm_S) (E : mm_E) (D : xg) (c : Int32) (v : Int32) (hA : xv_A X) : xw_Met lQ G o d0 yX0_aim (ws_ yX0_aim cX0_aim 3 (some .int)) 1 X E D [Value.ref o, .int c, .int v] (some (.int (xf_aim X c v).1)) (xf_aim X c v).2 E := by
  refine xw_start (own := RX0) (by decide +kernel) (Nat.le_of_ble_eq_true rfl) rfl (fun pQ eQ sQ mQ belowQ methQ cQ hx hb hml hr hlocks hts hown hK hN H hW hS ls hl => ?_)
  have hl : lv_has ls 3 [(0, .ref o), (1, .int c), (2, .int v)] := hl
  generalize hlc : ([] : List Loc) = locs at hS ⊢
  refine lv_iload_n hx hb dX0_aim_0 rfl (lv_at hl 1 rfl) ?_
  refine lv_i2l (v := (c).toInt64) hx hb dX0_aim_1 rfl ?_
  refine lv_lconst (v := 0) hx hb dX0_aim_2 (by decide) ?_
  refine lv_ldc2 (v := 31) hx hb hown (hts _ q1276) dX0_aim_3 ?_
  refine xx_within (rest := []) c 0 31 ⟨hx, hb, hml, hown, hts⟩ rfl (by decide) (by decide) q459 hl.1 rfl rfl (Nat.le_of_ble_eq_true rfl) rfl rfl ⟨Nat.le_of_ble_eq_true rfl, Nat.le_of_ble_eq_true rfl⟩ dX0_aim_6 (fun v6 e6 => ?_)
  refine lv_if_eq (tgt := 24) hx hb dX0_aim_9 (by decide) (fun c9 => ?_) (fun c9 => ?_)
  · skip
    refine lv_iconst (v := (-1)) hx hb dX0_aim_24 (by decide) ?_
    refine xw_iret hx hb hr hlocks hW hS ?_ dX0_aim_25
    have hres : xf_aim X c v = ((-1), X) := by subst e6; simp only [xf_aim, xf_am_1, xf_am_2, xf_am_3, if_pos c9]
    exact ⟨by rw [hres], by rw [hres], rfl⟩
  · skip
    refine lv_iload_n hx hb dX0_aim_12 rfl (lv_at hl 2 rfl) ?_
    refine lv_i2l (v := (v).toInt64) hx hb dX0_aim_13 rfl ?_
    refine lv_lconst (v := 0) hx hb dX0_aim_14 (by decide) ?_
    refine lv_ldc2 (v := 9) hx hb hown (hts _ q462) dX0_aim_15 ?_
    refine xx_within (rest := []) v 0 9 ⟨hx, hb, hml, hown, hts⟩ rfl (by decide) (by decide) q459 hl.1 rfl rfl (Nat.le_of_ble_eq_true rfl) rfl rfl ⟨Nat.le_of_ble_eq_true rfl, Nat.le_of_ble_eq_true rfl⟩ dX0_aim_18 (fun v18 e18 => ?_)
    refine lv_if_ne (tgt := 26) hx hb dX0_aim_21 (by decide) (fun c21 => ?_) (fun c21 => ?_)
    · skip
      refine lv_aload_n hx hb dX0_aim_26 rfl (lv_at hl 0 rfl) ?_
      refine xx_geti hx hb hts hown hK hW 48 rfl rfl (by decide) (by decide) q321 dX0_aim_27 ?_
      refine lv_bipush (v := 6) hx hb dX0_aim_30 (by decide) ?_
      refine lv_icmp_ne (tgt := 38) hx hb dX0_aim_32 (by decide) (fun c32 => ?_) (fun c32 => ?_)
      · skip
        have hlt : (fd_ X 48).toInt < 6 := by
          have q1 := ww_ne c32
          have q2 := hA.2
          have q3 : (6 : Int32).toInt = 6 := by decide
          omega
        have hge := hA.1
        refine lv_aload_n hx hb dX0_aim_38 rfl (lv_at hl 0 rfl) ?_
        refine xx_geta hx hb hts hown hK hW 46 rfl q319 dX0_aim_39 ?_
        refine lv_aload_n hx hb dX0_aim_42 rfl (lv_at hl 0 rfl) ?_
        refine xx_geti hx hb hts hown hK hW 48 rfl rfl (by decide) (by decide) q321 dX0_aim_43 ?_
        refine lv_iload_n hx hb dX0_aim_46 rfl (lv_at hl 1 rfl) ?_
        refine xx_iast hx hb hK hW hS 46 rfl (ww_in hge hlt) dX0_aim_47 (fun X47 H locs f47 hW hS => ?_)
        refine lv_aload_n hx hb dX0_aim_48 rfl (lv_at hl 0 rfl) ?_
        refine xx_geta hx hb hts hown hK hW 47 rfl q320 dX0_aim_49 ?_
        refine lv_aload_n hx hb dX0_aim_52 rfl (lv_at hl 0 rfl) ?_
        refine xx_geti hx hb hts hown hK hW 48 rfl rfl (by decide) (by decide) q321 dX0_aim_53 ?_
        refine lv_iload_n hx hb dX0_aim_56 rfl (lv_at hl 2 rfl) ?_
        refine xx_iast hx hb hK hW hS 47 rfl (by rw [f47, fd_wn (by decide)]; exact ww_in hge hlt) dX0_aim_57 (fun X57 H locs f57 hW hS => ?_)
        refine lv_aload_n hx hb dX0_aim_58 rfl (lv_at hl 0 rfl) ?_
        refine lv_dup hx hb dX0_aim_59 rfl ?_
        refine xx_geti hx hb hts hown hK hW 48 rfl rfl (by decide) (by decide) q321 dX0_aim_60 ?_
        refine lv_iconst (v := 1) hx hb dX0_aim_63 (by decide) ?_
        refine nv_iadd hx hb dX0_aim_64 (fun v64 e64 => ?_)
        refine lv_dup_x1 hx hb dX0_aim_65 rfl rfl ?_
        refine xx_puti hx hb hts hown hK hW hS 48 rfl rfl (by decide) (by decide) (by decide) rfl rfl rfl q321 dX0_aim_66 (fun X66 H locs f66 hW hS => ?_)
        refine xw_iret hx hb hr hlocks hW hS ?_ dX0_aim_69
        have hres : xf_aim X c v = (v64, X66) := by subst e6 e18 f47 f57 e64 f66; simp only [xf_aim, xf_am_1, xf_am_2, xf_am_3, if_neg c9, if_neg c21, if_neg c32]
        exact ⟨by rw [hres], by rw [hres], rfl⟩
      · skip
        refine lv_bipush (v := (-3)) hx hb dX0_aim_35 (by decide) ?_
        refine xw_iret hx hb hr hlocks hW hS ?_ dX0_aim_37
        have hres : xf_aim X c v = ((-3), X) := by subst e6 e18; simp only [xf_aim, xf_am_1, xf_am_2, xf_am_3, if_neg c9, if_neg c21, if_pos c32]
        exact ⟨by rw [hres], by rw [hres], rfl⟩
    · skip
      refine lv_iconst (v := (-1)) hx hb dX0_aim_24 (by decide) ?_
      refine xw_iret hx hb hr hlocks hW hS ?_ dX0_aim_25
      have hres : xf_aim X c v = ((-1), X) := by subst e6 e18; simp only [xf_aim, xf_am_1, xf_am_2, xf_am_3, if_neg c9, if_pos c21]
      exact ⟨by rw [hres], by rw [hres], rfl⟩

set_option maxHeartbeats 4000000 in
theorem xc_rock (lQ : Launch) (G : wm_G) (o d0 : Nat) (X : mm_S) (E : mm_E) (D : xg) (r : Int32) (i : Int32) (v : Int32) : xw_Met lQ G o d0 yX0_rock (ws_ yX0_rock cX0_rock 5 (some .int)) 1 X E D [Value.ref o, .int r, .int i, .int v] (some (.int (xf_rock X r i v).1)) (xf_rock X r i v).2 E := by
  refine xw_start (own := RX0) (by decide +kernel) (Nat.le_of_ble_eq_true rfl) rfl (fun pQ eQ sQ mQ belowQ methQ cQ hx hb hml hr hlocks hts hown hK hN H hW hS ls hl => ?_)
  have hl : lv_has ls 5 [(0, .ref o), (1, .int r), (2, .int i), (3, .int v)] := hl
  generalize hlc : ([] : List Loc) = locs at hS ⊢
  refine lv_iload_n hx hb dX0_rock_0 rfl (lv_at hl 1 rfl) ?_
  refine lv_i2l (v := (r).toInt64) hx hb dX0_rock_1 rfl ?_
  refine lv_lconst (v := 0) hx hb dX0_rock_2 (by decide) ?_
  refine lv_ldc2 (v := 3) hx hb hown (hts _ q1267) dX0_rock_3 ?_
  refine xx_within (rest := []) r 0 3 ⟨hx, hb, hml, hown, hts⟩ rfl (by decide) (by decide) q459 hl.1 rfl rfl (Nat.le_of_ble_eq_true rfl) rfl rfl ⟨Nat.le_of_ble_eq_true rfl, Nat.le_of_ble_eq_true rfl⟩ dX0_rock_6 (fun v6 e6 => ?_)
  refine lv_if_eq (tgt := 36) hx hb dX0_rock_9 (by decide) (fun c9 => ?_) (fun c9 => ?_)
  · skip
    refine lv_iconst (v := (-1)) hx hb dX0_rock_36 (by decide) ?_
    refine xw_iret hx hb hr hlocks hW hS ?_ dX0_rock_37
    have hres : xf_rock X r i v = ((-1), X) := by subst e6; simp only [xf_rock, if_pos c9]
    exact ⟨by rw [hres], by rw [hres], rfl⟩
  · skip
    obtain ⟨r0, r1⟩ := ff_in_t (v := r) (a := 0) (b := 3) (by rw [← e6]; exact c9)
    have r0 : 0 ≤ r.toInt := r0
    have r1 : r.toInt ≤ 3 := r1
    refine lv_iload_n hx hb dX0_rock_12 rfl (lv_at hl 2 rfl) ?_
    refine lv_i2l (v := (i).toInt64) hx hb dX0_rock_13 rfl ?_
    refine lv_lconst (v := 0) hx hb dX0_rock_14 (by decide) ?_
    refine lv_ldc2 (v := 5) hx hb hown (hts _ q515) dX0_rock_15 ?_
    refine xx_within (rest := []) i 0 5 ⟨hx, hb, hml, hown, hts⟩ rfl (by decide) (by decide) q459 hl.1 rfl rfl (Nat.le_of_ble_eq_true rfl) rfl rfl ⟨Nat.le_of_ble_eq_true rfl, Nat.le_of_ble_eq_true rfl⟩ dX0_rock_18 (fun v18 e18 => ?_)
    refine lv_if_eq (tgt := 36) hx hb dX0_rock_21 (by decide) (fun c21 => ?_) (fun c21 => ?_)
    · skip
      refine lv_iconst (v := (-1)) hx hb dX0_rock_36 (by decide) ?_
      refine xw_iret hx hb hr hlocks hW hS ?_ dX0_rock_37
      have hres : xf_rock X r i v = ((-1), X) := by subst e6 e18; simp only [xf_rock, if_neg c9, if_pos c21]
      exact ⟨by rw [hres], by rw [hres], rfl⟩
    · skip
      obtain ⟨i0, i1⟩ := ff_in_t (v := i) (a := 0) (b := 5) (by rw [← e18]; exact c21)
      have i0 : 0 ≤ i.toInt := i0
      have i1 : i.toInt ≤ 5 := i1
      refine lv_iload_n hx hb dX0_rock_24 rfl (lv_at hl 3 rfl) ?_
      refine lv_i2l (v := (v).toInt64) hx hb dX0_rock_25 rfl ?_
      refine lv_lconst (v := 1) hx hb dX0_rock_26 (by decide) ?_
      refine lv_ldc2 (v := 9) hx hb hown (hts _ q462) dX0_rock_27 ?_
      refine xx_within (rest := []) v 1 9 ⟨hx, hb, hml, hown, hts⟩ rfl (by decide) (by decide) q459 hl.1 rfl rfl (Nat.le_of_ble_eq_true rfl) rfl rfl ⟨Nat.le_of_ble_eq_true rfl, Nat.le_of_ble_eq_true rfl⟩ dX0_rock_30 (fun v30 e30 => ?_)
      refine lv_if_ne (tgt := 38) hx hb dX0_rock_33 (by decide) (fun c33 => ?_) (fun c33 => ?_)
      · skip
        refine lv_aload_n hx hb dX0_rock_38 rfl (lv_at hl 0 rfl) ?_
        refine xx_geta hx hb hts hown hK hW 49 rfl q322 dX0_rock_39 ?_
        refine lv_iload_n hx hb dX0_rock_42 rfl (lv_at hl 1 rfl) ?_
        refine lv_bipush (v := 6) hx hb dX0_rock_43 (by decide) ?_
        refine nv_imul hx hb dX0_rock_45 (fun v45 e45 => ?_)
        refine lv_iload_n hx hb dX0_rock_46 rfl (lv_at hl 2 rfl) ?_
        refine nv_iadd hx hb dX0_rock_47 (fun v47 e47 => ?_)
        refine xx_iald hx hb hK hW 49 rfl (by rw [e47, e45]; exact ix_6' r0 r1 i0 i1) dX0_rock_48 ?_
        refine lv_istore (lv' := [(4, .int (rd_ X 49 v47)), (0, .ref o), (1, .int r), (2, .int i), (3, .int v)]) hx hb dX0_rock_49 hl (by decide) rfl (fun ls hl => ?_)
        refine lv_aload_n hx hb dX0_rock_51 rfl (lv_at hl 1 rfl) ?_
        refine xx_geta hx hb hts hown hK hW 49 rfl q322 dX0_rock_52 ?_
        refine lv_iload_n hx hb dX0_rock_55 rfl (lv_at hl 2 rfl) ?_
        refine lv_bipush (v := 6) hx hb dX0_rock_56 (by decide) ?_
        refine nv_imul hx hb dX0_rock_58 (fun v58 e58 => ?_)
        refine lv_iload_n hx hb dX0_rock_59 rfl (lv_at hl 3 rfl) ?_
        refine nv_iadd hx hb dX0_rock_60 (fun v60 e60 => ?_)
        refine lv_iload_n hx hb dX0_rock_61 rfl (lv_at hl 4 rfl) ?_
        refine xx_iast hx hb hK hW hS 49 rfl (by rw [e60, e58]; exact ix_6' r0 r1 i0 i1) dX0_rock_62 (fun X62 H locs f62 hW hS => ?_)
        refine lv_iload hx hb dX0_rock_63 (lv_at hl 0 rfl) ?_
        refine xw_iret hx hb hr hlocks hW hS ?_ dX0_rock_65
        have hres : xf_rock X r i v = ((rd_ X 49 v47), X62) := by subst e6 e18 e30 e45 e47 e58 e60 f62; simp only [xf_rock, if_neg c9, if_neg c21, if_neg c33]
        exact ⟨by rw [hres], by rw [hres], rfl⟩
      · skip
        refine lv_iconst (v := (-1)) hx hb dX0_rock_36 (by decide) ?_
        refine xw_iret hx hb hr hlocks hW hS ?_ dX0_rock_37
        have hres : xf_rock X r i v = ((-1), X) := by subst e6 e18 e30; simp only [xf_rock, if_neg c9, if_neg c21, if_pos c33]
        exact ⟨by rw [hres], by rw [hres], rfl⟩

set_option maxHeartbeats 4000000 in
theorem xc_takes (lQ : Launch) (G : wm_G) (o d0 : Nat) (X : mm_S) (E : mm_E) (D : xg) (i : Int32) (m : Int32) (r : Int32) (y : Int32) (i0 : 0 ≤ i.toInt) (i1 : i.toInt ≤ 5) (m0 : 0 ≤ m.toInt) (m1 : m.toInt ≤ 2) (r0 : 1 ≤ r.toInt) (r1 : r.toInt ≤ 4) : xw_Met lQ G o d0 yX0_takes (ws_ yX0_takes cX0_takes 7 (some .int)) 1 X E D [Value.ref o, .int i, .int m, .int r, .int y] (some (.int (xf_takes X i m r y))) X E := by
  refine xw_start (own := RX0) (by decide +kernel) (Nat.le_of_ble_eq_true rfl) rfl (fun pQ eQ sQ mQ belowQ methQ cQ hx hb hml hr hlocks hts hown hK hN H hW hS ls hl => ?_)
  have hl : lv_has ls 7 [(0, .ref o), (1, .int i), (2, .int m), (3, .int r), (4, .int y)] := hl
  generalize hlc : ([] : List Loc) = locs at hS ⊢
  refine lv_iconst (v := 0) hx hb dX0_takes_0 (by decide) ?_
  refine lv_istore (lv' := [(5, .int 0), (0, .ref o), (1, .int i), (2, .int m), (3, .int r), (4, .int y)]) hx hb dX0_takes_1 hl (by decide) rfl (fun ls hl => ?_)
  refine lv_iconst (v := 0) hx hb dX0_takes_3 (by decide) ?_
  refine lv_istore (lv' := [(6, .int 0), (5, .int 0), (0, .ref o), (1, .int i), (2, .int m), (3, .int r), (4, .int y)]) hx hb dX0_takes_4 hl (by decide) rfl (fun ls hl => ?_)
  have L6 : ∀ (fu6 : Nat) (w : Int32) (k : Int32), (r.toInt - k.toInt < fu6) → (0 ≤ k.toInt) → (k.toInt ≤ r.toInt) → (xf_tk_go fu6 X i m r y w k = xf_takes X i m r y) → ∀ ls : Array Slot, lv_has ls 7 [(6, .int k), (5, .int w), (0, .ref o), (1, .int i), (2, .int m), (3, .int r), (4, .int y)] → W pQ lQ eQ (wm_rm 1) sQ mQ ([Value.ref o, .int i, .int m, .int r, .int y] : List Value).toArray belowQ methQ cQ H locs 0 0 (MQ belowQ (wm_Q (fun vQ HQ => vQ = some (.int (xf_takes X i m r y)) ∧ xx_W G o d0 X E D HQ) (xx_F o d0)) ([Value.ref o, .int i, .int m, .int r, .int y] : List Value).toArray sQ 0 0 (xx_F o d0)) (F0 mQ 6 ls []) := by
    intro fu6
    induction fu6 with
    | zero =>
      intro w k hm6 k06 k16 hgo6 ls hl
      exact absurd hm6 (by omega)
    | succ fu6 ih6 =>
      intro w k hm6 k06 k16 hgo6 ls hl
      refine lv_iload hx hb dX0_takes_6 (lv_at hl 0 rfl) ?_
      refine lv_iload_n hx hb dX0_takes_8 rfl (lv_at hl 5 rfl) ?_
      refine lv_icmp_ge (tgt := 37) hx hb dX0_takes_9 (by decide) (fun c9 => ?_) (fun c9 => ?_)
      · have t9 : (r).toInt ≤ (k).toInt := ww_le c9
        refine lv_aload_n hx hb dX0_takes_37 rfl (lv_at hl 2 rfl) ?_
        refine xx_geta hx hb hts hown hK hW 47 rfl q320 dX0_takes_38 ?_
        refine lv_iload_n hx hb dX0_takes_41 rfl (lv_at hl 3 rfl) ?_
        refine xx_iald hx hb hK hW 47 rfl (ww_in (by omega) (by omega)) dX0_takes_42 ?_
        refine lv_iconst (v := 1) hx hb dX0_takes_43 (by decide) ?_
        refine nv_iadd hx hb dX0_takes_44 (fun v44 e44 => ?_)
        refine lv_iload hx hb dX0_takes_45 (lv_at hl 6 rfl) ?_
        refine nv_imul hx hb dX0_takes_47 (fun v47 e47 => ?_)
        refine lv_aload_n hx hb dX0_takes_48 rfl (lv_at hl 2 rfl) ?_
        refine xx_geta hx hb hts hown hK hW 8 rfl q277 dX0_takes_49 ?_
        refine lv_iload_n hx hb dX0_takes_52 rfl (lv_at hl 4 rfl) ?_
        refine xx_iald hx hb hK hW 8 rfl (ww_in (by omega) (by omega)) dX0_takes_53 ?_
        refine nv_imul hx hb dX0_takes_54 (fun v54 e54 => ?_)
        refine lv_iload hx hb dX0_takes_55 (lv_at hl 1 rfl) ?_
        refine nv_imul hx hb dX0_takes_57 (fun v57 e57 => ?_)
        refine xw_iret hx hb hr hlocks hW hS ?_ dX0_takes_58
        have hres : xf_takes X i m r y = v57 := by rw [← hgo6]; subst e44 e47 e54 e57; simp only [xf_tk_go, if_pos c9]
        exact ⟨by rw [hres], rfl, rfl⟩
      · have t9 : (k).toInt < (r).toInt := ww_nle c9
        refine lv_iload hx hb dX0_takes_12 (lv_at hl 1 rfl) ?_
        refine lv_aload_n hx hb dX0_takes_14 rfl (lv_at hl 2 rfl) ?_
        refine xx_geta hx hb hts hown hK hW 49 rfl q322 dX0_takes_15 ?_
        refine lv_iload hx hb dX0_takes_18 (lv_at hl 0 rfl) ?_
        refine lv_bipush (v := 6) hx hb dX0_takes_20 (by decide) ?_
        refine nv_imul hx hb dX0_takes_22 (fun v22 e22 => ?_)
        refine lv_iload_n hx hb dX0_takes_23 rfl (lv_at hl 3 rfl) ?_
        refine nv_iadd hx hb dX0_takes_24 (fun v24 e24 => ?_)
        refine xx_iald hx hb hK hW 49 rfl (by rw [e24, e22]; exact ix_6' (by omega) (by omega) i0 i1) dX0_takes_25 ?_
        refine pp_calli (As := [.int w, .int (rd_ X 49 v24)]) (rest := []) (n := 2) ⟨hx, hb, hml, hown, hts⟩ (xc_max lQ w (rd_ X 49 v24)) (lw_S q866 q867 q101 q868) (by decide +kernel) rfl ⟨Nat.le_of_ble_eq_true rfl, Nat.le_of_ble_eq_true rfl⟩ hl.1 rfl (Nat.le_of_ble_eq_true rfl) dX0_takes_26 ⟨Nat.le_of_ble_eq_true rfl, Nat.le_of_ble_eq_true rfl⟩ (fun v26 e26 => ?_)
        refine lv_istore (lv' := [(5, .int v26), (6, .int k), (0, .ref o), (1, .int i), (2, .int m), (3, .int r), (4, .int y)]) hx hb dX0_takes_29 hl (by decide) rfl (fun ls hl => ?_)
        obtain ⟨v31, e31⟩ : ∃ yQ : Int32, yQ = k + 1 := ⟨_, rfl⟩
        refine lv_iinc (v := v31) (lv' := [(6, .int v31), (5, .int v26), (0, .ref o), (1, .int i), (2, .int m), (3, .int r), (4, .int y)]) hx hb dX0_takes_31 hl (k := 1) rfl (by rw [e31]; rfl) (by decide) rfl (fun ls hl => ?_)
        refine lv_goto (tgt := 6) hx hb dX0_takes_34 (by decide) ?_
        have tb : v31.toInt = k.toInt + 1 := by rw [e31]; exact ww_inc t9
        exact ih6 v26 v31 (by omega) (by omega) (by omega) (by subst e22 e24 e26 e31; simp only [xf_tk_go, if_neg c9] at hgo6; exact hgo6) ls (lv_sub hl [0, 1, 2, 3, 4, 5, 6] rfl)
  exact L6 5 0 0 (by show _ - 0 < (5 : Int); omega) (by decide) (by show 0 ≤ _; omega) (rfl) ls (lv_sub hl [0, 1, 2, 3, 4, 5, 6] rfl)

set_option maxHeartbeats 4000000 in
theorem xc_aimed (lQ : Launch) (G : wm_G) (o d0 : Nat) (X : mm_S) (E : mm_E) (D : xg) (r : Int32) (y : Int32) (k : Int32) (hA : xv_A X) : xw_Met lQ G o d0 yX0_aimed (ws_ yX0_aimed cX0_aimed 10 (some .int)) 2 X E D [Value.ref o, .int r, .int y, .int k] (some (.int (xf_aimed X r y k).1)) (xf_aimed X r y k).2 E := by
  refine xw_start (own := RX0) (by decide +kernel) (Nat.le_of_ble_eq_true rfl) rfl (fun pQ eQ sQ mQ belowQ methQ cQ hx hb hml hr hlocks hts hown hK hN H hW hS ls hl => ?_)
  have hl : lv_has ls 10 [(0, .ref o), (1, .int r), (2, .int y), (3, .int k)] := hl
  generalize hlc : ([] : List Loc) = locs at hS ⊢
  refine lv_iload_n hx hb dX0_aimed_0 rfl (lv_at hl 1 rfl) ?_
  refine lv_i2l (v := (r).toInt64) hx hb dX0_aimed_1 rfl ?_
  refine lv_lconst (v := 1) hx hb dX0_aimed_2 (by decide) ?_
  refine lv_ldc2 (v := 4) hx hb hown (hts _ q912) dX0_aimed_3 ?_
  refine xx_within (rest := []) r 1 4 ⟨hx, hb, hml, hown, hts⟩ rfl (by decide) (by decide) q459 hl.1 rfl rfl (Nat.le_of_ble_eq_true rfl) rfl rfl ⟨Nat.le_of_ble_eq_true rfl, Nat.le_of_ble_eq_true rfl⟩ dX0_aimed_6 (fun v6 e6 => ?_)
  refine lv_if_eq (tgt := 43) hx hb dX0_aimed_9 (by decide) (fun c9 => ?_) (fun c9 => ?_)
  · skip
    refine lv_iconst (v := (-1)) hx hb dX0_aimed_43 (by decide) ?_
    refine xw_iret hx hb hr hlocks hW hS ?_ dX0_aimed_44
    have hres : xf_aimed X r y k = ((-1), X) := by subst e6; simp only [xf_aimed, if_pos c9]
    exact ⟨by rw [hres], by rw [hres], rfl⟩
  · skip
    obtain ⟨r0, r1⟩ := ff_in_t (v := r) (a := 1) (b := 4) (by rw [← e6]; exact c9)
    have r0 : 1 ≤ r.toInt := r0
    have r1 : r.toInt ≤ 4 := r1
    refine lv_iload_n hx hb dX0_aimed_12 rfl (lv_at hl 2 rfl) ?_
    refine lv_i2l (v := (y).toInt64) hx hb dX0_aimed_13 rfl ?_
    refine lv_lconst (v := 1) hx hb dX0_aimed_14 (by decide) ?_
    refine lv_ldc2 (v := 60) hx hb hown (hts _ q458) dX0_aimed_15 ?_
    refine xx_within (rest := []) y 1 60 ⟨hx, hb, hml, hown, hts⟩ rfl (by decide) (by decide) q459 hl.1 rfl rfl (Nat.le_of_ble_eq_true rfl) rfl rfl ⟨Nat.le_of_ble_eq_true rfl, Nat.le_of_ble_eq_true rfl⟩ dX0_aimed_18 (fun v18 e18 => ?_)
    refine lv_if_eq (tgt := 43) hx hb dX0_aimed_21 (by decide) (fun c21 => ?_) (fun c21 => ?_)
    · skip
      refine lv_iconst (v := (-1)) hx hb dX0_aimed_43 (by decide) ?_
      refine xw_iret hx hb hr hlocks hW hS ?_ dX0_aimed_44
      have hres : xf_aimed X r y k = ((-1), X) := by subst e6 e18; simp only [xf_aimed, if_neg c9, if_pos c21]
      exact ⟨by rw [hres], by rw [hres], rfl⟩
    · skip
      refine lv_iload_n hx hb dX0_aimed_24 rfl (lv_at hl 3 rfl) ?_
      refine lv_i2l (v := (k).toInt64) hx hb dX0_aimed_25 rfl ?_
      refine lv_lconst (v := 1) hx hb dX0_aimed_26 (by decide) ?_
      refine lv_ldc2 (v := 2) hx hb hown (hts _ q514) dX0_aimed_27 ?_
      refine xx_within (rest := []) k 1 2 ⟨hx, hb, hml, hown, hts⟩ rfl (by decide) (by decide) q459 hl.1 rfl rfl (Nat.le_of_ble_eq_true rfl) rfl rfl ⟨Nat.le_of_ble_eq_true rfl, Nat.le_of_ble_eq_true rfl⟩ dX0_aimed_30 (fun v30 e30 => ?_)
      refine lv_if_eq (tgt := 43) hx hb dX0_aimed_33 (by decide) (fun c33 => ?_) (fun c33 => ?_)
      · skip
        refine lv_iconst (v := (-1)) hx hb dX0_aimed_43 (by decide) ?_
        refine xw_iret hx hb hr hlocks hW hS ?_ dX0_aimed_44
        have hres : xf_aimed X r y k = ((-1), X) := by subst e6 e18 e30; simp only [xf_aimed, if_neg c9, if_neg c21, if_pos c33]
        exact ⟨by rw [hres], by rw [hres], rfl⟩
      · skip
        refine lv_aload_n hx hb dX0_aimed_36 rfl (lv_at hl 0 rfl) ?_
        refine xx_geti hx hb hts hown hK hW 48 rfl rfl (by decide) (by decide) q321 dX0_aimed_37 ?_
        refine lv_if_ne (tgt := 45) hx hb dX0_aimed_40 (by decide) (fun c40 => ?_) (fun c40 => ?_)
        · skip
          refine lv_iload_n hx hb dX0_aimed_45 rfl (lv_at hl 3 rfl) ?_
          refine lv_aload_n hx hb dX0_aimed_46 rfl (lv_at hl 0 rfl) ?_
          refine xx_geti hx hb hts hown hK hW 48 rfl rfl (by decide) (by decide) q321 dX0_aimed_47 ?_
          refine lv_icmp_le (tgt := 56) hx hb dX0_aimed_50 (by decide) (fun c50 => ?_) (fun c50 => ?_)
          · have t50 : (k).toInt ≤ ((fd_ X 48)).toInt := ww_le c50
            refine lv_ldcw (v := 2147483647) hx hb hown (hts _ q1250) dX0_aimed_56 ?_
            refine lv_istore (lv' := [(4, .int 2147483647), (0, .ref o), (1, .int r), (2, .int y), (3, .int k)]) hx hb dX0_aimed_59 hl (by decide) rfl (fun ls hl => ?_)
            refine lv_iconst (v := 0) hx hb dX0_aimed_61 (by decide) ?_
            refine lv_istore (lv' := [(5, .int 0), (4, .int 2147483647), (0, .ref o), (1, .int r), (2, .int y), (3, .int k)]) hx hb dX0_aimed_62 hl (by decide) rfl (fun ls hl => ?_)
            have L64 : ∀ (fu64 : Nat) (l1 : Int32) (p : Int32) (Y1 : mm_S) (H : Heap) (locs : List Loc), (6 - p.toInt < fu64) → (0 ≤ p.toInt) → (p.toInt ≤ 6) → (fr_ [50, 51] X Y1) → (xf_ap_go fu64 Y1 r y k l1 p = xf_ap_s X r y k) → xx_W G o d0 Y1 E D H → va_S (xx_F o d0) sQ.heap H locs → ∀ ls : Array Slot, lv_has ls 10 [(5, .int p), (4, .int l1), (0, .ref o), (1, .int r), (2, .int y), (3, .int k)] → W pQ lQ eQ (wm_rm 2) sQ mQ ([Value.ref o, .int r, .int y, .int k] : List Value).toArray belowQ methQ cQ H locs 0 0 (MQ belowQ (wm_Q (fun vQ HQ => vQ = some (.int (xf_aimed X r y k).1) ∧ xx_W G o d0 (xf_aimed X r y k).2 E D HQ) (xx_F o d0)) ([Value.ref o, .int r, .int y, .int k] : List Value).toArray sQ 0 0 (xx_F o d0)) (F0 mQ 64 ls []) := by
              intro fu64
              induction fu64 with
              | zero =>
                intro l1 p Y1 H locs hm64 p064 p164 iF64 hgo64 hW hS ls hl
                exact absurd hm64 (by omega)
              | succ fu64 ih64 =>
                intro l1 p Y1 H locs hm64 p064 p164 iF64 hgo64 hW hS ls hl
                have x48a : fd_ Y1 48 = fd_ X 48 := fd_of (iF64 48 (by decide))
                refine lv_iload hx hb dX0_aimed_64 (lv_at hl 0 rfl) ?_
                refine lv_aload_n hx hb dX0_aimed_66 rfl (lv_at hl 2 rfl) ?_
                refine xx_geti hx hb hts hown hK hW 48 rfl rfl (by decide) (by decide) q321 dX0_aimed_67 ?_
                refine lv_icmp_ge (tgt := 255) hx hb dX0_aimed_70 (by decide) (fun c70 => ?_) (fun c70 => ?_)
                · have t70 : ((fd_ Y1 48)).toInt ≤ (p).toInt := ww_le c70
                  have hz : (l1, fw_ (fw_ Y1 52 k) 48 0) = xf_ap_s X r y k := by rw [xf_ap_go, if_pos c70] at hgo64; exact hgo64
                  refine lv_aload_n hx hb dX0_aimed_255 rfl (lv_at hl 2 rfl) ?_
                  refine lv_iload_n hx hb dX0_aimed_256 rfl (lv_at hl 5 rfl) ?_
                  refine xx_puti hx hb hts hown hK hW hS 52 rfl rfl (by decide) (by decide) (by decide) rfl rfl rfl q325 dX0_aimed_257 (fun X257 H locs f257 hW hS => ?_)
                  refine lv_aload_n hx hb dX0_aimed_260 rfl (lv_at hl 2 rfl) ?_
                  refine lv_iconst (v := 0) hx hb dX0_aimed_261 (by decide) ?_
                  refine xx_puti hx hb hts hown hK hW hS 48 rfl rfl (by decide) (by decide) (by decide) rfl rfl rfl q321 dX0_aimed_262 (fun X262 H locs f262 hW hS => ?_)
                  refine lv_iload hx hb dX0_aimed_265 (lv_at hl 1 rfl) ?_
                  refine xw_iret hx hb hr hlocks hW hS ?_ dX0_aimed_267
                  have hres : xf_aimed X r y k = (l1, X262) := by
                    rw [f262, f257, hz]; subst e6 e18 e30 f257 f262; simp only [xf_aimed, if_neg c9, if_neg c21, if_neg c33, if_neg c40, if_pos c50, if_pos c70]
                  exact ⟨by rw [hres], by rw [hres], rfl⟩
                · have t70 : (p).toInt < ((fd_ Y1 48)).toInt := ww_nle c70
                  have hp48 := hA.2
                  rw [x48a] at t70
                  refine lv_iconst (v := 0) hx hb dX0_aimed_73 (by decide) ?_
                  refine lv_istore (lv' := [(6, .int 0), (5, .int p), (4, .int l1), (0, .ref o), (1, .int r), (2, .int y), (3, .int k)]) hx hb dX0_aimed_74 hl (by decide) rfl (fun ls hl => ?_)
                  have L76 : ∀ (fu76 : Nat) (l2 : Int32) (q : Int32) (Y2 : mm_S) (H : Heap) (locs : List Loc), (6 - q.toInt < fu76) → (0 ≤ q.toInt) → (q.toInt ≤ 6) → (fr_ [50, 51] X Y2) → (xf_aq_go fu76 Y2 r y k p l2 q = xf_aq_s Y1 r y k p l1) → xx_W G o d0 Y2 E D H → va_S (xx_F o d0) sQ.heap H locs → ∀ ls : Array Slot, lv_has ls 10 [(6, .int q), (5, .int p), (4, .int l2), (0, .ref o), (1, .int r), (2, .int y), (3, .int k)] → W pQ lQ eQ (wm_rm 2) sQ mQ ([Value.ref o, .int r, .int y, .int k] : List Value).toArray belowQ methQ cQ H locs 0 0 (MQ belowQ (wm_Q (fun vQ HQ => vQ = some (.int (xf_aimed X r y k).1) ∧ xx_W G o d0 (xf_aimed X r y k).2 E D HQ) (xx_F o d0)) ([Value.ref o, .int r, .int y, .int k] : List Value).toArray sQ 0 0 (xx_F o d0)) (F0 mQ 76 ls []) := by
                    intro fu76
                    induction fu76 with
                    | zero =>
                      intro l2 q Y2 H locs hm76 q076 q176 iF76 hgo76 hW hS ls hl
                      exact absurd hm76 (by omega)
                    | succ fu76 ih76 =>
                      intro l2 q Y2 H locs hm76 q076 q176 iF76 hgo76 hW hS ls hl
                      have x48 : fd_ Y2 48 = fd_ X 48 := fd_of (iF76 48 (by decide))
                      refine lv_iload hx hb dX0_aimed_76 (lv_at hl 0 rfl) ?_
                      refine wm_join (P := fun w91 : Int32 => w91 = (if k = 2 then fd_ Y2 48 else 1)) (j := 91) (rest := [.int q]) (ls := ls) (fun w91 ew91 => ?_) (fun J91 => ?_)
                      · skip
                        refine lv_icmp_ge (tgt := 249) hx hb dX0_aimed_91 (by decide) (fun c91 => ?_) (fun c91 => ?_)
                        · have t91 : (w91).toInt ≤ (q).toInt := ww_le c91
                          have g2 : (l2, Y2) = xf_aq_s Y1 r y k p l1 := by rw [xf_aq_go, if_pos (by rw [← ew91]; exact c91)] at hgo76; exact hgo76
                          have g21 : l2 = (xf_aq_s Y1 r y k p l1).1 := congrArg (fun zQ => zQ.1) g2
                          have g22 : Y2 = (xf_aq_s Y1 r y k p l1).2 := congrArg (fun zQ => zQ.2) g2
                          clear g2 hgo76
                          obtain ⟨v249, e249⟩ : ∃ yQ : Int32, yQ = p + 1 := ⟨_, rfl⟩
                          refine lv_iinc (v := v249) (lv' := [(5, .int v249), (6, .int q), (4, .int l2), (0, .ref o), (1, .int r), (2, .int y), (3, .int k)]) hx hb dX0_aimed_249 hl (k := 1) rfl (by rw [e249]; rfl) (by decide) rfl (fun ls hl => ?_)
                          refine lv_goto (tgt := 64) hx hb dX0_aimed_252 (by decide) ?_
                          have tb : v249.toInt = p.toInt + 1 := by rw [e249]; exact ww_inc' (by omega)
                          exact ih64 l2 v249 Y2 H locs (by omega) (by omega) (by omega) iF76 (by rw [e249, g21, g22]; rw [xf_ap_go, if_neg c70] at hgo64; exact hgo64) hW hS ls (lv_sub hl [0, 2, 3, 4, 5, 6] rfl)
                        · have t91 : (q).toInt < (w91).toInt := ww_nle c91
                          have q48 : k = 2 → q.toInt < 6 := by
                            intro k2
                            rw [ew91, if_pos k2, x48] at t91
                            have := hA.2
                            omega
                          have q6 : q.toInt < 6 := by
                            rw [ew91] at t91
                            have := hA.2
                            rw [x48] at t91
                            split at t91
                            · omega
                            · have z : (1 : Int32).toInt = 1 := by decide
                              omega
                          refine lv_iload_n hx hb dX0_aimed_94 rfl (lv_at hl 6 rfl) ?_
                          refine lv_iconst (v := 2) hx hb dX0_aimed_95 (by decide) ?_
                          refine lv_icmp_ne (tgt := 109) hx hb dX0_aimed_96 (by decide) (fun c96 => ?_) (fun c96 => ?_)
                          · skip
                            refine lv_iconst (v := 0) hx hb dX0_aimed_109 (by decide) ?_
                            refine lv_istore (lv' := [(7, .int 0), (6, .int q), (5, .int p), (4, .int l2), (0, .ref o), (1, .int r), (2, .int y), (3, .int k)]) hx hb dX0_aimed_110 hl (by decide) rfl (fun ls hl => ?_)
                            have L112 : ∀ (fu112 : Nat) (l3 : Int32) (m : Int32) (Y3 : mm_S) (H : Heap) (locs : List Loc), (3 - m.toInt < fu112) → (0 ≤ m.toInt) → (m.toInt ≤ 3) → (fr_ [50, 51] X Y3) → (xf_an_go fu112 Y3 r y k p q l3 m = xf_an_s Y2 r y k p q l2) → xx_W G o d0 Y3 E D H → va_S (xx_F o d0) sQ.heap H locs → ∀ ls : Array Slot, lv_has ls 10 [(7, .int m), (6, .int q), (5, .int p), (4, .int l3), (0, .ref o), (1, .int r), (2, .int y), (3, .int k)] → W pQ lQ eQ (wm_rm 2) sQ mQ ([Value.ref o, .int r, .int y, .int k] : List Value).toArray belowQ methQ cQ H locs 0 0 (MQ belowQ (wm_Q (fun vQ HQ => vQ = some (.int (xf_aimed X r y k).1) ∧ xx_W G o d0 (xf_aimed X r y k).2 E D HQ) (xx_F o d0)) ([Value.ref o, .int r, .int y, .int k] : List Value).toArray sQ 0 0 (xx_F o d0)) (F0 mQ 112 ls []) := by
                              intro fu112
                              induction fu112 with
                              | zero =>
                                intro l3 m Y3 H locs hm112 m0112 m1112 iF112 hgo112 hW hS ls hl
                                exact absurd hm112 (by omega)
                              | succ fu112 ih112 =>
                                intro l3 m Y3 H locs hm112 m0112 m1112 iF112 hgo112 hW hS ls hl
                                refine lv_iload hx hb dX0_aimed_112 (lv_at hl 0 rfl) ?_
                                refine lv_iconst (v := 3) hx hb dX0_aimed_114 (by decide) ?_
                                refine lv_icmp_ge (tgt := 243) hx hb dX0_aimed_115 (by decide) (fun c115 => ?_) (fun c115 => ?_)
                                · have t115 : 3 ≤ (m).toInt := ww_le c115
                                  have g3 : (l3, Y3) = xf_an_s Y2 r y k p q l2 := by rw [xf_an_go, if_pos c115] at hgo112; exact hgo112
                                  have g31 : l3 = (xf_an_s Y2 r y k p q l2).1 := congrArg (fun zQ => zQ.1) g3
                                  have g32 : Y3 = (xf_an_s Y2 r y k p q l2).2 := congrArg (fun zQ => zQ.2) g3
                                  clear g3 hgo112
                                  obtain ⟨v243, e243⟩ : ∃ yQ : Int32, yQ = q + 1 := ⟨_, rfl⟩
                                  refine lv_iinc (v := v243) (lv' := [(6, .int v243), (7, .int m), (5, .int p), (4, .int l3), (0, .ref o), (1, .int r), (2, .int y), (3, .int k)]) hx hb dX0_aimed_243 hl (k := 1) rfl (by rw [e243]; rfl) (by decide) rfl (fun ls hl => ?_)
                                  refine lv_goto (tgt := 76) hx hb dX0_aimed_246 (by decide) ?_
                                  have tb : v243.toInt = q.toInt + 1 := by rw [e243]; exact ww_inc' (by omega)
                                  exact ih76 l3 v243 Y3 H locs (by omega) (by omega) (by omega) (by first | exact iF112 | exact iF76) (by rw [xf_aq_go, if_neg (by rw [← ew91]; exact c91)] at hgo76; first | (rw [e243, g31, g32]; simp only [if_neg c96] at hgo76; exact hgo76) | (rw [e243, g31, g32]; simp only [if_pos c96, if_neg c103] at hgo76; exact hgo76) | (rw [e243]; simp only [if_pos c96, if_pos c103] at hgo76; exact hgo76)) hW hS ls (lv_sub hl [0, 2, 3, 4, 5, 6, 7] rfl)
                                · have t115 : (m).toInt < 3 := ww_nle c115
                                  refine lv_iload hx hb dX0_aimed_118 (lv_at hl 0 rfl) ?_
                                  refine lv_iconst (v := 1) hx hb dX0_aimed_120 (by decide) ?_
                                  refine nv_iadd hx hb dX0_aimed_121 (fun v121 e121 => ?_)
                                  refine lv_istore (lv' := [(8, .int v121), (7, .int m), (6, .int q), (5, .int p), (4, .int l3), (0, .ref o), (1, .int r), (2, .int y), (3, .int k)]) hx hb dX0_aimed_122 hl (by decide) rfl (fun ls hl => ?_)
                                  have L124 : ∀ (fu124 : Nat) (l : Int32) (u : Int32) (Y4 : mm_S) (H : Heap) (locs : List Loc), (4 - u.toInt < fu124) → (0 ≤ u.toInt) → (u.toInt ≤ 4) → (fr_ [50, 51] X Y4) → (xf_ao_go fu124 Y4 r y k p q m l u = xf_ao_s Y3 r y k p q m l3) → xx_W G o d0 Y4 E D H → va_S (xx_F o d0) sQ.heap H locs → ∀ ls : Array Slot, lv_has ls 10 [(8, .int u), (7, .int m), (6, .int q), (5, .int p), (4, .int l), (0, .ref o), (1, .int r), (2, .int y), (3, .int k)] → W pQ lQ eQ (wm_rm 2) sQ mQ ([Value.ref o, .int r, .int y, .int k] : List Value).toArray belowQ methQ cQ H locs 0 0 (MQ belowQ (wm_Q (fun vQ HQ => vQ = some (.int (xf_aimed X r y k).1) ∧ xx_W G o d0 (xf_aimed X r y k).2 E D HQ) (xx_F o d0)) ([Value.ref o, .int r, .int y, .int k] : List Value).toArray sQ 0 0 (xx_F o d0)) (F0 mQ 124 ls []) := by
                                    intro fu124
                                    induction fu124 with
                                    | zero =>
                                      intro l u Y4 H locs hm124 u0124 u1124 iF124 hgo124 hW hS ls hl
                                      exact absurd hm124 (by omega)
                                    | succ fu124 ih124 =>
                                      intro l u Y4 H locs hm124 u0124 u1124 iF124 hgo124 hW hS ls hl
                                      refine lv_iload hx hb dX0_aimed_124 (lv_at hl 0 rfl) ?_
                                      refine wm_join (P := fun w139 : Int32 => w139 = (if k = 2 then 3 else m + 2)) (j := 139) (rest := [.int u]) (ls := ls) (fun w139 ew139 => ?_) (fun J139 => ?_)
                                      · skip
                                        refine lv_icmp_ge (tgt := 237) hx hb dX0_aimed_139 (by decide) (fun c139 => ?_) (fun c139 => ?_)
                                        · have t139 : (w139).toInt ≤ (u).toInt := ww_le c139
                                          have g4 : (l, Y4) = xf_ao_s Y3 r y k p q m l3 := by rw [xf_ao_go, if_pos (by rw [← ew139]; exact c139)] at hgo124; exact hgo124
                                          have g41 : l = (xf_ao_s Y3 r y k p q m l3).1 := congrArg (fun zQ => zQ.1) g4
                                          have g42 : Y4 = (xf_ao_s Y3 r y k p q m l3).2 := congrArg (fun zQ => zQ.2) g4
                                          clear g4 hgo124
                                          obtain ⟨v237, e237⟩ : ∃ yQ : Int32, yQ = m + 1 := ⟨_, rfl⟩
                                          refine lv_iinc (v := v237) (lv' := [(7, .int v237), (8, .int u), (6, .int q), (5, .int p), (4, .int l), (0, .ref o), (1, .int r), (2, .int y), (3, .int k)]) hx hb dX0_aimed_237 hl (k := 1) rfl (by rw [e237]; rfl) (by decide) rfl (fun ls hl => ?_)
                                          refine lv_goto (tgt := 112) hx hb dX0_aimed_240 (by decide) ?_
                                          have tb : v237.toInt = m.toInt + 1 := by rw [e237]; exact ww_inc' (by omega)
                                          exact ih112 l v237 Y4 H locs (by omega) (by omega) (by omega) iF124 (by rw [e237, g41, g42]; rw [xf_an_go, if_neg c115] at hgo112; exact hgo112) hW hS ls (lv_sub hl [0, 2, 3, 4, 5, 6, 7, 8] rfl)
                                        · have t139 : (u).toInt < (w139).toInt := ww_nle c139
                                          have u3 : k = 2 → u.toInt < 3 := by
                                            intro k2
                                            rw [ew139, if_pos k2] at t139
                                            exact t139
                                          have u4 : u.toInt < 4 := by
                                            rw [ew139] at t139
                                            have z2 : (2 : Int32).toInt = 2 := by decide
                                            have z3 : (3 : Int32).toInt = 3 := by decide
                                            rcases Decidable.em (k = 2) with z | z
                                            · rw [if_pos z] at t139
                                              omega
                                            · rw [if_neg z, ww_add] at t139 <;> omega
                                          refine xw_join (G := G) (o := o) (d0 := d0) (X := Y4) (E := E) (D := D) (H0 := sQ.heap) (P := fun w183 : Int32 => w183 = xf_ai_v Y4 r y k p q m u) (j := 183) (rest := []) (ls := ls) (fun w183 H locs ew183 hW hS => ?_) (fun J183 => ?_)
                                          · skip
                                            refine lv_istore (lv' := [(9, .int w183), (8, .int u), (7, .int m), (6, .int q), (5, .int p), (4, .int l), (0, .ref o), (1, .int r), (2, .int y), (3, .int k)]) hx hb dX0_aimed_183 hl (by decide) rfl (fun ls hl => ?_)
                                            refine lv_iload hx hb dX0_aimed_185 (lv_at hl 0 rfl) ?_
                                            refine lv_iload hx hb dX0_aimed_187 (lv_at hl 5 rfl) ?_
                                            refine lv_icmp_lt (tgt := 195) hx hb dX0_aimed_189 (by decide) (fun c189 => ?_) (fun c189 => ?_)
                                            · have t189 : (w183).toInt < (l).toInt := ww_lt c189
                                              refine lv_iload hx hb dX0_aimed_195 (lv_at hl 0 rfl) ?_
                                              refine lv_istore (lv' := [(4, .int w183), (9, .int w183), (8, .int u), (7, .int m), (6, .int q), (5, .int p), (0, .ref o), (1, .int r), (2, .int y), (3, .int k)]) hx hb dX0_aimed_197 hl (by decide) rfl (fun ls hl => ?_)
                                              refine lv_aload_n hx hb dX0_aimed_199 rfl (lv_at hl 6 rfl) ?_
                                              refine xx_geta hx hb hts hown hK hW 50 rfl q323 dX0_aimed_200 ?_
                                              refine lv_iconst (v := 0) hx hb dX0_aimed_203 (by decide) ?_
                                              refine lv_iload hx hb dX0_aimed_204 (lv_at hl 5 rfl) ?_
                                              refine xx_iast hx hb hK hW hS 50 rfl (ww_in (by decide) (by decide)) dX0_aimed_206 (fun X206 H locs f206 hW hS => ?_)
                                              refine lv_aload_n hx hb dX0_aimed_207 rfl (lv_at hl 6 rfl) ?_
                                              refine xx_geta hx hb hts hown hK hW 51 rfl q324 dX0_aimed_208 ?_
                                              refine lv_iconst (v := 0) hx hb dX0_aimed_211 (by decide) ?_
                                              refine lv_iload hx hb dX0_aimed_212 (lv_at hl 3 rfl) ?_
                                              refine xx_iast hx hb hK hW hS 51 rfl (ww_in (by decide) (by decide)) dX0_aimed_214 (fun X214 H locs f214 hW hS => ?_)
                                              refine lv_aload_n hx hb dX0_aimed_215 rfl (lv_at hl 6 rfl) ?_
                                              refine xx_geta hx hb hts hown hK hW 50 rfl q323 dX0_aimed_216 ?_
                                              refine lv_iconst (v := 1) hx hb dX0_aimed_219 (by decide) ?_
                                              refine lv_iload hx hb dX0_aimed_220 (lv_at hl 4 rfl) ?_
                                              refine xx_iast hx hb hK hW hS 50 rfl (ww_in (by decide) (by decide)) dX0_aimed_222 (fun X222 H locs f222 hW hS => ?_)
                                              refine lv_aload_n hx hb dX0_aimed_223 rfl (lv_at hl 6 rfl) ?_
                                              refine xx_geta hx hb hts hown hK hW 51 rfl q324 dX0_aimed_224 ?_
                                              refine lv_iconst (v := 1) hx hb dX0_aimed_227 (by decide) ?_
                                              refine lv_iload hx hb dX0_aimed_228 (lv_at hl 2 rfl) ?_
                                              refine xx_iast hx hb hK hW hS 51 rfl (ww_in (by decide) (by decide)) dX0_aimed_230 (fun X230 H locs f230 hW hS => ?_)
                                              obtain ⟨v231, e231⟩ : ∃ yQ : Int32, yQ = u + 1 := ⟨_, rfl⟩
                                              refine lv_iinc (v := v231) (lv' := [(8, .int v231), (4, .int w183), (9, .int w183), (7, .int m), (6, .int q), (5, .int p), (0, .ref o), (1, .int r), (2, .int y), (3, .int k)]) hx hb dX0_aimed_231 hl (k := 2) rfl (by rw [e231]; rfl) (by decide) rfl (fun ls hl => ?_)
                                              refine lv_goto (tgt := 124) hx hb dX0_aimed_234 (by decide) ?_
                                              have tb : v231.toInt = u.toInt + 1 := by rw [e231]; exact ww_inc' (by omega)
                                              exact ih124 w183 v231 X230 H locs (by omega) (by omega) (by omega) (by first | exact iF124 | (rw [f230, f222, f214, f206]; exact (((iF124.wr (by decide)).wr (by decide)).wr (by decide)).wr (by decide))) (by first | (rw [e231]; rw [xf_ao_go, if_neg (by rw [← ew139]; exact c139), if_neg (by rw [← ew183]; exact c189)] at hgo124; exact hgo124) | (have z : X230 = xf_ai_S Y4 p q m u := (by rw [f230, f222, f214, f206]; rfl); rw [e231, z, ew183]; rw [xf_ao_go, if_neg (by rw [← ew139]; exact c139), if_pos (by rw [← ew183]; exact c189)] at hgo124; exact hgo124)) hW hS ls (lv_sub hl [0, 3, 4, 5, 1, 6, 7, 8, 9] rfl)
                                            · have t189 : (l).toInt ≤ (w183).toInt := ww_nlt c189
                                              refine lv_goto (tgt := 231) hx hb dX0_aimed_192 (by decide) ?_
                                              obtain ⟨v231, e231⟩ : ∃ yQ : Int32, yQ = u + 1 := ⟨_, rfl⟩
                                              refine lv_iinc (v := v231) (lv' := [(8, .int v231), (9, .int w183), (7, .int m), (6, .int q), (5, .int p), (4, .int l), (0, .ref o), (1, .int r), (2, .int y), (3, .int k)]) hx hb dX0_aimed_231 hl (k := 1) rfl (by rw [e231]; rfl) (by decide) rfl (fun ls hl => ?_)
                                              refine lv_goto (tgt := 124) hx hb dX0_aimed_234 (by decide) ?_
                                              have tb : v231.toInt = u.toInt + 1 := by rw [e231]; exact ww_inc' (by omega)
                                              exact ih124 l v231 Y4 H locs (by omega) (by omega) (by omega) (by first | exact iF124 | (rw [f230, f222, f214, f206]; exact (((iF124.wr (by decide)).wr (by decide)).wr (by decide)).wr (by decide))) (by first | (rw [e231]; rw [xf_ao_go, if_neg (by rw [← ew139]; exact c139), if_neg (by rw [← ew183]; exact c189)] at hgo124; exact hgo124) | (have z : Y4 = xf_ai_S Y4 p q m u := (by rw [f230, f222, f214, f206]; rfl); rw [e231, z, ew183]; rw [xf_ao_go, if_neg (by rw [← ew139]; exact c139), if_pos (by rw [← ew183]; exact c189)] at hgo124; exact hgo124)) hW hS ls (lv_sub hl [0, 2, 3, 4, 5, 6, 7, 8, 9] rfl)
                                          refine lv_iload_n hx hb dX0_aimed_142 rfl (lv_at hl 8 rfl) ?_
                                          refine lv_iconst (v := 2) hx hb dX0_aimed_143 (by decide) ?_
                                          refine lv_icmp_ne (tgt := 173) hx hb dX0_aimed_144 (by decide) (fun c144 => ?_) (fun c144 => ?_)
                                          · skip
                                            refine lv_aload_n hx hb dX0_aimed_173 rfl (lv_at hl 5 rfl) ?_
                                            refine lv_iload hx hb dX0_aimed_174 (lv_at hl 3 rfl) ?_
                                            refine lv_iload hx hb dX0_aimed_176 (lv_at hl 1 rfl) ?_
                                            refine lv_iload_n hx hb dX0_aimed_178 rfl (lv_at hl 6 rfl) ?_
                                            refine lv_iload_n hx hb dX0_aimed_179 rfl (lv_at hl 7 rfl) ?_
                                            refine xw_p (xw_rV (As := [.int p, .int m, .int r, .int y]) (rest := []) (n := 4) ⟨hx, hb, hml, hown, hts⟩ hK hN hW (xc_takes lQ G o d0 Y4 E D p m r y p064 (by omega) m0112 (by omega) r0 r1) (lw_V q1285 q1287 qs34 q84 q1288) (xr_main hK hW) (by decide +kernel) rfl ⟨Nat.le_of_ble_eq_true rfl, Nat.le_of_ble_eq_true rfl⟩ hl.1 rfl (Nat.le_of_ble_eq_true rfl) dX0_aimed_180 ⟨Nat.le_of_ble_eq_true rfl, Nat.le_of_ble_eq_true rfl⟩) hS (fun v180 H locs e180 hW hS => ?_)
                                            exact J183 _ H locs (by unfold xf_ai_v; rw [if_neg c144, e180]) hW hS
                                          · skip
                                            refine lv_aload_n hx hb dX0_aimed_147 rfl (lv_at hl 5 rfl) ?_
                                            refine lv_iload hx hb dX0_aimed_148 (lv_at hl 3 rfl) ?_
                                            refine lv_iload hx hb dX0_aimed_150 (lv_at hl 1 rfl) ?_
                                            refine lv_iload_n hx hb dX0_aimed_152 rfl (lv_at hl 6 rfl) ?_
                                            refine lv_iload_n hx hb dX0_aimed_153 rfl (lv_at hl 7 rfl) ?_
                                            refine xw_p (xw_rV (As := [.int p, .int m, .int r, .int y]) (rest := []) (n := 4) ⟨hx, hb, hml, hown, hts⟩ hK hN hW (xc_takes lQ G o d0 Y4 E D p m r y p064 (by omega) m0112 (by omega) r0 r1) (lw_V q1285 q1287 qs34 q84 q1288) (xr_main hK hW) (by decide +kernel) rfl ⟨Nat.le_of_ble_eq_true rfl, Nat.le_of_ble_eq_true rfl⟩ hl.1 rfl (Nat.le_of_ble_eq_true rfl) dX0_aimed_154 ⟨Nat.le_of_ble_eq_true rfl, Nat.le_of_ble_eq_true rfl⟩) hS (fun v154 H locs e154 hW hS => ?_)
                                            refine lv_aload_n hx hb dX0_aimed_157 rfl (lv_at hl 5 rfl) ?_
                                            refine lv_iload hx hb dX0_aimed_158 (lv_at hl 2 rfl) ?_
                                            refine lv_iload hx hb dX0_aimed_160 (lv_at hl 0 rfl) ?_
                                            refine lv_iload_n hx hb dX0_aimed_162 rfl (lv_at hl 6 rfl) ?_
                                            refine lv_iload_n hx hb dX0_aimed_163 rfl (lv_at hl 7 rfl) ?_
                                            refine xw_p (xw_rV (As := [.int q, .int u, .int r, .int y]) (rest := [.int v154]) (n := 4) ⟨hx, hb, hml, hown, hts⟩ hK hN hW (xc_takes lQ G o d0 Y4 E D q u r y q076 (by omega) u0124 (by have := u3 c144; omega) r0 r1) (lw_V q1285 q1287 qs34 q84 q1288) (xr_main hK hW) (by decide +kernel) rfl ⟨Nat.le_of_ble_eq_true rfl, Nat.le_of_ble_eq_true rfl⟩ hl.1 rfl (Nat.le_of_ble_eq_true rfl) dX0_aimed_164 ⟨Nat.le_of_ble_eq_true rfl, Nat.le_of_ble_eq_true rfl⟩) hS (fun v164 H locs e164 hW hS => ?_)
                                            refine pp_calli (As := [.int v154, .int v164]) (rest := []) (n := 2) ⟨hx, hb, hml, hown, hts⟩ (xc_max lQ v154 v164) (lw_S q866 q867 q101 q868) (by decide +kernel) rfl ⟨Nat.le_of_ble_eq_true rfl, Nat.le_of_ble_eq_true rfl⟩ hl.1 rfl (Nat.le_of_ble_eq_true rfl) dX0_aimed_167 ⟨Nat.le_of_ble_eq_true rfl, Nat.le_of_ble_eq_true rfl⟩ (fun v167 e167 => ?_)
                                            refine lv_goto (tgt := 183) hx hb dX0_aimed_170 (by decide) ?_
                                            exact J183 _ H locs (by unfold xf_ai_v; rw [if_pos c144, e167, e154, e164]) hW hS
                                      refine lv_iload_n hx hb dX0_aimed_126 rfl (lv_at hl 8 rfl) ?_
                                      refine lv_iconst (v := 2) hx hb dX0_aimed_127 (by decide) ?_
                                      refine lv_icmp_ne (tgt := 135) hx hb dX0_aimed_128 (by decide) (fun c128 => ?_) (fun c128 => ?_)
                                      · skip
                                        refine lv_iload hx hb dX0_aimed_135 (lv_at hl 1 rfl) ?_
                                        refine lv_iconst (v := 2) hx hb dX0_aimed_137 (by decide) ?_
                                        refine nv_iadd hx hb dX0_aimed_138 (fun v138 e138 => ?_)
                                        exact J139 _ (by subst e138; simp only [if_neg c128])
                                      · skip
                                        refine lv_iconst (v := 3) hx hb dX0_aimed_131 (by decide) ?_
                                        refine lv_goto (tgt := 139) hx hb dX0_aimed_132 (by decide) ?_
                                        exact J139 _ (by simp only [if_pos c128])
                                  exact L124 5 l3 v121 Y3 H locs (by rw [e121, ww_inc' (by omega)]; show (4 : Int) - _ < 5; omega) (by rw [e121, ww_inc' (by omega)]; omega) (by rw [e121, ww_inc' (by omega)]; omega) iF112 (by rw [e121]; rfl) hW hS ls (lv_sub hl [0, 1, 2, 3, 4, 5, 6, 7, 8] rfl)
                            exact L112 4 l2 0 Y2 H locs (by show (3 : Int) - 0 < 4; omega) (by decide) (by decide) iF76 (rfl) hW hS ls (lv_sub hl [0, 1, 2, 3, 4, 5, 6, 7] rfl)
                          · skip
                            refine lv_iload hx hb dX0_aimed_99 (lv_at hl 1 rfl) ?_
                            refine lv_iload hx hb dX0_aimed_101 (lv_at hl 0 rfl) ?_
                            refine lv_icmp_ne (tgt := 109) hx hb dX0_aimed_103 (by decide) (fun c103 => ?_) (fun c103 => ?_)
                            · skip
                              refine lv_iconst (v := 0) hx hb dX0_aimed_109 (by decide) ?_
                              refine lv_istore (lv' := [(7, .int 0), (6, .int q), (5, .int p), (4, .int l2), (0, .ref o), (1, .int r), (2, .int y), (3, .int k)]) hx hb dX0_aimed_110 hl (by decide) rfl (fun ls hl => ?_)
                              have L112 : ∀ (fu112 : Nat) (l3 : Int32) (m : Int32) (Y3 : mm_S) (H : Heap) (locs : List Loc), (3 - m.toInt < fu112) → (0 ≤ m.toInt) → (m.toInt ≤ 3) → (fr_ [50, 51] X Y3) → (xf_an_go fu112 Y3 r y k p q l3 m = xf_an_s Y2 r y k p q l2) → xx_W G o d0 Y3 E D H → va_S (xx_F o d0) sQ.heap H locs → ∀ ls : Array Slot, lv_has ls 10 [(7, .int m), (6, .int q), (5, .int p), (4, .int l3), (0, .ref o), (1, .int r), (2, .int y), (3, .int k)] → W pQ lQ eQ (wm_rm 2) sQ mQ ([Value.ref o, .int r, .int y, .int k] : List Value).toArray belowQ methQ cQ H locs 0 0 (MQ belowQ (wm_Q (fun vQ HQ => vQ = some (.int (xf_aimed X r y k).1) ∧ xx_W G o d0 (xf_aimed X r y k).2 E D HQ) (xx_F o d0)) ([Value.ref o, .int r, .int y, .int k] : List Value).toArray sQ 0 0 (xx_F o d0)) (F0 mQ 112 ls []) := by
                                intro fu112
                                induction fu112 with
                                | zero =>
                                  intro l3 m Y3 H locs hm112 m0112 m1112 iF112 hgo112 hW hS ls hl
                                  exact absurd hm112 (by omega)
                                | succ fu112 ih112 =>
                                  intro l3 m Y3 H locs hm112 m0112 m1112 iF112 hgo112 hW hS ls hl
                                  refine lv_iload hx hb dX0_aimed_112 (lv_at hl 0 rfl) ?_
                                  refine lv_iconst (v := 3) hx hb dX0_aimed_114 (by decide) ?_
                                  refine lv_icmp_ge (tgt := 243) hx hb dX0_aimed_115 (by decide) (fun c115 => ?_) (fun c115 => ?_)
                                  · have t115 : 3 ≤ (m).toInt := ww_le c115
                                    have g3 : (l3, Y3) = xf_an_s Y2 r y k p q l2 := by rw [xf_an_go, if_pos c115] at hgo112; exact hgo112
                                    have g31 : l3 = (xf_an_s Y2 r y k p q l2).1 := congrArg (fun zQ => zQ.1) g3
                                    have g32 : Y3 = (xf_an_s Y2 r y k p q l2).2 := congrArg (fun zQ => zQ.2) g3
                                    clear g3 hgo112
                                    obtain ⟨v243, e243⟩ : ∃ yQ : Int32, yQ = q + 1 := ⟨_, rfl⟩
                                    refine lv_iinc (v := v243) (lv' := [(6, .int v243), (7, .int m), (5, .int p), (4, .int l3), (0, .ref o), (1, .int r), (2, .int y), (3, .int k)]) hx hb dX0_aimed_243 hl (k := 1) rfl (by rw [e243]; rfl) (by decide) rfl (fun ls hl => ?_)
                                    refine lv_goto (tgt := 76) hx hb dX0_aimed_246 (by decide) ?_
                                    have tb : v243.toInt = q.toInt + 1 := by rw [e243]; exact ww_inc' (by omega)
                                    exact ih76 l3 v243 Y3 H locs (by omega) (by omega) (by omega) (by first | exact iF112 | exact iF76) (by rw [xf_aq_go, if_neg (by rw [← ew91]; exact c91)] at hgo76; first | (rw [e243, g31, g32]; simp only [if_neg c96] at hgo76; exact hgo76) | (rw [e243, g31, g32]; simp only [if_pos c96, if_neg c103] at hgo76; exact hgo76) | (rw [e243]; simp only [if_pos c96, if_pos c103] at hgo76; exact hgo76)) hW hS ls (lv_sub hl [0, 2, 3, 4, 5, 6, 7] rfl)
                                  · have t115 : (m).toInt < 3 := ww_nle c115
                                    refine lv_iload hx hb dX0_aimed_118 (lv_at hl 0 rfl) ?_
                                    refine lv_iconst (v := 1) hx hb dX0_aimed_120 (by decide) ?_
                                    refine nv_iadd hx hb dX0_aimed_121 (fun v121 e121 => ?_)
                                    refine lv_istore (lv' := [(8, .int v121), (7, .int m), (6, .int q), (5, .int p), (4, .int l3), (0, .ref o), (1, .int r), (2, .int y), (3, .int k)]) hx hb dX0_aimed_122 hl (by decide) rfl (fun ls hl => ?_)
                                    have L124 : ∀ (fu124 : Nat) (l : Int32) (u : Int32) (Y4 : mm_S) (H : Heap) (locs : List Loc), (4 - u.toInt < fu124) → (0 ≤ u.toInt) → (u.toInt ≤ 4) → (fr_ [50, 51] X Y4) → (xf_ao_go fu124 Y4 r y k p q m l u = xf_ao_s Y3 r y k p q m l3) → xx_W G o d0 Y4 E D H → va_S (xx_F o d0) sQ.heap H locs → ∀ ls : Array Slot, lv_has ls 10 [(8, .int u), (7, .int m), (6, .int q), (5, .int p), (4, .int l), (0, .ref o), (1, .int r), (2, .int y), (3, .int k)] → W pQ lQ eQ (wm_rm 2) sQ mQ ([Value.ref o, .int r, .int y, .int k] : List Value).toArray belowQ methQ cQ H locs 0 0 (MQ belowQ (wm_Q (fun vQ HQ => vQ = some (.int (xf_aimed X r y k).1) ∧ xx_W G o d0 (xf_aimed X r y k).2 E D HQ) (xx_F o d0)) ([Value.ref o, .int r, .int y, .int k] : List Value).toArray sQ 0 0 (xx_F o d0)) (F0 mQ 124 ls []) := by
                                      intro fu124
                                      induction fu124 with
                                      | zero =>
                                        intro l u Y4 H locs hm124 u0124 u1124 iF124 hgo124 hW hS ls hl
                                        exact absurd hm124 (by omega)
                                      | succ fu124 ih124 =>
                                        intro l u Y4 H locs hm124 u0124 u1124 iF124 hgo124 hW hS ls hl
                                        refine lv_iload hx hb dX0_aimed_124 (lv_at hl 0 rfl) ?_
                                        refine wm_join (P := fun w139 : Int32 => w139 = (if k = 2 then 3 else m + 2)) (j := 139) (rest := [.int u]) (ls := ls) (fun w139 ew139 => ?_) (fun J139 => ?_)
                                        · skip
                                          refine lv_icmp_ge (tgt := 237) hx hb dX0_aimed_139 (by decide) (fun c139 => ?_) (fun c139 => ?_)
                                          · have t139 : (w139).toInt ≤ (u).toInt := ww_le c139
                                            have g4 : (l, Y4) = xf_ao_s Y3 r y k p q m l3 := by rw [xf_ao_go, if_pos (by rw [← ew139]; exact c139)] at hgo124; exact hgo124
                                            have g41 : l = (xf_ao_s Y3 r y k p q m l3).1 := congrArg (fun zQ => zQ.1) g4
                                            have g42 : Y4 = (xf_ao_s Y3 r y k p q m l3).2 := congrArg (fun zQ => zQ.2) g4
                                            clear g4 hgo124
                                            obtain ⟨v237, e237⟩ : ∃ yQ : Int32, yQ = m + 1 := ⟨_, rfl⟩
                                            refine lv_iinc (v := v237) (lv' := [(7, .int v237), (8, .int u), (6, .int q), (5, .int p), (4, .int l), (0, .ref o), (1, .int r), (2, .int y), (3, .int k)]) hx hb dX0_aimed_237 hl (k := 1) rfl (by rw [e237]; rfl) (by decide) rfl (fun ls hl => ?_)
                                            refine lv_goto (tgt := 112) hx hb dX0_aimed_240 (by decide) ?_
                                            have tb : v237.toInt = m.toInt + 1 := by rw [e237]; exact ww_inc' (by omega)
                                            exact ih112 l v237 Y4 H locs (by omega) (by omega) (by omega) iF124 (by rw [e237, g41, g42]; rw [xf_an_go, if_neg c115] at hgo112; exact hgo112) hW hS ls (lv_sub hl [0, 2, 3, 4, 5, 6, 7, 8] rfl)
                                          · have t139 : (u).toInt < (w139).toInt := ww_nle c139
                                            have u3 : k = 2 → u.toInt < 3 := by
                                              intro k2
                                              rw [ew139, if_pos k2] at t139
                                              exact t139
                                            have u4 : u.toInt < 4 := by
                                              rw [ew139] at t139
                                              have z2 : (2 : Int32).toInt = 2 := by decide
                                              have z3 : (3 : Int32).toInt = 3 := by decide
                                              rcases Decidable.em (k = 2) with z | z
                                              · rw [if_pos z] at t139
                                                omega
                                              · rw [if_neg z, ww_add] at t139 <;> omega
                                            refine xw_join (G := G) (o := o) (d0 := d0) (X := Y4) (E := E) (D := D) (H0 := sQ.heap) (P := fun w183 : Int32 => w183 = xf_ai_v Y4 r y k p q m u) (j := 183) (rest := []) (ls := ls) (fun w183 H locs ew183 hW hS => ?_) (fun J183 => ?_)
                                            · skip
                                              refine lv_istore (lv' := [(9, .int w183), (8, .int u), (7, .int m), (6, .int q), (5, .int p), (4, .int l), (0, .ref o), (1, .int r), (2, .int y), (3, .int k)]) hx hb dX0_aimed_183 hl (by decide) rfl (fun ls hl => ?_)
                                              refine lv_iload hx hb dX0_aimed_185 (lv_at hl 0 rfl) ?_
                                              refine lv_iload hx hb dX0_aimed_187 (lv_at hl 5 rfl) ?_
                                              refine lv_icmp_lt (tgt := 195) hx hb dX0_aimed_189 (by decide) (fun c189 => ?_) (fun c189 => ?_)
                                              · have t189 : (w183).toInt < (l).toInt := ww_lt c189
                                                refine lv_iload hx hb dX0_aimed_195 (lv_at hl 0 rfl) ?_
                                                refine lv_istore (lv' := [(4, .int w183), (9, .int w183), (8, .int u), (7, .int m), (6, .int q), (5, .int p), (0, .ref o), (1, .int r), (2, .int y), (3, .int k)]) hx hb dX0_aimed_197 hl (by decide) rfl (fun ls hl => ?_)
                                                refine lv_aload_n hx hb dX0_aimed_199 rfl (lv_at hl 6 rfl) ?_
                                                refine xx_geta hx hb hts hown hK hW 50 rfl q323 dX0_aimed_200 ?_
                                                refine lv_iconst (v := 0) hx hb dX0_aimed_203 (by decide) ?_
                                                refine lv_iload hx hb dX0_aimed_204 (lv_at hl 5 rfl) ?_
                                                refine xx_iast hx hb hK hW hS 50 rfl (ww_in (by decide) (by decide)) dX0_aimed_206 (fun X206 H locs f206 hW hS => ?_)
                                                refine lv_aload_n hx hb dX0_aimed_207 rfl (lv_at hl 6 rfl) ?_
                                                refine xx_geta hx hb hts hown hK hW 51 rfl q324 dX0_aimed_208 ?_
                                                refine lv_iconst (v := 0) hx hb dX0_aimed_211 (by decide) ?_
                                                refine lv_iload hx hb dX0_aimed_212 (lv_at hl 3 rfl) ?_
                                                refine xx_iast hx hb hK hW hS 51 rfl (ww_in (by decide) (by decide)) dX0_aimed_214 (fun X214 H locs f214 hW hS => ?_)
                                                refine lv_aload_n hx hb dX0_aimed_215 rfl (lv_at hl 6 rfl) ?_
                                                refine xx_geta hx hb hts hown hK hW 50 rfl q323 dX0_aimed_216 ?_
                                                refine lv_iconst (v := 1) hx hb dX0_aimed_219 (by decide) ?_
                                                refine lv_iload hx hb dX0_aimed_220 (lv_at hl 4 rfl) ?_
                                                refine xx_iast hx hb hK hW hS 50 rfl (ww_in (by decide) (by decide)) dX0_aimed_222 (fun X222 H locs f222 hW hS => ?_)
                                                refine lv_aload_n hx hb dX0_aimed_223 rfl (lv_at hl 6 rfl) ?_
                                                refine xx_geta hx hb hts hown hK hW 51 rfl q324 dX0_aimed_224 ?_
                                                refine lv_iconst (v := 1) hx hb dX0_aimed_227 (by decide) ?_
                                                refine lv_iload hx hb dX0_aimed_228 (lv_at hl 2 rfl) ?_
                                                refine xx_iast hx hb hK hW hS 51 rfl (ww_in (by decide) (by decide)) dX0_aimed_230 (fun X230 H locs f230 hW hS => ?_)
                                                obtain ⟨v231, e231⟩ : ∃ yQ : Int32, yQ = u + 1 := ⟨_, rfl⟩
                                                refine lv_iinc (v := v231) (lv' := [(8, .int v231), (4, .int w183), (9, .int w183), (7, .int m), (6, .int q), (5, .int p), (0, .ref o), (1, .int r), (2, .int y), (3, .int k)]) hx hb dX0_aimed_231 hl (k := 2) rfl (by rw [e231]; rfl) (by decide) rfl (fun ls hl => ?_)
                                                refine lv_goto (tgt := 124) hx hb dX0_aimed_234 (by decide) ?_
                                                have tb : v231.toInt = u.toInt + 1 := by rw [e231]; exact ww_inc' (by omega)
                                                exact ih124 w183 v231 X230 H locs (by omega) (by omega) (by omega) (by first | exact iF124 | (rw [f230, f222, f214, f206]; exact (((iF124.wr (by decide)).wr (by decide)).wr (by decide)).wr (by decide))) (by first | (rw [e231]; rw [xf_ao_go, if_neg (by rw [← ew139]; exact c139), if_neg (by rw [← ew183]; exact c189)] at hgo124; exact hgo124) | (have z : X230 = xf_ai_S Y4 p q m u := (by rw [f230, f222, f214, f206]; rfl); rw [e231, z, ew183]; rw [xf_ao_go, if_neg (by rw [← ew139]; exact c139), if_pos (by rw [← ew183]; exact c189)] at hgo124; exact hgo124)) hW hS ls (lv_sub hl [0, 3, 4, 5, 1, 6, 7, 8, 9] rfl)
                                              · have t189 : (l).toInt ≤ (w183).toInt := ww_nlt c189
                                                refine lv_goto (tgt := 231) hx hb dX0_aimed_192 (by decide) ?_
                                                obtain ⟨v231, e231⟩ : ∃ yQ : Int32, yQ = u + 1 := ⟨_, rfl⟩
                                                refine lv_iinc (v := v231) (lv' := [(8, .int v231), (9, .int w183), (7, .int m), (6, .int q), (5, .int p), (4, .int l), (0, .ref o), (1, .int r), (2, .int y), (3, .int k)]) hx hb dX0_aimed_231 hl (k := 1) rfl (by rw [e231]; rfl) (by decide) rfl (fun ls hl => ?_)
                                                refine lv_goto (tgt := 124) hx hb dX0_aimed_234 (by decide) ?_
                                                have tb : v231.toInt = u.toInt + 1 := by rw [e231]; exact ww_inc' (by omega)
                                                exact ih124 l v231 Y4 H locs (by omega) (by omega) (by omega) (by first | exact iF124 | (rw [f230, f222, f214, f206]; exact (((iF124.wr (by decide)).wr (by decide)).wr (by decide)).wr (by decide))) (by first | (rw [e231]; rw [xf_ao_go, if_neg (by rw [← ew139]; exact c139), if_neg (by rw [← ew183]; exact c189)] at hgo124; exact hgo124) | (have z : Y4 = xf_ai_S Y4 p q m u := (by rw [f230, f222, f214, f206]; rfl); rw [e231, z, ew183]; rw [xf_ao_go, if_neg (by rw [← ew139]; exact c139), if_pos (by rw [← ew183]; exact c189)] at hgo124; exact hgo124)) hW hS ls (lv_sub hl [0, 2, 3, 4, 5, 6, 7, 8, 9] rfl)
                                            refine lv_iload_n hx hb dX0_aimed_142 rfl (lv_at hl 8 rfl) ?_
                                            refine lv_iconst (v := 2) hx hb dX0_aimed_143 (by decide) ?_
                                            refine lv_icmp_ne (tgt := 173) hx hb dX0_aimed_144 (by decide) (fun c144 => ?_) (fun c144 => ?_)
                                            · skip
                                              refine lv_aload_n hx hb dX0_aimed_173 rfl (lv_at hl 5 rfl) ?_
                                              refine lv_iload hx hb dX0_aimed_174 (lv_at hl 3 rfl) ?_
                                              refine lv_iload hx hb dX0_aimed_176 (lv_at hl 1 rfl) ?_
                                              refine lv_iload_n hx hb dX0_aimed_178 rfl (lv_at hl 6 rfl) ?_
                                              refine lv_iload_n hx hb dX0_aimed_179 rfl (lv_at hl 7 rfl) ?_
                                              refine xw_p (xw_rV (As := [.int p, .int m, .int r, .int y]) (rest := []) (n := 4) ⟨hx, hb, hml, hown, hts⟩ hK hN hW (xc_takes lQ G o d0 Y4 E D p m r y p064 (by omega) m0112 (by omega) r0 r1) (lw_V q1285 q1287 qs34 q84 q1288) (xr_main hK hW) (by decide +kernel) rfl ⟨Nat.le_of_ble_eq_true rfl, Nat.le_of_ble_eq_true rfl⟩ hl.1 rfl (Nat.le_of_ble_eq_true rfl) dX0_aimed_180 ⟨Nat.le_of_ble_eq_true rfl, Nat.le_of_ble_eq_true rfl⟩) hS (fun v180 H locs e180 hW hS => ?_)
                                              exact J183 _ H locs (by unfold xf_ai_v; rw [if_neg c144, e180]) hW hS
                                            · skip
                                              refine lv_aload_n hx hb dX0_aimed_147 rfl (lv_at hl 5 rfl) ?_
                                              refine lv_iload hx hb dX0_aimed_148 (lv_at hl 3 rfl) ?_
                                              refine lv_iload hx hb dX0_aimed_150 (lv_at hl 1 rfl) ?_
                                              refine lv_iload_n hx hb dX0_aimed_152 rfl (lv_at hl 6 rfl) ?_
                                              refine lv_iload_n hx hb dX0_aimed_153 rfl (lv_at hl 7 rfl) ?_
                                              refine xw_p (xw_rV (As := [.int p, .int m, .int r, .int y]) (rest := []) (n := 4) ⟨hx, hb, hml, hown, hts⟩ hK hN hW (xc_takes lQ G o d0 Y4 E D p m r y p064 (by omega) m0112 (by omega) r0 r1) (lw_V q1285 q1287 qs34 q84 q1288) (xr_main hK hW) (by decide +kernel) rfl ⟨Nat.le_of_ble_eq_true rfl, Nat.le_of_ble_eq_true rfl⟩ hl.1 rfl (Nat.le_of_ble_eq_true rfl) dX0_aimed_154 ⟨Nat.le_of_ble_eq_true rfl, Nat.le_of_ble_eq_true rfl⟩) hS (fun v154 H locs e154 hW hS => ?_)
                                              refine lv_aload_n hx hb dX0_aimed_157 rfl (lv_at hl 5 rfl) ?_
                                              refine lv_iload hx hb dX0_aimed_158 (lv_at hl 2 rfl) ?_
                                              refine lv_iload hx hb dX0_aimed_160 (lv_at hl 0 rfl) ?_
                                              refine lv_iload_n hx hb dX0_aimed_162 rfl (lv_at hl 6 rfl) ?_
                                              refine lv_iload_n hx hb dX0_aimed_163 rfl (lv_at hl 7 rfl) ?_
                                              refine xw_p (xw_rV (As := [.int q, .int u, .int r, .int y]) (rest := [.int v154]) (n := 4) ⟨hx, hb, hml, hown, hts⟩ hK hN hW (xc_takes lQ G o d0 Y4 E D q u r y q076 (by omega) u0124 (by have := u3 c144; omega) r0 r1) (lw_V q1285 q1287 qs34 q84 q1288) (xr_main hK hW) (by decide +kernel) rfl ⟨Nat.le_of_ble_eq_true rfl, Nat.le_of_ble_eq_true rfl⟩ hl.1 rfl (Nat.le_of_ble_eq_true rfl) dX0_aimed_164 ⟨Nat.le_of_ble_eq_true rfl, Nat.le_of_ble_eq_true rfl⟩) hS (fun v164 H locs e164 hW hS => ?_)
                                              refine pp_calli (As := [.int v154, .int v164]) (rest := []) (n := 2) ⟨hx, hb, hml, hown, hts⟩ (xc_max lQ v154 v164) (lw_S q866 q867 q101 q868) (by decide +kernel) rfl ⟨Nat.le_of_ble_eq_true rfl, Nat.le_of_ble_eq_true rfl⟩ hl.1 rfl (Nat.le_of_ble_eq_true rfl) dX0_aimed_167 ⟨Nat.le_of_ble_eq_true rfl, Nat.le_of_ble_eq_true rfl⟩ (fun v167 e167 => ?_)
                                              refine lv_goto (tgt := 183) hx hb dX0_aimed_170 (by decide) ?_
                                              exact J183 _ H locs (by unfold xf_ai_v; rw [if_pos c144, e167, e154, e164]) hW hS
                                        refine lv_iload_n hx hb dX0_aimed_126 rfl (lv_at hl 8 rfl) ?_
                                        refine lv_iconst (v := 2) hx hb dX0_aimed_127 (by decide) ?_
                                        refine lv_icmp_ne (tgt := 135) hx hb dX0_aimed_128 (by decide) (fun c128 => ?_) (fun c128 => ?_)
                                        · skip
                                          refine lv_iload hx hb dX0_aimed_135 (lv_at hl 1 rfl) ?_
                                          refine lv_iconst (v := 2) hx hb dX0_aimed_137 (by decide) ?_
                                          refine nv_iadd hx hb dX0_aimed_138 (fun v138 e138 => ?_)
                                          exact J139 _ (by subst e138; simp only [if_neg c128])
                                        · skip
                                          refine lv_iconst (v := 3) hx hb dX0_aimed_131 (by decide) ?_
                                          refine lv_goto (tgt := 139) hx hb dX0_aimed_132 (by decide) ?_
                                          exact J139 _ (by simp only [if_pos c128])
                                    exact L124 5 l3 v121 Y3 H locs (by rw [e121, ww_inc' (by omega)]; show (4 : Int) - _ < 5; omega) (by rw [e121, ww_inc' (by omega)]; omega) (by rw [e121, ww_inc' (by omega)]; omega) iF112 (by rw [e121]; rfl) hW hS ls (lv_sub hl [0, 1, 2, 3, 4, 5, 6, 7, 8] rfl)
                              exact L112 4 l2 0 Y2 H locs (by show (3 : Int) - 0 < 4; omega) (by decide) (by decide) iF76 (rfl) hW hS ls (lv_sub hl [0, 1, 2, 3, 4, 5, 6, 7] rfl)
                            · skip
                              refine lv_goto (tgt := 243) hx hb dX0_aimed_106 (by decide) ?_
                              obtain ⟨v243, e243⟩ : ∃ yQ : Int32, yQ = q + 1 := ⟨_, rfl⟩
                              refine lv_iinc (v := v243) (lv' := [(6, .int v243), (5, .int p), (4, .int l2), (0, .ref o), (1, .int r), (2, .int y), (3, .int k)]) hx hb dX0_aimed_243 hl (k := 0) rfl (by rw [e243]; rfl) (by decide) rfl (fun ls hl => ?_)
                              refine lv_goto (tgt := 76) hx hb dX0_aimed_246 (by decide) ?_
                              have tb : v243.toInt = q.toInt + 1 := by rw [e243]; exact ww_inc' (by omega)
                              exact ih76 l2 v243 Y2 H locs (by omega) (by omega) (by omega) (by first | exact iF112 | exact iF76) (by rw [xf_aq_go, if_neg (by rw [← ew91]; exact c91)] at hgo76; first | (rw [e243, g31, g32]; simp only [if_neg c96] at hgo76; exact hgo76) | (rw [e243, g31, g32]; simp only [if_pos c96, if_neg c103] at hgo76; exact hgo76) | (rw [e243]; simp only [if_pos c96, if_pos c103] at hgo76; exact hgo76)) hW hS ls (lv_sub hl [0, 1, 2, 3, 4, 5, 6] rfl)
                      refine lv_iload_n hx hb dX0_aimed_78 rfl (lv_at hl 6 rfl) ?_
                      refine lv_iconst (v := 2) hx hb dX0_aimed_79 (by decide) ?_
                      refine lv_icmp_ne (tgt := 90) hx hb dX0_aimed_80 (by decide) (fun c80 => ?_) (fun c80 => ?_)
                      · skip
                        refine lv_iconst (v := 1) hx hb dX0_aimed_90 (by decide) ?_
                        exact J91 _ (by simp only [if_neg c80])
                      · skip
                        refine lv_aload_n hx hb dX0_aimed_83 rfl (lv_at hl 3 rfl) ?_
                        refine xx_geti hx hb hts hown hK hW 48 rfl rfl (by decide) (by decide) q321 dX0_aimed_84 ?_
                        refine lv_goto (tgt := 91) hx hb dX0_aimed_87 (by decide) ?_
                        exact J91 _ (by simp only [if_pos c80])
                  exact L76 7 l1 0 Y1 H locs (by decide) (by decide) (by decide) iF64 (rfl) hW hS ls (lv_sub hl [0, 1, 2, 3, 4, 5, 6] rfl)
            exact L64 7 2147483647 0 X H locs (by decide) (by decide) (by decide) (fr_.rf X) (rfl) hW hS ls (lv_sub hl [0, 1, 2, 3, 4, 5] rfl)
          · have t50 : ((fd_ X 48)).toInt < (k).toInt := ww_nle c50
            refine lv_bipush (v := (-2)) hx hb dX0_aimed_53 (by decide) ?_
            refine xw_iret hx hb hr hlocks hW hS ?_ dX0_aimed_55
            have hres : xf_aimed X r y k = ((-2), X) := by subst e6 e18 e30; simp only [xf_aimed, if_neg c9, if_neg c21, if_neg c33, if_neg c40, if_neg c50]
            exact ⟨by rw [hres], by rw [hres], rfl⟩
        · skip
          refine lv_iconst (v := (-1)) hx hb dX0_aimed_43 (by decide) ?_
          refine xw_iret hx hb hr hlocks hW hS ?_ dX0_aimed_44
          have hres : xf_aimed X r y k = ((-1), X) := by subst e6 e18 e30; simp only [xf_aimed, if_neg c9, if_neg c21, if_neg c33, if_pos c40]
          exact ⟨by rw [hres], by rw [hres], rfl⟩

set_option maxHeartbeats 4000000 in
theorem xc_aimedAt (lQ : Launch) (G : wm_G) (o d0 : Nat) (X : mm_S) (E : mm_E) (D : xg) (i : Int32) (w : Int32) (hm0 : 0 ≤ (fd_ X 52).toInt) (hm1 : (fd_ X 52).toInt ≤ 2) : xw_Met lQ G o d0 yX0_aimedAt (ws_ yX0_aimedAt cX0_aimedAt 3 (some .int)) 1 X E D [Value.ref o, .int i, .int w] (some (.int (xf_aimedAt X i w))) X E := by
  refine xw_start (own := RX0) (by decide +kernel) (Nat.le_of_ble_eq_true rfl) rfl (fun pQ eQ sQ mQ belowQ methQ cQ hx hb hml hr hlocks hts hown hK hN H hW hS ls hl => ?_)
  have hl : lv_has ls 3 [(0, .ref o), (1, .int i), (2, .int w)] := hl
  generalize hlc : ([] : List Loc) = locs at hS ⊢
  refine lv_iload_n hx hb dX0_aimedAt_0 rfl (lv_at hl 1 rfl) ?_
  refine lv_i2l (v := (i).toInt64) hx hb dX0_aimedAt_1 rfl ?_
  refine lv_lconst (v := 0) hx hb dX0_aimedAt_2 (by decide) ?_
  refine lv_aload_n hx hb dX0_aimedAt_3 rfl (lv_at hl 0 rfl) ?_
  refine xx_geti hx hb hts hown hK hW 52 rfl rfl (by decide) (by decide) q325 dX0_aimedAt_4 ?_
  refine lv_iconst (v := 1) hx hb dX0_aimedAt_7 (by decide) ?_
  refine nv_isub hx hb dX0_aimedAt_8 (fun v8 e8 => ?_)
  refine lv_i2l (v := (v8).toInt64) hx hb dX0_aimedAt_9 rfl ?_
  refine xx_within (rest := []) i 0 v8 ⟨hx, hb, hml, hown, hts⟩ rfl (by decide) rfl q459 hl.1 rfl rfl (Nat.le_of_ble_eq_true rfl) rfl rfl ⟨Nat.le_of_ble_eq_true rfl, Nat.le_of_ble_eq_true rfl⟩ dX0_aimedAt_10 (fun v10 e10 => ?_)
  refine lv_if_eq (tgt := 48) hx hb dX0_aimedAt_13 (by decide) (fun c13 => ?_) (fun c13 => ?_)
  · skip
    refine lv_iconst (v := (-1)) hx hb dX0_aimedAt_48 (by decide) ?_
    refine xw_iret hx hb hr hlocks hW hS ?_ dX0_aimedAt_49
    have hres : xf_aimedAt X i w = (-1) := by subst e8 e10; simp only [xf_aimedAt, if_pos c13]
    exact ⟨by rw [hres], rfl, rfl⟩
  · skip
    obtain ⟨i0, i1⟩ := ff_in_t (v := i) (a := 0) (b := fd_ X 52 - 1) (by rw [← e8, ← e10]; exact c13)
    have i0 : 0 ≤ i.toInt := i0
    rw [ww_sub1 (by omega)] at i1
    refine lv_iload_n hx hb dX0_aimedAt_16 rfl (lv_at hl 2 rfl) ?_
    refine lv_i2l (v := (w).toInt64) hx hb dX0_aimedAt_17 rfl ?_
    refine lv_lconst (v := 0) hx hb dX0_aimedAt_18 (by decide) ?_
    refine lv_lconst (v := 1) hx hb dX0_aimedAt_19 (by decide) ?_
    refine xx_within (rest := []) w 0 1 ⟨hx, hb, hml, hown, hts⟩ rfl (by decide) (by decide) q459 hl.1 rfl rfl (Nat.le_of_ble_eq_true rfl) rfl rfl ⟨Nat.le_of_ble_eq_true rfl, Nat.le_of_ble_eq_true rfl⟩ dX0_aimedAt_20 (fun v20 e20 => ?_)
    refine lv_if_eq (tgt := 48) hx hb dX0_aimedAt_23 (by decide) (fun c23 => ?_) (fun c23 => ?_)
    · skip
      refine lv_iconst (v := (-1)) hx hb dX0_aimedAt_48 (by decide) ?_
      refine xw_iret hx hb hr hlocks hW hS ?_ dX0_aimedAt_49
      have hres : xf_aimedAt X i w = (-1) := by subst e8 e10 e20; simp only [xf_aimedAt, if_neg c13, if_pos c23]
      exact ⟨by rw [hres], rfl, rfl⟩
    · skip
      refine lv_iload_n hx hb dX0_aimedAt_26 rfl (lv_at hl 2 rfl) ?_
      refine lv_if_ne (tgt := 39) hx hb dX0_aimedAt_27 (by decide) (fun c27 => ?_) (fun c27 => ?_)
      · skip
        refine lv_aload_n hx hb dX0_aimedAt_39 rfl (lv_at hl 0 rfl) ?_
        refine xx_geta hx hb hts hown hK hW 51 rfl q324 dX0_aimedAt_40 ?_
        refine lv_iload_n hx hb dX0_aimedAt_43 rfl (lv_at hl 1 rfl) ?_
        refine xx_iald hx hb hK hW 51 rfl (ww_in (by omega) (by omega)) dX0_aimedAt_44 ?_
        refine lv_goto (tgt := 49) hx hb dX0_aimedAt_45 (by decide) ?_
        refine xw_iret hx hb hr hlocks hW hS ?_ dX0_aimedAt_49
        have hres : xf_aimedAt X i w = (rd_ X 51 i) := by subst e8 e10 e20; simp only [xf_aimedAt, if_neg c13, if_neg c23, if_neg c27]
        exact ⟨by rw [hres], rfl, rfl⟩
      · skip
        refine lv_aload_n hx hb dX0_aimedAt_30 rfl (lv_at hl 0 rfl) ?_
        refine xx_geta hx hb hts hown hK hW 50 rfl q323 dX0_aimedAt_31 ?_
        refine lv_iload_n hx hb dX0_aimedAt_34 rfl (lv_at hl 1 rfl) ?_
        refine xx_iald hx hb hK hW 50 rfl (ww_in (by omega) (by omega)) dX0_aimedAt_35 ?_
        refine lv_goto (tgt := 49) hx hb dX0_aimedAt_36 (by decide) ?_
        refine xw_iret hx hb hr hlocks hW hS ?_ dX0_aimedAt_49
        have hres : xf_aimedAt X i w = (rd_ X 50 i) := by subst e8 e10 e20; simp only [xf_aimedAt, if_neg c13, if_neg c23, if_pos c27]
        exact ⟨by rw [hres], rfl, rfl⟩

set_option maxHeartbeats 4000000 in
theorem xc_race (lQ : Launch) (G : wm_G) (o d0 : Nat) (X : mm_S) (E : mm_E) (D : xg) (m : Int32) (y : Int32) (k : Int32) (hJw : xj_w X) : xw_Met lQ G o d0 yX0_race (ws_ yX0_race cX0_race 7 (some .int)) 2 X E D [Value.ref o, .int m, .int y, .int k] (some (.int (xf_race X m y k))) X E := by
  refine xw_start (own := RX0) (by decide +kernel) (Nat.le_of_ble_eq_true rfl) rfl (fun pQ eQ sQ mQ belowQ methQ cQ hx hb hml hr hlocks hts hown hK hN H hW hS ls hl => ?_)
  have hl : lv_has ls 7 [(0, .ref o), (1, .int m), (2, .int y), (3, .int k)] := hl
  generalize hlc : ([] : List Loc) = locs at hS ⊢
  refine lv_iload_n hx hb dX0_race_0 rfl (lv_at hl 1 rfl) ?_
  refine pp_calli (As := [.int m]) (rest := []) (n := 1) ⟨hx, hb, hml, hown, hts⟩ (xc_isMachine lQ m) (lw_S q784 q785 q84 q786) (by decide +kernel) rfl ⟨Nat.le_of_ble_eq_true rfl, Nat.le_of_ble_eq_true rfl⟩ hl.1 rfl (Nat.le_of_ble_eq_true rfl) dX0_race_1 ⟨Nat.le_of_ble_eq_true rfl, Nat.le_of_ble_eq_true rfl⟩ (fun v1 e1 => ?_)
  refine lv_if_eq (tgt := 31) hx hb dX0_race_4 (by decide) (fun c4 => ?_) (fun c4 => ?_)
  · skip
    refine lv_iconst (v := (-1)) hx hb dX0_race_31 (by decide) ?_
    refine xw_iret hx hb hr hlocks hW hS ?_ dX0_race_32
    have hres : xf_race X m y k = (-1) := by subst e1; simp only [xf_race, if_pos c4]
    exact ⟨by rw [hres], rfl, rfl⟩
  · skip
    have hm := ff_isMachine_t (m := m) (by rw [← e1]; exact c4)
    refine lv_iload_n hx hb dX0_race_7 rfl (lv_at hl 2 rfl) ?_
    refine lv_i2l (v := (y).toInt64) hx hb dX0_race_8 rfl ?_
    refine lv_lconst (v := 1) hx hb dX0_race_9 (by decide) ?_
    refine lv_ldc2 (v := 60) hx hb hown (hts _ q458) dX0_race_10 ?_
    refine xx_within (rest := []) y 1 60 ⟨hx, hb, hml, hown, hts⟩ rfl (by decide) (by decide) q459 hl.1 rfl rfl (Nat.le_of_ble_eq_true rfl) rfl rfl ⟨Nat.le_of_ble_eq_true rfl, Nat.le_of_ble_eq_true rfl⟩ dX0_race_13 (fun v13 e13 => ?_)
    refine lv_if_eq (tgt := 31) hx hb dX0_race_16 (by decide) (fun c16 => ?_) (fun c16 => ?_)
    · skip
      refine lv_iconst (v := (-1)) hx hb dX0_race_31 (by decide) ?_
      refine xw_iret hx hb hr hlocks hW hS ?_ dX0_race_32
      have hres : xf_race X m y k = (-1) := by subst e1 e13; simp only [xf_race, if_neg c4, if_pos c16]
      exact ⟨by rw [hres], rfl, rfl⟩
    · skip
      refine lv_iload_n hx hb dX0_race_19 rfl (lv_at hl 3 rfl) ?_
      refine lv_i2l (v := (k).toInt64) hx hb dX0_race_20 rfl ?_
      refine lv_lconst (v := 1) hx hb dX0_race_21 (by decide) ?_
      refine lv_ldc2 (v := 9) hx hb hown (hts _ q462) dX0_race_22 ?_
      refine xx_within (rest := []) k 1 9 ⟨hx, hb, hml, hown, hts⟩ rfl (by decide) (by decide) q459 hl.1 rfl rfl (Nat.le_of_ble_eq_true rfl) rfl rfl ⟨Nat.le_of_ble_eq_true rfl, Nat.le_of_ble_eq_true rfl⟩ dX0_race_25 (fun v25 e25 => ?_)
      refine lv_if_ne (tgt := 33) hx hb dX0_race_28 (by decide) (fun c28 => ?_) (fun c28 => ?_)
      · skip
        refine lv_aload_n hx hb dX0_race_33 rfl (lv_at hl 0 rfl) ?_
        refine xx_getr hx hb hts hown hK hW 9 rfl rfl (by decide) (by decide) q278 dX0_race_34 ?_
        refine lv_iload_n hx hb dX0_race_37 rfl (lv_at hl 1 rfl) ?_
        refine xx_wald hx hb hK hW (ww_in (by omega) (by omega)) dX0_race_38 ?_
        refine xl_astore (lv' := [(4, va_rf (xx_o D (rd_ X 9 m))), (0, .ref o), (1, .int m), (2, .int y), (3, .int k)]) hx hb dX0_race_39 hl (by decide) rfl (fun ls hl => ?_)
        refine xl_aload hx hb dX0_race_41 (lv_at hl 0 rfl) ?_
        refine xl_ifnull (tgt := 63) hx hb dX0_race_43 (by decide) (fun c43 => ?_) (fun c43 => ?_)
        · have t43 : ((rd_ X 9 m)).toInt < 0 := ww_lt c43
          refine lv_bipush (v := (-2)) hx hb dX0_race_63 (by decide) ?_
          refine xw_iret hx hb hr hlocks hW hS ?_ dX0_race_65
          have hres : xf_race X m y k = (-2) := by subst e1 e13 e25; simp only [xf_race, if_neg c4, if_neg c16, if_neg c28, if_pos c43]
          exact ⟨by rw [hres], rfl, rfl⟩
        · have t43 : 0 ≤ ((rd_ X 9 m)).toInt := ww_nlt c43
          have hi := hJw m (by omega) (by omega) c43
          refine xl_aload hx hb dX0_race_46 (lv_at hl 0 rfl) ?_
          refine xw_p (xd_isThrough_X0 (rest := []) lQ ⟨hx, hb, hml, hown, hts⟩ hK hN hW hi ⟨Nat.le_of_ble_eq_true rfl, Nat.le_of_ble_eq_true rfl⟩ hl.1 (by rw [xx_o_pos hi.1.1]; rfl) (Nat.le_of_ble_eq_true rfl) dX0_race_48 ⟨Nat.le_of_ble_eq_true rfl, Nat.le_of_ble_eq_true rfl⟩) hS (fun v48 H locs e48 hW hS => ?_)
          refine lv_if_ne (tgt := 63) hx hb dX0_race_51 (by decide) (fun c51 => ?_) (fun c51 => ?_)
          · skip
            refine lv_bipush (v := (-2)) hx hb dX0_race_63 (by decide) ?_
            refine xw_iret hx hb hr hlocks hW hS ?_ dX0_race_65
            have hres : xf_race X m y k = (-2) := by subst e1 e13 e25 e48; simp only [xf_race, if_neg c4, if_neg c16, if_neg c28, if_neg c43, if_neg c51]
            exact ⟨by rw [hres], rfl, rfl⟩
          · skip
            refine xl_aload hx hb dX0_race_54 (lv_at hl 0 rfl) ?_
            refine xl_top hi.1.1 ?_
            refine xb_getN hx hb hts hown hK hW hi.1 (k := 8) (xf_hole hi.2 (k := 8) (by decide)) (hN.nf q532) rfl (xb_vi (f := 66) (xf_hole hi.2 (k := 8) (by decide)) (by decide)) dX0_race_56 ?_
            refine lv_iload_n hx hb dX0_race_59 rfl (lv_at hl 3 rfl) ?_
            refine lv_icmp_lt (tgt := 66) hx hb dX0_race_60 (by decide) (fun c60 => ?_) (fun c60 => ?_)
            · have t60 : ((rd_ X 66 (rd_ X 9 m))).toInt < (y).toInt := ww_lt c60
              refine lv_iload_n hx hb dX0_race_66 rfl (lv_at hl 3 rfl) ?_
              refine xl_aload hx hb dX0_race_67 (lv_at hl 0 rfl) ?_
              refine xl_top hi.1.1 ?_
              refine xb_getN hx hb hts hown hK hW hi.1 (k := 8) (xf_hole hi.2 (k := 8) (by decide)) (hN.nf q532) rfl (xb_vi (f := 66) (xf_hole hi.2 (k := 8) (by decide)) (by decide)) dX0_race_69 ?_
              refine nv_isub hx hb dX0_race_72 (fun v72 e72 => ?_)
              refine lv_aload_n hx hb dX0_race_73 rfl (lv_at hl 1 rfl) ?_
              refine xx_geta hx hb hts hown hK hW 8 rfl q277 dX0_race_74 ?_
              refine lv_iload_n hx hb dX0_race_77 rfl (lv_at hl 2 rfl) ?_
              refine xx_iald hx hb hK hW 8 rfl (ww_in (by omega) (by omega)) dX0_race_78 ?_
              refine nv_imul hx hb dX0_race_79 (fun v79 e79 => ?_)
              refine lv_iload_n hx hb dX0_race_80 rfl (lv_at hl 4 rfl) ?_
              refine nv_imul hx hb dX0_race_81 (fun v81 e81 => ?_)
              refine xl_aload hx hb dX0_race_82 (lv_at hl 0 rfl) ?_
              refine xl_top hi.1.1 ?_
              refine xb_getN hx hb hts hown hK hW hi.1 (k := 10) (xf_hole hi.2 (k := 10) (by decide)) (hN.nf q536) rfl (xb_vi (f := 68) (xf_hole hi.2 (k := 10) (by decide)) (by decide)) dX0_race_84 ?_
              refine nv_isub hx hb dX0_race_87 (fun v87 e87 => ?_)
              refine lv_istore (lv' := [(5, .int v87), (4, va_rf (xx_o D (rd_ X 9 m))), (0, .ref o), (1, .int m), (2, .int y), (3, .int k)]) hx hb dX0_race_88 hl (by decide) (by simp [va_rf_c]) (fun ls hl => ?_)
              refine lv_iconst (v := 1) hx hb dX0_race_90 (by decide) ?_
              refine lv_iload hx hb dX0_race_91 (lv_at hl 0 rfl) ?_
              refine lv_bipush (v := 59) hx hb dX0_race_93 (by decide) ?_
              refine nv_iadd hx hb dX0_race_95 (fun v95 e95 => ?_)
              refine lv_bipush (v := 60) hx hb dX0_race_96 (by decide) ?_
              refine nv_idiv hx hb dX0_race_98 (by decide) (fun v98 e98 => ?_)
              refine pp_calli (As := [.int 1, .int v98]) (rest := []) (n := 2) ⟨hx, hb, hml, hown, hts⟩ (xc_max lQ 1 v98) (lw_S q866 q867 q101 q868) (by decide +kernel) rfl ⟨Nat.le_of_ble_eq_true rfl, Nat.le_of_ble_eq_true rfl⟩ hl.1 rfl (Nat.le_of_ble_eq_true rfl) dX0_race_99 ⟨Nat.le_of_ble_eq_true rfl, Nat.le_of_ble_eq_true rfl⟩ (fun v99 e99 => ?_)
              refine lv_istore (lv' := [(6, .int v99), (5, .int v87), (4, va_rf (xx_o D (rd_ X 9 m))), (0, .ref o), (1, .int m), (2, .int y), (3, .int k)]) hx hb dX0_race_102 hl (by decide) rfl (fun ls hl => ?_)
              refine lv_sipush (v := 9999) hx hb dX0_race_104 (by decide) ?_
              refine lv_aload_n hx hb dX0_race_107 rfl (lv_at hl 3 rfl) ?_
              refine xx_geti hx hb hts hown hK hW 0 rfl rfl (by decide) (by decide) q265 dX0_race_108 ?_
              refine lv_aload_n hx hb dX0_race_111 rfl (lv_at hl 3 rfl) ?_
              refine xx_geta hx hb hts hown hK hW 10 rfl q279 dX0_race_112 ?_
              refine lv_iload_n hx hb dX0_race_115 rfl (lv_at hl 4 rfl) ?_
              refine xx_iald hx hb hK hW 10 rfl (ww_in (by omega) (by omega)) dX0_race_116 ?_
              refine pp_calli (As := [.int (fd_ X 0), .int (rd_ X 10 m)]) (rest := [.int 9999]) (n := 2) ⟨hx, hb, hml, hown, hts⟩ (xc_max lQ (fd_ X 0) (rd_ X 10 m)) (lw_S q866 q867 q101 q868) (by decide +kernel) rfl ⟨Nat.le_of_ble_eq_true rfl, Nat.le_of_ble_eq_true rfl⟩ hl.1 rfl (Nat.le_of_ble_eq_true rfl) dX0_race_117 ⟨Nat.le_of_ble_eq_true rfl, Nat.le_of_ble_eq_true rfl⟩ (fun v117 e117 => ?_)
              refine lv_iload hx hb dX0_race_120 (lv_at hl 0 rfl) ?_
              refine nv_iadd hx hb dX0_race_122 (fun v122 e122 => ?_)
              refine pp_calli (As := [.int 9999, .int v122]) (rest := []) (n := 2) ⟨hx, hb, hml, hown, hts⟩ (xc_min lQ 9999 v122) (lw_S q863 q864 q101 q865) (by decide +kernel) rfl ⟨Nat.le_of_ble_eq_true rfl, Nat.le_of_ble_eq_true rfl⟩ hl.1 rfl (Nat.le_of_ble_eq_true rfl) dX0_race_123 ⟨Nat.le_of_ble_eq_true rfl, Nat.le_of_ble_eq_true rfl⟩ (fun v123 e123 => ?_)
              refine xw_iret hx hb hr hlocks hW hS ?_ dX0_race_126
              have hres : xf_race X m y k = v123 := by subst e1 e13 e25 e48 e72 e79 e81 e87 e95 e98 e99 e117 e122 e123; simp only [xf_race, if_neg c4, if_neg c16, if_neg c28, if_neg c43, if_pos c51, if_pos c60]
              exact ⟨by rw [hres], rfl, rfl⟩
            · have t60 : (y).toInt ≤ ((rd_ X 66 (rd_ X 9 m))).toInt := ww_nlt c60
              refine lv_bipush (v := (-2)) hx hb dX0_race_63 (by decide) ?_
              refine xw_iret hx hb hr hlocks hW hS ?_ dX0_race_65
              have hres : xf_race X m y k = (-2) := by subst e1 e13 e25 e48; simp only [xf_race, if_neg c4, if_neg c16, if_neg c28, if_neg c43, if_pos c51, if_neg c60]
              exact ⟨by rw [hres], rfl, rfl⟩
      · skip
        refine lv_iconst (v := (-1)) hx hb dX0_race_31 (by decide) ?_
        refine xw_iret hx hb hr hlocks hW hS ?_ dX0_race_32
        have hres : xf_race X m y k = (-1) := by subst e1 e13 e25; simp only [xf_race, if_neg c4, if_neg c16, if_pos c28]
        exact ⟨by rw [hres], rfl, rfl⟩

set_option maxHeartbeats 4000000 in
theorem xc_up (lQ : Launch) (G : wm_G) (o d0 : Nat) (X : mm_S) (E : mm_E) (D : xg) (i : Int32) (w : Int32) (hU : xv_U X) : xw_Met lQ G o d0 yX0_up (ws_ yX0_up cX0_up 3 (some .int)) 1 X E D [Value.ref o, .int i, .int w] (some (.int (xf_up X i w))) X E := by
  refine xw_start (own := RX0) (by decide +kernel) (Nat.le_of_ble_eq_true rfl) rfl (fun pQ eQ sQ mQ belowQ methQ cQ hx hb hml hr hlocks hts hown hK hN H hW hS ls hl => ?_)
  have hl : lv_has ls 3 [(0, .ref o), (1, .int i), (2, .int w)] := hl
  generalize hlc : ([] : List Loc) = locs at hS ⊢
  have hm1 := hU.2
  have hm0 := hU.1
  refine lv_iload_n hx hb dX0_up_0 rfl (lv_at hl 1 rfl) ?_
  refine lv_i2l (v := (i).toInt64) hx hb dX0_up_1 rfl ?_
  refine lv_lconst (v := 0) hx hb dX0_up_2 (by decide) ?_
  refine lv_aload_n hx hb dX0_up_3 rfl (lv_at hl 0 rfl) ?_
  refine xx_geti hx hb hts hown hK hW 55 rfl rfl (by decide) (by decide) q328 dX0_up_4 ?_
  refine lv_iconst (v := 1) hx hb dX0_up_7 (by decide) ?_
  refine nv_isub hx hb dX0_up_8 (fun v8 e8 => ?_)
  refine lv_i2l (v := (v8).toInt64) hx hb dX0_up_9 rfl ?_
  refine xx_within (rest := []) i 0 v8 ⟨hx, hb, hml, hown, hts⟩ rfl (by decide) rfl q459 hl.1 rfl rfl (Nat.le_of_ble_eq_true rfl) rfl rfl ⟨Nat.le_of_ble_eq_true rfl, Nat.le_of_ble_eq_true rfl⟩ dX0_up_10 (fun v10 e10 => ?_)
  refine lv_if_eq (tgt := 48) hx hb dX0_up_13 (by decide) (fun c13 => ?_) (fun c13 => ?_)
  · skip
    refine lv_iconst (v := (-1)) hx hb dX0_up_48 (by decide) ?_
    refine xw_iret hx hb hr hlocks hW hS ?_ dX0_up_49
    have hres : xf_up X i w = (-1) := by subst e8 e10; simp only [xf_up, if_pos c13]
    exact ⟨by rw [hres], rfl, rfl⟩
  · skip
    obtain ⟨i0, i1⟩ := ff_in_t (v := i) (a := 0) (b := fd_ X 55 - 1) (by rw [← e8, ← e10]; exact c13)
    have i0 : 0 ≤ i.toInt := i0
    rw [ww_sub1 (by omega)] at i1
    refine lv_iload_n hx hb dX0_up_16 rfl (lv_at hl 2 rfl) ?_
    refine lv_i2l (v := (w).toInt64) hx hb dX0_up_17 rfl ?_
    refine lv_lconst (v := 0) hx hb dX0_up_18 (by decide) ?_
    refine lv_lconst (v := 1) hx hb dX0_up_19 (by decide) ?_
    refine xx_within (rest := []) w 0 1 ⟨hx, hb, hml, hown, hts⟩ rfl (by decide) (by decide) q459 hl.1 rfl rfl (Nat.le_of_ble_eq_true rfl) rfl rfl ⟨Nat.le_of_ble_eq_true rfl, Nat.le_of_ble_eq_true rfl⟩ dX0_up_20 (fun v20 e20 => ?_)
    refine lv_if_eq (tgt := 48) hx hb dX0_up_23 (by decide) (fun c23 => ?_) (fun c23 => ?_)
    · skip
      refine lv_iconst (v := (-1)) hx hb dX0_up_48 (by decide) ?_
      refine xw_iret hx hb hr hlocks hW hS ?_ dX0_up_49
      have hres : xf_up X i w = (-1) := by subst e8 e10 e20; simp only [xf_up, if_neg c13, if_pos c23]
      exact ⟨by rw [hres], rfl, rfl⟩
    · skip
      refine lv_iload_n hx hb dX0_up_26 rfl (lv_at hl 2 rfl) ?_
      refine lv_if_ne (tgt := 39) hx hb dX0_up_27 (by decide) (fun c27 => ?_) (fun c27 => ?_)
      · skip
        refine lv_aload_n hx hb dX0_up_39 rfl (lv_at hl 0 rfl) ?_
        refine xx_geta hx hb hts hown hK hW 54 rfl q327 dX0_up_40 ?_
        refine lv_iload_n hx hb dX0_up_43 rfl (lv_at hl 1 rfl) ?_
        refine xx_iald hx hb hK hW 54 rfl (ww_in (by omega) (by omega)) dX0_up_44 ?_
        refine lv_goto (tgt := 49) hx hb dX0_up_45 (by decide) ?_
        refine xw_iret hx hb hr hlocks hW hS ?_ dX0_up_49
        have hres : xf_up X i w = (rd_ X 54 i) := by subst e8 e10 e20; simp only [xf_up, if_neg c13, if_neg c23, if_neg c27]
        exact ⟨by rw [hres], rfl, rfl⟩
      · skip
        refine lv_aload_n hx hb dX0_up_30 rfl (lv_at hl 0 rfl) ?_
        refine xx_geta hx hb hts hown hK hW 53 rfl q326 dX0_up_31 ?_
        refine lv_iload_n hx hb dX0_up_34 rfl (lv_at hl 1 rfl) ?_
        refine xx_iald hx hb hK hW 53 rfl (ww_in (by omega) (by omega)) dX0_up_35 ?_
        refine lv_goto (tgt := 49) hx hb dX0_up_36 (by decide) ?_
        refine xw_iret hx hb hr hlocks hW hS ?_ dX0_up_49
        have hres : xf_up X i w = (rd_ X 53 i) := by subst e8 e10 e20; simp only [xf_up, if_neg c13, if_neg c23, if_pos c27]
        exact ⟨by rw [hres], rfl, rfl⟩

set_option maxHeartbeats 4000000 in
theorem xc_raise (lQ : Launch) (G : wm_G) (o d0 : Nat) (X : mm_S) (E : mm_E) (D : xg) (n : Int32) (hU : xv_U X) : xw_Met lQ G o d0 yX0_raise (ws_ yX0_raise cX0_raise 5 (some .int)) 4 X E D [Value.ref o, .int n] (some (.int (xf_raise X n).1)) (xf_raise X n).2 E := by
  refine xw_start (own := RX0) (by decide +kernel) (Nat.le_of_ble_eq_true rfl) rfl (fun pQ eQ sQ mQ belowQ methQ cQ hx hb hml hr hlocks hts hown hK hN H hW hS ls hl => ?_)
  have hl : lv_has ls 5 [(0, .ref o), (1, .int n)] := hl
  generalize hlc : ([] : List Loc) = locs at hS ⊢
  have hm1 := hU.2
  refine lv_iload_n hx hb dX0_raise_0 rfl (lv_at hl 1 rfl) ?_
  refine lv_i2l (v := (n).toInt64) hx hb dX0_raise_1 rfl ?_
  refine lv_lconst (v := 0) hx hb dX0_raise_2 (by decide) ?_
  refine lv_ldc2 (v := 199) hx hb hown (hts _ q1309) dX0_raise_3 ?_
  refine xx_within (rest := []) n 0 199 ⟨hx, hb, hml, hown, hts⟩ rfl (by decide) (by decide) q459 hl.1 rfl rfl (Nat.le_of_ble_eq_true rfl) rfl rfl ⟨Nat.le_of_ble_eq_true rfl, Nat.le_of_ble_eq_true rfl⟩ dX0_raise_6 (fun v6 e6 => ?_)
  refine lv_if_ne (tgt := 14) hx hb dX0_raise_9 (by decide) (fun c9 => ?_) (fun c9 => ?_)
  · skip
    refine lv_aload_n hx hb dX0_raise_14 rfl (lv_at hl 0 rfl) ?_
    refine xx_geti hx hb hts hown hK hW 56 rfl rfl (by decide) (by decide) q329 dX0_raise_15 ?_
    refine lv_iconst (v := (-1)) hx hb dX0_raise_18 (by decide) ?_
    refine lv_icmp_ne (tgt := 25) hx hb dX0_raise_19 (by decide) (fun c19 => ?_) (fun c19 => ?_)
    · skip
      refine lv_iconst (v := 0) hx hb dX0_raise_25 (by decide) ?_
      refine lv_istore_n (lv' := [(2, .int 0), (0, .ref o), (1, .int n)]) hx hb dX0_raise_26 rfl hl (by decide) rfl (fun ls hl => ?_)
      refine lv_iconst (v := 0) hx hb dX0_raise_27 (by decide) ?_
      refine lv_istore_n (lv' := [(3, .int 0), (2, .int 0), (0, .ref o), (1, .int n)]) hx hb dX0_raise_28 rfl hl (by decide) rfl (fun ls hl => ?_)
      have L29 : ∀ (fu29 : Nat) (u : Int32) (i : Int32) (Y0 : mm_S) (H : Heap) (locs : List Loc), ((fd_ X 55).toInt - i.toInt < fu29) → (0 ≤ i.toInt) → (i.toInt ≤ (fd_ X 55).toInt) → (fr_ [80] X Y0) → (xf_rs_go fu29 Y0 n u i = xf_raise X n) → xx_W G o d0 Y0 E D H → va_S (xx_F o d0) sQ.heap H locs → ∀ ls : Array Slot, lv_has ls 5 [(3, .int i), (2, .int u), (0, .ref o), (1, .int n)] → W pQ lQ eQ (wm_rm 4) sQ mQ ([Value.ref o, .int n] : List Value).toArray belowQ methQ cQ H locs 0 0 (MQ belowQ (wm_Q (fun vQ HQ => vQ = some (.int (xf_raise X n).1) ∧ xx_W G o d0 (xf_raise X n).2 E D HQ) (xx_F o d0)) ([Value.ref o, .int n] : List Value).toArray sQ 0 0 (xx_F o d0)) (F0 mQ 29 ls []) := by
        intro fu29
        induction fu29 with
        | zero =>
          intro u i Y0 H locs hm29 i029 i129 iF29 hgo29 hW hS ls hl
          exact absurd hm29 (by omega)
        | succ fu29 ih29 =>
          intro u i Y0 H locs hm29 i029 i129 iF29 hgo29 hW hS ls hl
          have e55 : (fd_ Y0 55).toInt = (fd_ X 55).toInt := by rw [fd_of (iF29 55 (by decide))]
          refine lv_iload_n hx hb dX0_raise_29 rfl (lv_at hl 0 rfl) ?_
          refine lv_aload_n hx hb dX0_raise_30 rfl (lv_at hl 2 rfl) ?_
          refine xx_geti hx hb hts hown hK hW 55 rfl rfl (by decide) (by decide) q328 dX0_raise_31 ?_
          refine lv_icmp_ge (tgt := 87) hx hb dX0_raise_34 (by decide) (fun c34 => ?_) (fun c34 => ?_)
          · have t34 : ((fd_ Y0 55)).toInt ≤ (i).toInt := ww_le c34
            refine lv_iload_n hx hb dX0_raise_87 rfl (lv_at hl 1 rfl) ?_
            refine xw_iret hx hb hr hlocks hW hS ?_ dX0_raise_88
            have hres : xf_raise X n = (u, Y0) := by rw [← hgo29]; simp only [xf_rs_go, if_pos c34]
            exact ⟨by rw [hres], by rw [hres], rfl⟩
          · have t34 : (i).toInt < ((fd_ Y0 55)).toInt := ww_nle c34
            refine lv_aload_n hx hb dX0_raise_37 rfl (lv_at hl 2 rfl) ?_
            refine lv_aload_n hx hb dX0_raise_38 rfl (lv_at hl 2 rfl) ?_
            refine xx_geta hx hb hts hown hK hW 53 rfl q326 dX0_raise_39 ?_
            refine lv_iload_n hx hb dX0_raise_42 rfl (lv_at hl 0 rfl) ?_
            refine xx_iald hx hb hK hW 53 rfl (ww_in (by omega) (by omega)) dX0_raise_43 ?_
            refine xw_b (xw_rV (As := [.int (rd_ Y0 53 i)]) (rest := []) (n := 1) ⟨hx, hb, hml, hown, hts⟩ hK hN hW (xc_belowOf lQ G o d0 Y0 E D (rd_ Y0 53 i)) (lw_V q1145 q1147 qs24 q84 q1148) (xr_main hK hW) (by decide +kernel) rfl ⟨Nat.le_of_ble_eq_true rfl, Nat.le_of_ble_eq_true rfl⟩ hl.1 rfl (Nat.le_of_ble_eq_true rfl) dX0_raise_44 ⟨Nat.le_of_ble_eq_true rfl, Nat.le_of_ble_eq_true rfl⟩) hS (fun v44 H locs e44 hW hS => ?_)
            refine xl_astore (lv' := [(4, va_rf (xx_o D v44)), (3, .int i), (2, .int u), (0, .ref o), (1, .int n)]) hx hb dX0_raise_47 hl (by decide) rfl (fun ls hl => ?_)
            refine xl_aload hx hb dX0_raise_49 (lv_at hl 0 rfl) ?_
            refine xl_ifnull (tgt := 81) hx hb dX0_raise_51 (by decide) (fun c51 => ?_) (fun c51 => ?_)
            · have t51 : (v44).toInt < 0 := ww_lt c51
              obtain ⟨v81, e81⟩ : ∃ yQ : Int32, yQ = i + 1 := ⟨_, rfl⟩
              refine lv_iinc (v := v81) (lv' := [(3, .int v81), (4, va_rf (xx_o D v44)), (2, .int u), (0, .ref o), (1, .int n)]) hx hb dX0_raise_81 hl (k := 1) rfl (by rw [e81]; rfl) (by decide) rfl (fun ls hl => ?_)
              refine lv_goto (tgt := 29) hx hb dX0_raise_84 (by decide) ?_
              have tb : v81.toInt = i.toInt + 1 := by rw [e81]; exact ww_inc' (by omega)
              exact ih29 u v81 Y0 H locs (by omega) (by omega) (by omega) (by first | exact iF29 | (rw [f75]; exact iF29.wr (by decide))) (by subst e44 e81; simp only [xf_rs_go, if_neg c34, if_pos c51] at hgo29; exact hgo29) hW hS ls (lv_sub hl [0, 2, 3, 4] rfl)
            · have t51 : 0 ≤ (v44).toInt := ww_nlt c51
              have hi51 : xm_in Y0 (xf_belowOf Y0 (rd_ Y0 53 i)) := xf_belowOf_q (xv_W hW) (by rw [← e44]; exact c51)
              refine lv_aload_n hx hb dX0_raise_54 rfl (lv_at hl 3 rfl) ?_
              refine xx_geta hx hb hts hown hK hW 54 rfl q327 dX0_raise_55 ?_
              refine lv_iload_n hx hb dX0_raise_58 rfl (lv_at hl 1 rfl) ?_
              refine xx_iald hx hb hK hW 54 rfl (ww_in (by omega) (by omega)) dX0_raise_59 ?_
              refine lv_aload_n hx hb dX0_raise_60 rfl (lv_at hl 3 rfl) ?_
              refine xx_geti hx hb hts hown hK hW 56 rfl rfl (by decide) (by decide) q329 dX0_raise_61 ?_
              refine lv_iload_n hx hb dX0_raise_64 rfl (lv_at hl 4 rfl) ?_
              refine nv_iadd hx hb dX0_raise_65 (fun v65 e65 => ?_)
              refine lv_icmp_le (tgt := 72) hx hb dX0_raise_66 (by decide) (fun c66 => ?_) (fun c66 => ?_)
              · have t66 : ((rd_ Y0 54 i)).toInt ≤ (v65).toInt := ww_le c66
                refine xl_aload hx hb dX0_raise_72 (lv_at hl 0 rfl) ?_
                refine lv_iconst (v := 1) hx hb dX0_raise_74 (by decide) ?_
                refine xl_top2 (show xm_in Y0 v44 from by rw [e44]; exact hi51).1.1 ?_
                refine xb_putN hx hb hts hown hK hW hS (show xm_in Y0 v44 from by rw [e44]; exact hi51).1 (k := 5) (f := 80) (xf_man (show xm_in Y0 v44 from by rw [e44]; exact hi51).2 (k := 5) (by decide)) (xf_mnm (show xm_in Y0 v44 from by rw [e44]; exact hi51).2 (k := 5) (by decide) (by decide)) (by decide) rfl rfl rfl (hN.nf q704) rfl dX0_raise_75 (fun X75 H locs f75 hW hS => ?_)
                have hi51 : xm_in X75 (xf_belowOf Y0 (rd_ Y0 53 i)) := by rw [f75]; exact xm_wr hi51 (by decide) (by decide)
                obtain ⟨v78, e78⟩ : ∃ yQ : Int32, yQ = u + 1 := ⟨_, rfl⟩
                refine lv_iinc (v := v78) (lv' := [(2, .int v78), (4, va_rf (xx_o D v44)), (3, .int i), (0, .ref o), (1, .int n)]) hx hb dX0_raise_78 hl (k := 2) rfl (by rw [e78]; rfl) (by decide) rfl (fun ls hl => ?_)
                obtain ⟨v81, e81⟩ : ∃ yQ : Int32, yQ = i + 1 := ⟨_, rfl⟩
                refine lv_iinc (v := v81) (lv' := [(3, .int v81), (2, .int v78), (4, va_rf (xx_o D v44)), (0, .ref o), (1, .int n)]) hx hb dX0_raise_81 hl (k := 2) rfl (by rw [e81]; rfl) (by decide) rfl (fun ls hl => ?_)
                refine lv_goto (tgt := 29) hx hb dX0_raise_84 (by decide) ?_
                have tb : v81.toInt = i.toInt + 1 := by rw [e81]; exact ww_inc' (by omega)
                exact ih29 v78 v81 X75 H locs (by omega) (by omega) (by omega) (by first | exact iF29 | (rw [f75]; exact iF29.wr (by decide))) (by subst e44 e65 f75 e78 e81; simp only [xf_rs_go, if_neg c34, if_neg c51, if_pos c66] at hgo29; exact hgo29) hW hS ls (lv_sub hl [0, 1, 3, 4] rfl)
              · have t66 : (v65).toInt < ((rd_ Y0 54 i)).toInt := ww_nle c66
                refine lv_goto (tgt := 81) hx hb dX0_raise_69 (by decide) ?_
                obtain ⟨v81, e81⟩ : ∃ yQ : Int32, yQ = i + 1 := ⟨_, rfl⟩
                refine lv_iinc (v := v81) (lv' := [(3, .int v81), (4, va_rf (xx_o D v44)), (2, .int u), (0, .ref o), (1, .int n)]) hx hb dX0_raise_81 hl (k := 1) rfl (by rw [e81]; rfl) (by decide) rfl (fun ls hl => ?_)
                refine lv_goto (tgt := 29) hx hb dX0_raise_84 (by decide) ?_
                have tb : v81.toInt = i.toInt + 1 := by rw [e81]; exact ww_inc' (by omega)
                exact ih29 u v81 Y0 H locs (by omega) (by omega) (by omega) (by first | exact iF29 | (rw [f75]; exact iF29.wr (by decide))) (by subst e44 e65 e81; simp only [xf_rs_go, if_neg c34, if_neg c51, if_neg c66] at hgo29; exact hgo29) hW hS ls (lv_sub hl [0, 2, 3, 4] rfl)
      exact L29 121 0 0 X H locs (by show _ - 0 < (121 : Int); omega) (by decide) hU.1 (fr_.rf X) (by subst e6; simp only [xf_raise, if_neg c9, if_neg c19]) hW hS ls (lv_sub hl [0, 1, 2, 3] rfl)
    · skip
      refine lv_bipush (v := (-2)) hx hb dX0_raise_22 (by decide) ?_
      refine xw_iret hx hb hr hlocks hW hS ?_ dX0_raise_24
      have hres : xf_raise X n = ((-2), X) := by subst e6; simp only [xf_raise, if_neg c9, if_pos c19]
      exact ⟨by rw [hres], by rw [hres], rfl⟩
  · skip
    refine lv_iconst (v := (-1)) hx hb dX0_raise_12 (by decide) ?_
    refine xw_iret hx hb hr hlocks hW hS ?_ dX0_raise_13
    have hres : xf_raise X n = ((-1), X) := by subst e6; simp only [xf_raise, if_pos c9]
    exact ⟨by rw [hres], by rw [hres], rfl⟩

set_option maxHeartbeats 4000000 in
theorem xc_trace (lQ : Launch) (G : wm_G) (o d0 : Nat) (X : mm_S) (E : mm_E) (D : xg) (i : Int32) (hr0 : 0 ≤ (fd_ X 7).toInt) : xw_Met lQ G o d0 yX0_trace (ws_ yX0_trace cX0_trace 2 (some .int)) 1 X E D [Value.ref o, .int i] (some (.int (xf_trace X i))) X E := by
  refine xw_start (own := RX0) (by decide +kernel) (Nat.le_of_ble_eq_true rfl) rfl (fun pQ eQ sQ mQ belowQ methQ cQ hx hb hml hr hlocks hts hown hK hN H hW hS ls hl => ?_)
  have hl : lv_has ls 2 [(0, .ref o), (1, .int i)] := hl
  generalize hlc : ([] : List Loc) = locs at hS ⊢
  refine lv_iload_n hx hb dX0_trace_0 rfl (lv_at hl 1 rfl) ?_
  refine lv_i2l (v := (i).toInt64) hx hb dX0_trace_1 rfl ?_
  refine lv_lconst (v := 0) hx hb dX0_trace_2 (by decide) ?_
  refine lv_aload_n hx hb dX0_trace_3 rfl (lv_at hl 0 rfl) ?_
  refine xx_geti hx hb hts hown hK hW 7 rfl rfl (by decide) (by decide) q276 dX0_trace_4 ?_
  refine lv_bipush (v := 24) hx hb dX0_trace_7 (by decide) ?_
  refine pp_calli (As := [.int (fd_ X 7), .int 24]) (rest := [.long 0, .long (i).toInt64]) (n := 2) ⟨hx, hb, hml, hown, hts⟩ (xc_min lQ (fd_ X 7) 24) (lw_S q863 q864 q101 q865) (by decide +kernel) rfl ⟨Nat.le_of_ble_eq_true rfl, Nat.le_of_ble_eq_true rfl⟩ hl.1 rfl (Nat.le_of_ble_eq_true rfl) dX0_trace_9 ⟨Nat.le_of_ble_eq_true rfl, Nat.le_of_ble_eq_true rfl⟩ (fun v9 e9 => ?_)
  refine lv_iconst (v := 1) hx hb dX0_trace_12 (by decide) ?_
  refine nv_isub hx hb dX0_trace_13 (fun v13 e13 => ?_)
  refine lv_i2l (v := (v13).toInt64) hx hb dX0_trace_14 rfl ?_
  refine xx_within (rest := []) i 0 v13 ⟨hx, hb, hml, hown, hts⟩ rfl (by decide) rfl q459 hl.1 rfl rfl (Nat.le_of_ble_eq_true rfl) rfl rfl ⟨Nat.le_of_ble_eq_true rfl, Nat.le_of_ble_eq_true rfl⟩ dX0_trace_15 (fun v15 e15 => ?_)
  refine lv_if_eq (tgt := 30) hx hb dX0_trace_18 (by decide) (fun c18 => ?_) (fun c18 => ?_)
  · skip
    refine lv_iconst (v := (-1)) hx hb dX0_trace_30 (by decide) ?_
    refine xw_iret hx hb hr hlocks hW hS ?_ dX0_trace_31
    have hres : xf_trace X i = (-1) := by subst e9 e13 e15; simp only [xf_trace, if_pos c18]
    exact ⟨by rw [hres], rfl, rfl⟩
  · skip
    obtain ⟨i0, i1⟩ := ff_in_t (v := i) (a := 0) (b := xi_min (fd_ X 7) 24 - 1) (by rw [← e9, ← e13, ← e15]; exact c18)
    have i0 : 0 ≤ i.toInt := i0
    have z24 : (24 : Int32).toInt = 24 := by decide
    rw [ww_sub1 (by rw [xi_min_t, z24]; omega), xi_min_t, z24] at i1
    refine lv_aload_n hx hb dX0_trace_21 rfl (lv_at hl 0 rfl) ?_
    refine xx_geta hx hb hts hown hK hW 6 rfl q273 dX0_trace_22 ?_
    refine lv_iload_n hx hb dX0_trace_25 rfl (lv_at hl 1 rfl) ?_
    refine xx_iald hx hb hK hW 6 rfl (ww_in (by omega) (by omega)) dX0_trace_26 ?_
    refine lv_goto (tgt := 31) hx hb dX0_trace_27 (by decide) ?_
    refine xw_iret hx hb hr hlocks hW hS ?_ dX0_trace_31
    have hres : xf_trace X i = (rd_ X 6 i) := by subst e9 e13 e15; simp only [xf_trace, if_neg c18]
    exact ⟨by rw [hres], rfl, rfl⟩

set_option maxHeartbeats 4000000 in
theorem xc_count (lQ : Launch) (G : wm_G) (o d0 : Nat) (X : mm_S) (E : mm_E) (D : xg) (w : Int32) : xw_Met lQ G o d0 yX0_count (ws_ yX0_count cX0_count 5 (some .int)) 5 X E D [Value.ref o, .int w] (some (.int (xf_count X w))) X E := by
  refine xw_start (own := RX0) (by decide +kernel) (Nat.le_of_ble_eq_true rfl) rfl (fun pQ eQ sQ mQ belowQ methQ cQ hx hb hml hr hlocks hts hown hK hN H hW hS ls hl => ?_)
  have hl : lv_has ls 5 [(0, .ref o), (1, .int w)] := hl
  generalize hlc : ([] : List Loc) = locs at hS ⊢
  refine lv_iconst (v := 0) hx hb dX0_count_0 (by decide) ?_
  refine lv_istore_n (lv' := [(2, .int 0), (0, .ref o), (1, .int w)]) hx hb dX0_count_1 rfl hl (by decide) rfl (fun ls hl => ?_)
  refine lv_iconst (v := 0) hx hb dX0_count_2 (by decide) ?_
  refine lv_istore_n (lv' := [(3, .int 0), (2, .int 0), (0, .ref o), (1, .int w)]) hx hb dX0_count_3 rfl hl (by decide) rfl (fun ls hl => ?_)
  refine lv_iconst (v := 0) hx hb dX0_count_4 (by decide) ?_
  refine lv_istore (lv' := [(4, .int 0), (3, .int 0), (2, .int 0), (0, .ref o), (1, .int w)]) hx hb dX0_count_5 hl (by decide) rfl (fun ls hl => ?_)
  have L7 : ∀ (fu7 : Nat) (a : Int32) (b : Int32) (k : Int32) (H : Heap) (locs : List Loc), ((fd_ X 4).toInt - k.toInt < fu7) → (0 ≤ k.toInt) → (k.toInt ≤ (fd_ X 4).toInt) → (xf_ct_go fu7 X a b k = xf_ct X) → xx_W G o d0 X E D H → va_S (xx_F o d0) sQ.heap H locs → ∀ ls : Array Slot, lv_has ls 5 [(4, .int k), (3, .int b), (2, .int a), (0, .ref o), (1, .int w)] → W pQ lQ eQ (wm_rm 5) sQ mQ ([Value.ref o, .int w] : List Value).toArray belowQ methQ cQ H locs 0 0 (MQ belowQ (wm_Q (fun vQ HQ => vQ = some (.int (xf_count X w)) ∧ xx_W G o d0 X E D HQ) (xx_F o d0)) ([Value.ref o, .int w] : List Value).toArray sQ 0 0 (xx_F o d0)) (F0 mQ 7 ls []) := by
    intro fu7
    induction fu7 with
    | zero =>
      intro a b k H locs hm7 i07 i17 hgo7 hW hS ls hl
      exact absurd hm7 (by omega)
    | succ fu7 ih7 =>
      intro a b k H locs hm7 i07 i17 hgo7 hW hS ls hl
      refine lv_iload hx hb dX0_count_7 (lv_at hl 0 rfl) ?_
      refine lv_aload_n hx hb dX0_count_9 rfl (lv_at hl 3 rfl) ?_
      refine xx_geti hx hb hts hown hK hW 4 rfl rfl (by decide) (by decide) q271 dX0_count_10 ?_
      refine lv_icmp_ge (tgt := 67) hx hb dX0_count_13 (by decide) (fun c13 => ?_) (fun c13 => ?_)
      · have t13 : ((fd_ X 4)).toInt ≤ (k).toInt := ww_le c13
        have g : (a, b) = xf_ct X := by rw [xf_ct_go, if_pos c13] at hgo7; exact hgo7
        have g1 : a = (xf_ct X).1 := congrArg (fun zQ => zQ.1) g
        have g2 : b = (xf_ct X).2 := congrArg (fun zQ => zQ.2) g
        clear g hgo7
        refine lv_iload_n hx hb dX0_count_67 rfl (lv_at hl 4 rfl) ?_
        by_cases k68_0 : w = 0
        · skip
          refine lv_tableIn (off := 64) (tgt := 132) hx hb dX0_count_68 (by rw [k68_0]; decide) (by rw [k68_0]; decide) (by rw [k68_0]; rfl) (by decide) ?_
          refine lv_aload_n hx hb dX0_count_132 rfl (lv_at hl 3 rfl) ?_
          refine xx_geti hx hb hts hown hK hW 4 rfl rfl (by decide) (by decide) q271 dX0_count_133 ?_
          refine xw_iret hx hb hr hlocks hW hS ?_ dX0_count_136
          have hres : xf_count X w = (fd_ X 4) := by subst g1 g2; unfold xf_count; rw [if_pos k68_0]
          exact ⟨by rw [hres], rfl, rfl⟩
        · skip
          by_cases k68_1 : w = 1
          · skip
            refine lv_tableIn (off := 69) (tgt := 137) hx hb dX0_count_68 (by rw [k68_1]; decide) (by rw [k68_1]; decide) (by rw [k68_1]; rfl) (by decide) ?_
            refine lv_iload_n hx hb dX0_count_137 rfl (lv_at hl 2 rfl) ?_
            refine xw_iret hx hb hr hlocks hW hS ?_ dX0_count_138
            have hres : xf_count X w = a := by subst g1 g2; unfold xf_count; rw [if_neg k68_0, if_pos k68_1]
            exact ⟨by rw [hres], rfl, rfl⟩
          · skip
            by_cases k68_2 : w = 2
            · skip
              refine lv_tableIn (off := 71) (tgt := 139) hx hb dX0_count_68 (by rw [k68_2]; decide) (by rw [k68_2]; decide) (by rw [k68_2]; rfl) (by decide) ?_
              refine lv_aload_n hx hb dX0_count_139 rfl (lv_at hl 3 rfl) ?_
              refine xw_p (xw_rV (As := []) (rest := []) (n := 0) ⟨hx, hb, hml, hown, hts⟩ hK hN hW (xc_throughMany lQ G o d0 X E D) (lw_V q1149 q1151 qs25 q84 q1152) (xr_main hK hW) (by decide +kernel) rfl ⟨Nat.le_of_ble_eq_true rfl, Nat.le_of_ble_eq_true rfl⟩ hl.1 rfl (Nat.le_of_ble_eq_true rfl) dX0_count_140 ⟨Nat.le_of_ble_eq_true rfl, Nat.le_of_ble_eq_true rfl⟩) hS (fun v140 H locs e140 hW hS => ?_)
              refine xw_iret hx hb hr hlocks hW hS ?_ dX0_count_143
              have hres : xf_count X w = v140 := by subst g1 g2 e140; unfold xf_count; rw [if_neg k68_0, if_neg k68_1, if_pos k68_2]
              exact ⟨by rw [hres], rfl, rfl⟩
            · skip
              by_cases k68_3 : w = 3
              · skip
                refine lv_tableIn (off := 76) (tgt := 144) hx hb dX0_count_68 (by rw [k68_3]; decide) (by rw [k68_3]; decide) (by rw [k68_3]; rfl) (by decide) ?_
                refine lv_aload_n hx hb dX0_count_144 rfl (lv_at hl 3 rfl) ?_
                refine xw_p (xw_rV (As := []) (rest := []) (n := 0) ⟨hx, hb, hml, hown, hts⟩ hK hN hW (xc_belowMany lQ G o d0 X E D) (lw_V q1141 q1143 qs23 q84 q1144) (xr_main hK hW) (by decide +kernel) rfl ⟨Nat.le_of_ble_eq_true rfl, Nat.le_of_ble_eq_true rfl⟩ hl.1 rfl (Nat.le_of_ble_eq_true rfl) dX0_count_145 ⟨Nat.le_of_ble_eq_true rfl, Nat.le_of_ble_eq_true rfl⟩) hS (fun v145 H locs e145 hW hS => ?_)
                refine xw_iret hx hb hr hlocks hW hS ?_ dX0_count_148
                have hres : xf_count X w = v145 := by subst g1 g2 e145; unfold xf_count; rw [if_neg k68_0, if_neg k68_1, if_neg k68_2, if_pos k68_3]
                exact ⟨by rw [hres], rfl, rfl⟩
              · skip
                by_cases k68_4 : w = 4
                · skip
                  refine lv_tableIn (off := 81) (tgt := 149) hx hb dX0_count_68 (by rw [k68_4]; decide) (by rw [k68_4]; decide) (by rw [k68_4]; rfl) (by decide) ?_
                  refine lv_aload_n hx hb dX0_count_149 rfl (lv_at hl 3 rfl) ?_
                  refine xx_geti hx hb hts hown hK hW 0 rfl rfl (by decide) (by decide) q265 dX0_count_150 ?_
                  refine xw_iret hx hb hr hlocks hW hS ?_ dX0_count_153
                  have hres : xf_count X w = (fd_ X 0) := by subst g1 g2; unfold xf_count; rw [if_neg k68_0, if_neg k68_1, if_neg k68_2, if_neg k68_3, if_pos k68_4]
                  exact ⟨by rw [hres], rfl, rfl⟩
                · skip
                  by_cases k68_5 : w = 5
                  · skip
                    refine lv_tableIn (off := 86) (tgt := 154) hx hb dX0_count_68 (by rw [k68_5]; decide) (by rw [k68_5]; decide) (by rw [k68_5]; rfl) (by decide) ?_
                    refine lv_aload_n hx hb dX0_count_154 rfl (lv_at hl 3 rfl) ?_
                    refine xx_geti hx hb hts hown hK hW 18 rfl rfl (by decide) (by decide) q288 dX0_count_155 ?_
                    refine xw_iret hx hb hr hlocks hW hS ?_ dX0_count_158
                    have hres : xf_count X w = (fd_ X 18) := by subst g1 g2; unfold xf_count; rw [if_neg k68_0, if_neg k68_1, if_neg k68_2, if_neg k68_3, if_neg k68_4, if_pos k68_5]
                    exact ⟨by rw [hres], rfl, rfl⟩
                  · skip
                    by_cases k68_6 : w = 6
                    · skip
                      refine lv_tableIn (off := 91) (tgt := 159) hx hb dX0_count_68 (by rw [k68_6]; decide) (by rw [k68_6]; decide) (by rw [k68_6]; rfl) (by decide) ?_
                      refine lv_aload_n hx hb dX0_count_159 rfl (lv_at hl 3 rfl) ?_
                      refine xx_geti hx hb hts hown hK hW 25 rfl rfl (by decide) (by decide) q298 dX0_count_160 ?_
                      refine xw_iret hx hb hr hlocks hW hS ?_ dX0_count_163
                      have hres : xf_count X w = (fd_ X 25) := by subst g1 g2; unfold xf_count; rw [if_neg k68_0, if_neg k68_1, if_neg k68_2, if_neg k68_3, if_neg k68_4, if_neg k68_5, if_pos k68_6]
                      exact ⟨by rw [hres], rfl, rfl⟩
                    · skip
                      by_cases k68_7 : w = 7
                      · skip
                        refine lv_tableIn (off := 96) (tgt := 164) hx hb dX0_count_68 (by rw [k68_7]; decide) (by rw [k68_7]; decide) (by rw [k68_7]; rfl) (by decide) ?_
                        refine lv_aload_n hx hb dX0_count_164 rfl (lv_at hl 3 rfl) ?_
                        refine xx_geti hx hb hts hown hK hW 22 rfl rfl (by decide) (by decide) q295 dX0_count_165 ?_
                        refine xw_iret hx hb hr hlocks hW hS ?_ dX0_count_168
                        have hres : xf_count X w = (fd_ X 22) := by subst g1 g2; unfold xf_count; rw [if_neg k68_0, if_neg k68_1, if_neg k68_2, if_neg k68_3, if_neg k68_4, if_neg k68_5, if_neg k68_6, if_pos k68_7]
                        exact ⟨by rw [hres], rfl, rfl⟩
                      · skip
                        by_cases k68_8 : w = 8
                        · skip
                          refine lv_tableIn (off := 101) (tgt := 169) hx hb dX0_count_68 (by rw [k68_8]; decide) (by rw [k68_8]; decide) (by rw [k68_8]; rfl) (by decide) ?_
                          refine lv_iload_n hx hb dX0_count_169 rfl (lv_at hl 1 rfl) ?_
                          refine xw_iret hx hb hr hlocks hW hS ?_ dX0_count_170
                          have hres : xf_count X w = b := by subst g1 g2; unfold xf_count; rw [if_neg k68_0, if_neg k68_1, if_neg k68_2, if_neg k68_3, if_neg k68_4, if_neg k68_5, if_neg k68_6, if_neg k68_7, if_pos k68_8]
                          exact ⟨by rw [hres], rfl, rfl⟩
                        · skip
                          by_cases k68_9 : w = 9
                          · skip
                            refine lv_tableIn (off := 103) (tgt := 171) hx hb dX0_count_68 (by rw [k68_9]; decide) (by rw [k68_9]; decide) (by rw [k68_9]; rfl) (by decide) ?_
                            refine lv_aload_n hx hb dX0_count_171 rfl (lv_at hl 3 rfl) ?_
                            refine xx_geti hx hb hts hown hK hW 27 rfl rfl (by decide) (by decide) q300 dX0_count_172 ?_
                            refine xw_iret hx hb hr hlocks hW hS ?_ dX0_count_175
                            have hres : xf_count X w = (fd_ X 27) := by subst g1 g2; unfold xf_count; rw [if_neg k68_0, if_neg k68_1, if_neg k68_2, if_neg k68_3, if_neg k68_4, if_neg k68_5, if_neg k68_6, if_neg k68_7, if_neg k68_8, if_pos k68_9]
                            exact ⟨by rw [hres], rfl, rfl⟩
                          · skip
                            by_cases k68_10 : w = 10
                            · skip
                              refine lv_tableIn (off := 108) (tgt := 176) hx hb dX0_count_68 (by rw [k68_10]; decide) (by rw [k68_10]; decide) (by rw [k68_10]; rfl) (by decide) ?_
                              refine lv_aload_n hx hb dX0_count_176 rfl (lv_at hl 3 rfl) ?_
                              refine xx_geti hx hb hts hown hK hW 35 rfl rfl (by decide) (by decide) q308 dX0_count_177 ?_
                              refine xw_iret hx hb hr hlocks hW hS ?_ dX0_count_180
                              have hres : xf_count X w = (fd_ X 35) := by subst g1 g2; unfold xf_count; rw [if_neg k68_0, if_neg k68_1, if_neg k68_2, if_neg k68_3, if_neg k68_4, if_neg k68_5, if_neg k68_6, if_neg k68_7, if_neg k68_8, if_neg k68_9, if_pos k68_10]
                              exact ⟨by rw [hres], rfl, rfl⟩
                            · skip
                              by_cases k68_11 : w = 11
                              · skip
                                refine lv_tableIn (off := 113) (tgt := 181) hx hb dX0_count_68 (by rw [k68_11]; decide) (by rw [k68_11]; decide) (by rw [k68_11]; rfl) (by decide) ?_
                                refine lv_aload_n hx hb dX0_count_181 rfl (lv_at hl 3 rfl) ?_
                                refine xx_geti hx hb hts hown hK hW 7 rfl rfl (by decide) (by decide) q276 dX0_count_182 ?_
                                refine xw_iret hx hb hr hlocks hW hS ?_ dX0_count_185
                                have hres : xf_count X w = (fd_ X 7) := by subst g1 g2; unfold xf_count; rw [if_neg k68_0, if_neg k68_1, if_neg k68_2, if_neg k68_3, if_neg k68_4, if_neg k68_5, if_neg k68_6, if_neg k68_7, if_neg k68_8, if_neg k68_9, if_neg k68_10, if_pos k68_11]
                                exact ⟨by rw [hres], rfl, rfl⟩
                              · skip
                                refine lv_tableOut (tgt := 186) hx hb dX0_count_68 (by have hk68_0 : (w).toInt ≠ 0 := ww_ne k68_0; have hk68_1 : (w).toInt ≠ 1 := ww_ne k68_1; have hk68_2 : (w).toInt ≠ 2 := ww_ne k68_2; have hk68_3 : (w).toInt ≠ 3 := ww_ne k68_3; have hk68_4 : (w).toInt ≠ 4 := ww_ne k68_4; have hk68_5 : (w).toInt ≠ 5 := ww_ne k68_5; have hk68_6 : (w).toInt ≠ 6 := ww_ne k68_6; have hk68_7 : (w).toInt ≠ 7 := ww_ne k68_7; have hk68_8 : (w).toInt ≠ 8 := ww_ne k68_8; have hk68_9 : (w).toInt ≠ 9 := ww_ne k68_9; have hk68_10 : (w).toInt ≠ 10 := ww_ne k68_10; have hk68_11 : (w).toInt ≠ 11 := ww_ne k68_11; omega) (by decide) ?_
                                refine lv_iconst (v := (-1)) hx hb dX0_count_186 (by decide) ?_
                                refine xw_iret hx hb hr hlocks hW hS ?_ dX0_count_187
                                have hres : xf_count X w = (-1) := by subst g1 g2; unfold xf_count; rw [if_neg k68_0, if_neg k68_1, if_neg k68_2, if_neg k68_3, if_neg k68_4, if_neg k68_5, if_neg k68_6, if_neg k68_7, if_neg k68_8, if_neg k68_9, if_neg k68_10, if_neg k68_11]
                                exact ⟨by rw [hres], rfl, rfl⟩
      · have t13 : (k).toInt < ((fd_ X 4)).toInt := ww_nle c13
        refine lv_iload_n hx hb dX0_count_16 rfl (lv_at hl 2 rfl) ?_
        refine xw_join (G := G) (o := o) (d0 := d0) (X := X) (E := E) (D := D) (H0 := sQ.heap) (P := fun w31 : Int32 => w31 = xf_hz X k) (j := 31) (rest := [.int a]) (ls := ls) (fun w31 H locs ew31 hW hS => ?_) (fun J31 => ?_)
        · skip
          refine pp_calli (As := [.int w31]) (rest := [.int a]) (n := 1) ⟨hx, hb, hml, hown, hts⟩ (xc_bit lQ w31) (lw_S q769 q770 q84 q771) (by decide +kernel) rfl ⟨Nat.le_of_ble_eq_true rfl, Nat.le_of_ble_eq_true rfl⟩ hl.1 rfl (Nat.le_of_ble_eq_true rfl) dX0_count_31 ⟨Nat.le_of_ble_eq_true rfl, Nat.le_of_ble_eq_true rfl⟩ (fun v31 e31 => ?_)
          refine nv_iadd hx hb dX0_count_34 (fun v34 e34 => ?_)
          refine lv_istore_n (lv' := [(2, .int v34), (4, .int k), (3, .int b), (0, .ref o), (1, .int w)]) hx hb dX0_count_35 rfl hl (by decide) rfl (fun ls hl => ?_)
          refine lv_iload_n hx hb dX0_count_36 rfl (lv_at hl 2 rfl) ?_
          refine xw_join (G := G) (o := o) (d0 := d0) (X := X) (E := E) (D := D) (H0 := sQ.heap) (P := fun w59 : Int32 => w59 = xf_hb X k) (j := 59) (rest := [.int b]) (ls := ls) (fun w59 H locs ew59 hW hS => ?_) (fun J59 => ?_)
          · skip
            refine nv_iadd hx hb dX0_count_59 (fun v59 e59 => ?_)
            refine lv_istore_n (lv' := [(3, .int v59), (2, .int v34), (4, .int k), (0, .ref o), (1, .int w)]) hx hb dX0_count_60 rfl hl (by decide) rfl (fun ls hl => ?_)
            obtain ⟨v61, e61⟩ : ∃ yQ : Int32, yQ = k + 1 := ⟨_, rfl⟩
            refine lv_iinc (v := v61) (lv' := [(4, .int v61), (3, .int v59), (2, .int v34), (0, .ref o), (1, .int w)]) hx hb dX0_count_61 hl (k := 2) rfl (by rw [e61]; rfl) (by decide) rfl (fun ls hl => ?_)
            refine lv_goto (tgt := 7) hx hb dX0_count_64 (by decide) ?_
            have tb : v61.toInt = k.toInt + 1 := by rw [e61]; exact ww_inc t13
            exact ih7 v34 v59 v61 H locs (by omega) (by omega) (by omega) (by subst ew31 e31 e34 ew59 e59 e61; simp only [xf_ct_go, if_neg c13] at hgo7; exact hgo7) hW hS ls (lv_sub hl [0, 1, 2, 3, 4] rfl)
          refine lv_aload_n hx hb dX0_count_37 rfl (lv_at hl 3 rfl) ?_
          refine lv_iload hx hb dX0_count_38 (lv_at hl 1 rfl) ?_
          refine xw_b (xw_rV (As := [.int k]) (rest := [.int b]) (n := 1) ⟨hx, hb, hml, hown, hts⟩ hK hN hW (xc_holeOf lQ G o d0 X E D k) (lw_V q754 q756 qs3 q84 q757) (xr_main hK hW) (by decide +kernel) rfl ⟨Nat.le_of_ble_eq_true rfl, Nat.le_of_ble_eq_true rfl⟩ hl.1 rfl (Nat.le_of_ble_eq_true rfl) dX0_count_40 ⟨Nat.le_of_ble_eq_true rfl, Nat.le_of_ble_eq_true rfl⟩) hS (fun v40 H locs e40 hW hS => ?_)
          refine xl_ifnull (tgt := 58) hx hb dX0_count_43 (by decide) (fun c43 => ?_) (fun c43 => ?_)
          · have t43 : (v40).toInt < 0 := ww_lt c43
            refine lv_iconst (v := 0) hx hb dX0_count_58 (by decide) ?_
            exact J59 _ H locs (by subst ew31 e31 e34 e40; simp only [if_neg c13, if_pos c43, xf_hb]) hW hS
          · have t43 : 0 ≤ (v40).toInt := ww_nlt c43
            have hi43 : xh_in X (xf_holeOf X k) := xf_holeOf_q (xv_W hW) (by rw [← e40]; exact c43)
            refine lv_aload_n hx hb dX0_count_46 rfl (lv_at hl 3 rfl) ?_
            refine lv_iload hx hb dX0_count_47 (lv_at hl 1 rfl) ?_
            refine xw_b (xw_rV (As := [.int k]) (rest := [.int b]) (n := 1) ⟨hx, hb, hml, hown, hts⟩ hK hN hW (xc_holeOf lQ G o d0 X E D k) (lw_V q754 q756 qs3 q84 q757) (xr_main hK hW) (by decide +kernel) rfl ⟨Nat.le_of_ble_eq_true rfl, Nat.le_of_ble_eq_true rfl⟩ hl.1 rfl (Nat.le_of_ble_eq_true rfl) dX0_count_49 ⟨Nat.le_of_ble_eq_true rfl, Nat.le_of_ble_eq_true rfl⟩) hS (fun v49 H locs e49 hW hS => ?_)
            refine xl_top (show xh_in X v49 from by rw [e49]; exact hi43).1.1 ?_
            refine xb_getN hx hb hts hown hK hW (show xh_in X v49 from by rw [e49]; exact hi43).1 (k := 8) (xf_hole (show xh_in X v49 from by rw [e49]; exact hi43).2 (k := 8) (by decide)) (hN.nf q532) rfl (xb_vi (f := 66) (xf_hole (show xh_in X v49 from by rw [e49]; exact hi43).2 (k := 8) (by decide)) (by decide)) dX0_count_52 ?_
            refine lv_goto (tgt := 59) hx hb dX0_count_55 (by decide) ?_
            exact J59 _ H locs (by subst ew31 e31 e34 e40 e49; simp only [if_neg c13, if_neg c43, xf_hb]) hW hS
        refine lv_aload_n hx hb dX0_count_17 rfl (lv_at hl 3 rfl) ?_
        refine lv_iload hx hb dX0_count_18 (lv_at hl 0 rfl) ?_
        refine xw_b (xw_rV (As := [.int k]) (rest := [.int a]) (n := 1) ⟨hx, hb, hml, hown, hts⟩ hK hN hW (xc_holeOf lQ G o d0 X E D k) (lw_V q754 q756 qs3 q84 q757) (xr_main hK hW) (by decide +kernel) rfl ⟨Nat.le_of_ble_eq_true rfl, Nat.le_of_ble_eq_true rfl⟩ hl.1 rfl (Nat.le_of_ble_eq_true rfl) dX0_count_20 ⟨Nat.le_of_ble_eq_true rfl, Nat.le_of_ble_eq_true rfl⟩) hS (fun v20 H locs e20 hW hS => ?_)
        refine xl_ifnull (tgt := 30) hx hb dX0_count_23 (by decide) (fun c23 => ?_) (fun c23 => ?_)
        · have t23 : (v20).toInt < 0 := ww_lt c23
          refine lv_iconst (v := 0) hx hb dX0_count_30 (by decide) ?_
          exact J31 _ H locs (by subst e20; simp only [if_neg c13, if_pos c23, xf_hz]) hW hS
        · have t23 : 0 ≤ (v20).toInt := ww_nlt c23
          have hi23 : xh_in X (xf_holeOf X k) := xf_holeOf_q (xv_W hW) (by rw [← e20]; exact c23)
          refine lv_iconst (v := 1) hx hb dX0_count_26 (by decide) ?_
          refine lv_goto (tgt := 31) hx hb dX0_count_27 (by decide) ?_
          exact J31 _ H locs (by subst e20; simp only [if_neg c13, if_neg c23, xf_hz]) hW hS
  exact L7 121 0 0 0 H locs (by have := (xv_W hW).2; show _ - 0 < _; omega) (by decide) (xv_W hW).1 (rfl) hW hS ls (lv_sub hl [0, 1, 2, 3, 4] rfl)

set_option maxHeartbeats 4000000 in
theorem xc_keep (lQ : Launch) (G : wm_G) (o d0 : Nat) (X : mm_S) (E : mm_E) (D : xg) (s : Int32) (b : Int32) : xw_Met lQ G o d0 yX0_keep (ws_ yX0_keep cX0_keep 3 (some .int)) 2 X E D [Value.ref o, .int s, .int b] (some (.int (xf_keep X s b).1)) (xf_keep X s b).2 E := by
  refine xw_start (own := RX0) (by decide +kernel) (Nat.le_of_ble_eq_true rfl) rfl (fun pQ eQ sQ mQ belowQ methQ cQ hx hb hml hr hlocks hts hown hK hN H hW hS ls hl => ?_)
  have hl : lv_has ls 3 [(0, .ref o), (1, .int s), (2, .int b)] := hl
  generalize hlc : ([] : List Loc) = locs at hS ⊢
  refine lv_iload_n hx hb dX0_keep_0 rfl (lv_at hl 1 rfl) ?_
  refine pp_calli (As := [.int s]) (rest := []) (n := 1) ⟨hx, hb, hml, hown, hts⟩ (xc_isShelf lQ s) (lw_S q816 q817 q84 q818) (by decide +kernel) rfl ⟨Nat.le_of_ble_eq_true rfl, Nat.le_of_ble_eq_true rfl⟩ hl.1 rfl (Nat.le_of_ble_eq_true rfl) dX0_keep_1 ⟨Nat.le_of_ble_eq_true rfl, Nat.le_of_ble_eq_true rfl⟩ (fun v1 e1 => ?_)
  refine lv_if_eq (tgt := 20) hx hb dX0_keep_4 (by decide) (fun c4 => ?_) (fun c4 => ?_)
  · skip
    refine lv_iconst (v := (-1)) hx hb dX0_keep_20 (by decide) ?_
    refine xw_iret hx hb hr hlocks hW hS ?_ dX0_keep_21
    have hres : xf_keep X s b = ((-1), X) := by subst e1; simp only [xf_keep, if_pos c4]
    exact ⟨by rw [hres], by rw [hres], rfl⟩
  · skip
    obtain ⟨s0, s1⟩ := ff_isShelf_t (s := s) (by rw [← e1]; exact c4)
    refine lv_iload_n hx hb dX0_keep_7 rfl (lv_at hl 2 rfl) ?_
    refine lv_iconst (v := (-1)) hx hb dX0_keep_8 (by decide) ?_
    refine lv_icmp_eq (tgt := 22) hx hb dX0_keep_9 (by decide) (fun c9 => ?_) (fun c9 => ?_)
    · skip
      refine lv_aload_n hx hb dX0_keep_22 rfl (lv_at hl 0 rfl) ?_
      refine xx_getr hx hb hts hown hK hW 58 rfl rfl (by decide) (by decide) q331 dX0_keep_23 ?_
      refine lv_iload_n hx hb dX0_keep_26 rfl (lv_at hl 1 rfl) ?_
      refine lv_iload_n hx hb dX0_keep_27 rfl (lv_at hl 2 rfl) ?_
      refine lv_iconst (v := (-1)) hx hb dX0_keep_28 (by decide) ?_
      refine lv_icmp_ne (tgt := 36) hx hb dX0_keep_29 (by decide) (fun c29 => ?_) (fun c29 => ?_)
      · skip
        exact absurd c9 c29
      · skip
        skip
        refine xl_null (D := D) hx hb dX0_keep_32 ?_
        refine lv_goto (tgt := 42) hx hb dX0_keep_33 (by decide) ?_
        refine xx_kast hx hb hK hN hW hS (ww_in (by omega) (by omega)) (Or.inl rfl) dX0_keep_42 (fun X42 H locs f42 hW hS => ?_)
        refine lv_iconst (v := 1) hx hb dX0_keep_43 (by decide) ?_
        refine xw_iret hx hb hr hlocks hW hS ?_ dX0_keep_44
        have hres : xf_keep X s b = (1, X42) := by subst e1 f42; simp only [xf_keep, if_neg c4, if_pos c9, c9, ↓reduceIte]
        exact ⟨by rw [hres], by rw [hres], rfl⟩
    · skip
      refine lv_aload_n hx hb dX0_keep_12 rfl (lv_at hl 0 rfl) ?_
      refine lv_iload_n hx hb dX0_keep_13 rfl (lv_at hl 2 rfl) ?_
      refine xw_p (xw_rV (As := [.int b]) (rest := []) (n := 1) ⟨hx, hb, hml, hown, hts⟩ hK hN hW (xc_isBody lQ G o d0 X E D b) (lw_V q723 q725 qs2 q84 q726) (xr_main hK hW) (by decide +kernel) rfl ⟨Nat.le_of_ble_eq_true rfl, Nat.le_of_ble_eq_true rfl⟩ hl.1 rfl (Nat.le_of_ble_eq_true rfl) dX0_keep_14 ⟨Nat.le_of_ble_eq_true rfl, Nat.le_of_ble_eq_true rfl⟩) hS (fun v14 H locs e14 hW hS => ?_)
      refine lv_if_ne (tgt := 22) hx hb dX0_keep_17 (by decide) (fun c17 => ?_) (fun c17 => ?_)
      · skip
        have hib : xb_in X b := xf_isBody_t (xv_W hW) (by rw [← e14]; exact c17)
        refine lv_aload_n hx hb dX0_keep_22 rfl (lv_at hl 0 rfl) ?_
        refine xx_getr hx hb hts hown hK hW 58 rfl rfl (by decide) (by decide) q331 dX0_keep_23 ?_
        refine lv_iload_n hx hb dX0_keep_26 rfl (lv_at hl 1 rfl) ?_
        refine lv_iload_n hx hb dX0_keep_27 rfl (lv_at hl 2 rfl) ?_
        refine lv_iconst (v := (-1)) hx hb dX0_keep_28 (by decide) ?_
        refine lv_icmp_ne (tgt := 36) hx hb dX0_keep_29 (by decide) (fun c29 => ?_) (fun c29 => ?_)
        · skip
          refine lv_aload_n hx hb dX0_keep_36 rfl (lv_at hl 0 rfl) ?_
          refine xx_getr hx hb hts hown hK hW 3 rfl rfl (by decide) (by decide) q270 dX0_keep_37 ?_
          refine lv_iload_n hx hb dX0_keep_40 rfl (lv_at hl 2 rfl) ?_
          refine xx_bald hx hb hK hW hib dX0_keep_41 ?_
          refine xx_kast hx hb hK hN hW hS (ww_in (by omega) (by omega)) (Or.inr hib) dX0_keep_42 (fun X42 H locs f42 hW hS => ?_)
          refine lv_iconst (v := 1) hx hb dX0_keep_43 (by decide) ?_
          refine xw_iret hx hb hr hlocks hW hS ?_ dX0_keep_44
          have hres : xf_keep X s b = (1, X42) := by subst e1 e14 f42; simp only [xf_keep, if_neg c4, if_neg c9, if_neg c17, if_neg c29]
          exact ⟨by rw [hres], by rw [hres], rfl⟩
        · skip
          exact absurd c29 c9
      · skip
        refine lv_iconst (v := (-1)) hx hb dX0_keep_20 (by decide) ?_
        refine xw_iret hx hb hr hlocks hW hS ?_ dX0_keep_21
        have hres : xf_keep X s b = ((-1), X) := by subst e1 e14; simp only [xf_keep, if_neg c4, if_neg c9, if_pos c17]
        exact ⟨by rw [hres], by rw [hres], rfl⟩
