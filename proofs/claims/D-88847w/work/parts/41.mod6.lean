set_option maxHeartbeats 4000000 in
theorem mc_watch (lQ : Launch) (G : wm_G) (o : Nat) (S : mm_S) (E : mm_E) (p : Int32) (q : Int32) (hB : iv_B S) : mm_Met lQ G o yX5_watch (ws_ yX5_watch cX5_watch 6 (some .int)) 1 S E [.int p, .int q] (some (.int (ff_watch S p q).1)) (ff_watch S p q).2 E := by
  refine mm_start (by decide +kernel) (Nat.le_of_ble_eq_true rfl) rfl (fun pQ eQ sQ mQ belowQ methQ cQ hx hb hml hr hlocks hts hown hK H hW hS ls hl => ?_)
  have hl : lv_has ls 6 [(0, .ref o), (1, .int p), (2, .int q)] := hl
  generalize hlc : ([] : List Loc) = locs at hS ⊢
  refine lv_iload_n hx hb dX5_watch_0 rfl (lv_at hl 1 rfl) ?_
  refine lv_iconst (v := 1) hx hb dX5_watch_1 (by decide) ?_
  refine lv_iconst (v := 3) hx hb dX5_watch_2 (by decide) ?_
  refine pp_calli (As := [.int p, .int 1, .int 3]) (rest := []) (n := 3) ⟨hx, hb, hml, hown, hts⟩ (mc_in lQ p 1 3) (lw_S q1979 q1980 q92 q1981) (by decide +kernel) rfl ⟨Nat.le_of_ble_eq_true rfl, Nat.le_of_ble_eq_true rfl⟩ hl.1 rfl (Nat.le_of_ble_eq_true rfl) dX5_watch_3 ⟨Nat.le_of_ble_eq_true rfl, Nat.le_of_ble_eq_true rfl⟩ (fun v3 e3 => ?_)
  refine lv_if_eq (tgt := 19) hx hb dX5_watch_6 (by decide) (fun c6 => ?_) (fun c6 => ?_)
  · skip
    refine lv_iconst (v := (-1)) hx hb dX5_watch_19 (by decide) ?_
    refine mm_iret hx hb hr hlocks hW hS ?_ dX5_watch_20
    have hres : ff_watch S p q = ((-1), S) := by subst e3; simp only [ff_watch, if_pos c6]
    exact ⟨by rw [hres], by rw [hres], rfl⟩
  · skip
    obtain ⟨p0, p1⟩ := ff_in_t (v := p) (a := 1) (b := 3) (by rw [← e3]; exact c6)
    have p0 : 1 ≤ p.toInt := p0
    have p1 : p.toInt ≤ 3 := p1
    refine lv_iload_n hx hb dX5_watch_9 rfl (lv_at hl 2 rfl) ?_
    refine lv_iconst (v := 0) hx hb dX5_watch_10 (by decide) ?_
    refine lv_bipush (v := 9) hx hb dX5_watch_11 (by decide) ?_
    refine pp_calli (As := [.int q, .int 0, .int 9]) (rest := []) (n := 3) ⟨hx, hb, hml, hown, hts⟩ (mc_in lQ q 0 9) (lw_S q1979 q1980 q92 q1981) (by decide +kernel) rfl ⟨Nat.le_of_ble_eq_true rfl, Nat.le_of_ble_eq_true rfl⟩ hl.1 rfl (Nat.le_of_ble_eq_true rfl) dX5_watch_13 ⟨Nat.le_of_ble_eq_true rfl, Nat.le_of_ble_eq_true rfl⟩ (fun v13 e13 => ?_)
    refine lv_if_ne (tgt := 21) hx hb dX5_watch_16 (by decide) (fun c16 => ?_) (fun c16 => ?_)
    · skip
      refine lv_iconst (v := 0) hx hb dX5_watch_21 (by decide) ?_
      refine lv_istore_n (lv' := [(3, .int 0), (0, .ref o), (1, .int p), (2, .int q)]) hx hb dX5_watch_22 rfl hl (by decide) rfl (fun ls hl => ?_)
      refine lv_iconst (v := 0) hx hb dX5_watch_23 (by decide) ?_
      refine lv_istore (lv' := [(4, .int 0), (3, .int 0), (0, .ref o), (1, .int p), (2, .int q)]) hx hb dX5_watch_24 hl (by decide) rfl (fun ls hl => ?_)
      refine lv_iconst (v := 0) hx hb dX5_watch_26 (by decide) ?_
      refine lv_istore (lv' := [(5, .int 0), (4, .int 0), (3, .int 0), (0, .ref o), (1, .int p), (2, .int q)]) hx hb dX5_watch_27 hl (by decide) rfl (fun ls hl => ?_)
      have L29 : ∀ (fu29 : Nat) (l : Int32) (n : Int32) (m : Int32) (S0 : mm_S) (H : Heap) (locs : List Loc), ((fd_ S 4).toInt - m.toInt < fu29) → (0 ≤ m.toInt) → (m.toInt ≤ (fd_ S 4).toInt) → (fr_ [75] S S0) → (0 ≤ l.toInt) → (l.toInt ≤ n.toInt) → (n.toInt ≤ 9) → (l.toInt ≤ 3 * p.toInt) → (wa_go fu29 S0 p q l n m = ff_watch S p q) → mm_W G o S0 E H → va_S (mm_F o) sQ.heap H locs → ∀ ls : Array Slot, lv_has ls 6 [(5, .int m), (4, .int n), (3, .int l), (0, .ref o), (1, .int p), (2, .int q)] → W pQ lQ eQ (wm_rm 1) sQ mQ (Value.ref o :: [.int p, .int q]).toArray belowQ methQ cQ H locs 0 0 (MQ belowQ (wm_Q (fun vQ HQ => vQ = some (.int (ff_watch S p q).1) ∧ mm_W G o (ff_watch S p q).2 E HQ) (mm_F o)) (Value.ref o :: [.int p, .int q]).toArray sQ 0 0 (mm_F o)) (F0 mQ 29 ls []) := by
        intro fu29
        induction fu29 with
        | zero =>
          intro l n m S0 H locs hm29 i029 i129 iF29 i229 i329 i429 i529 hgo29 hW hS ls hl
          exact absurd hm29 (by omega)
        | succ fu29 ih29 =>
          intro l n m S0 H locs hm29 i029 i129 iF29 i229 i329 i429 i529 hgo29 hW hS ls hl
          have e4 : (fd_ S0 4).toInt = (fd_ S 4).toInt := by rw [fd_of (iF29 4 (by decide))]
          have hb2 := hB.2
          refine lv_iload hx hb dX5_watch_29 (lv_at hl 0 rfl) ?_
          refine lv_aload_n hx hb dX5_watch_31 rfl (lv_at hl 3 rfl) ?_
          refine mm_geti hx hb hts hown hK hW 4 rfl (by decide) q1689 dX5_watch_32 ?_
          refine lv_icmp_ge (tgt := 99) hx hb dX5_watch_35 (by decide) (fun c35 => ?_) (fun c35 => ?_)
          · have t35 : ((fd_ S0 4)).toInt ≤ (m).toInt := ww_le c35
            refine lv_iload_n hx hb dX5_watch_99 rfl (lv_at hl 2 rfl) ?_
            refine lv_istore (lv' := [(5, .int l), (4, .int n), (3, .int l), (0, .ref o), (1, .int p), (2, .int q)]) hx hb dX5_watch_100 hl (by decide) rfl (fun ls hl => ?_)
            have L102 : ∀ (fu102 : Nat) (s : Int32) (S1 : mm_S) (H : Heap) (locs : List Loc), (9 - s.toInt < fu102) → (0 ≤ s.toInt) → (s.toInt ≤ 9) → (wf_go fu102 S1 p l s = ff_watch S p q) → mm_W G o S1 E H → va_S (mm_F o) sQ.heap H locs → ∀ ls : Array Slot, lv_has ls 6 [(5, .int s), (4, .int n), (3, .int l), (0, .ref o), (1, .int p), (2, .int q)] → W pQ lQ eQ (wm_rm 1) sQ mQ (Value.ref o :: [.int p, .int q]).toArray belowQ methQ cQ H locs 0 0 (MQ belowQ (wm_Q (fun vQ HQ => vQ = some (.int (ff_watch S p q).1) ∧ mm_W G o (ff_watch S p q).2 E HQ) (mm_F o)) (Value.ref o :: [.int p, .int q]).toArray sQ 0 0 (mm_F o)) (F0 mQ 102 ls []) := by
              intro fu102
              induction fu102 with
              | zero =>
                intro s S1 H locs hm102 i0102 i1102 hgo102 hW hS ls hl
                exact absurd hm102 (by omega)
              | succ fu102 ih102 =>
                intro s S1 H locs hm102 i0102 i1102 hgo102 hW hS ls hl
                refine lv_iload hx hb dX5_watch_102 (lv_at hl 0 rfl) ?_
                refine lv_bipush (v := 9) hx hb dX5_watch_104 (by decide) ?_
                refine lv_icmp_ge (tgt := 124) hx hb dX5_watch_106 (by decide) (fun c106 => ?_) (fun c106 => ?_)
                · have t106 : 9 ≤ (s).toInt := ww_le c106
                  refine lv_aload_n hx hb dX5_watch_124 rfl (lv_at hl 3 rfl) ?_
                  refine lv_iload_n hx hb dX5_watch_125 rfl (lv_at hl 4 rfl) ?_
                  refine mm_puti hx hb hts hown hK hW hS 74 rfl (by decide) rfl rfl rfl q1759 dX5_watch_126 (fun S126 H locs f126 hW hS => ?_)
                  refine lv_iload_n hx hb dX5_watch_129 rfl (lv_at hl 2 rfl) ?_
                  refine mm_iret hx hb hr hlocks hW hS ?_ dX5_watch_130
                  have hres : ff_watch S p q = (l, S126) := by rw [← hgo102]; subst f126; simp only [wf_go, if_pos c106]
                  exact ⟨by rw [hres], by rw [hres], rfl⟩
                · have t106 : (s).toInt < 9 := ww_nle c106
                  refine lv_aload_n hx hb dX5_watch_109 rfl (lv_at hl 3 rfl) ?_
                  refine mm_geta hx hb hts hown hK hW 75 rfl q1760 dX5_watch_110 ?_
                  refine lv_iload hx hb dX5_watch_113 (lv_at hl 0 rfl) ?_
                  refine lv_bipush (v := (-2)) hx hb dX5_watch_115 (by decide) ?_
                  refine mm_iast hx hb hK hW hS 75 rfl (ww_in (by omega) (by omega)) dX5_watch_117 (fun S117 H locs f117 hW hS => ?_)
                  obtain ⟨v118, e118⟩ : ∃ yQ : Int32, yQ = s + 1 := ⟨_, rfl⟩
                  refine lv_iinc (v := v118) (lv' := [(5, .int v118), (4, .int n), (3, .int l), (0, .ref o), (1, .int p), (2, .int q)]) hx hb dX5_watch_118 hl (k := 0) rfl (by rw [e118]; rfl) (by decide) rfl (fun ls hl => ?_)
                  refine lv_goto (tgt := 102) hx hb dX5_watch_121 (by decide) ?_
                  have tb : v118.toInt = s.toInt + 1 := by rw [e118]; exact ww_inc' (by omega)
                  exact ih102 v118 S117 H locs (by omega) (by omega) (by omega) (by subst f117 e118; simp only [wf_go, if_neg c106] at hgo102; exact hgo102) hW hS ls (lv_sub hl [0, 1, 2, 3, 4, 5] rfl)
            exact L102 10 l S0 H locs (by show (9 : Int) - _ < 10; omega) i229 (by omega) (by rw [← hgo29]; simp only [wa_go, wf_S, if_pos c35]) hW hS ls (lv_sub hl [0, 1, 2, 3, 4, 5] rfl)
          · have t35 : (m).toInt < ((fd_ S0 4)).toInt := ww_nle c35
            refine lv_iload hx hb dX5_watch_38 (lv_at hl 1 rfl) ?_
            refine lv_bipush (v := 9) hx hb dX5_watch_40 (by decide) ?_
            refine lv_icmp_ge (tgt := 99) hx hb dX5_watch_42 (by decide) (fun c42 => ?_) (fun c42 => ?_)
            · have t42 : 9 ≤ (n).toInt := ww_le c42
              refine lv_iload_n hx hb dX5_watch_99 rfl (lv_at hl 2 rfl) ?_
              refine lv_istore (lv' := [(5, .int l), (4, .int n), (3, .int l), (0, .ref o), (1, .int p), (2, .int q)]) hx hb dX5_watch_100 hl (by decide) rfl (fun ls hl => ?_)
              have L102 : ∀ (fu102 : Nat) (s : Int32) (S1 : mm_S) (H : Heap) (locs : List Loc), (9 - s.toInt < fu102) → (0 ≤ s.toInt) → (s.toInt ≤ 9) → (wf_go fu102 S1 p l s = ff_watch S p q) → mm_W G o S1 E H → va_S (mm_F o) sQ.heap H locs → ∀ ls : Array Slot, lv_has ls 6 [(5, .int s), (4, .int n), (3, .int l), (0, .ref o), (1, .int p), (2, .int q)] → W pQ lQ eQ (wm_rm 1) sQ mQ (Value.ref o :: [.int p, .int q]).toArray belowQ methQ cQ H locs 0 0 (MQ belowQ (wm_Q (fun vQ HQ => vQ = some (.int (ff_watch S p q).1) ∧ mm_W G o (ff_watch S p q).2 E HQ) (mm_F o)) (Value.ref o :: [.int p, .int q]).toArray sQ 0 0 (mm_F o)) (F0 mQ 102 ls []) := by
                intro fu102
                induction fu102 with
                | zero =>
                  intro s S1 H locs hm102 i0102 i1102 hgo102 hW hS ls hl
                  exact absurd hm102 (by omega)
                | succ fu102 ih102 =>
                  intro s S1 H locs hm102 i0102 i1102 hgo102 hW hS ls hl
                  refine lv_iload hx hb dX5_watch_102 (lv_at hl 0 rfl) ?_
                  refine lv_bipush (v := 9) hx hb dX5_watch_104 (by decide) ?_
                  refine lv_icmp_ge (tgt := 124) hx hb dX5_watch_106 (by decide) (fun c106 => ?_) (fun c106 => ?_)
                  · have t106 : 9 ≤ (s).toInt := ww_le c106
                    refine lv_aload_n hx hb dX5_watch_124 rfl (lv_at hl 3 rfl) ?_
                    refine lv_iload_n hx hb dX5_watch_125 rfl (lv_at hl 4 rfl) ?_
                    refine mm_puti hx hb hts hown hK hW hS 74 rfl (by decide) rfl rfl rfl q1759 dX5_watch_126 (fun S126 H locs f126 hW hS => ?_)
                    refine lv_iload_n hx hb dX5_watch_129 rfl (lv_at hl 2 rfl) ?_
                    refine mm_iret hx hb hr hlocks hW hS ?_ dX5_watch_130
                    have hres : ff_watch S p q = (l, S126) := by rw [← hgo102]; subst f126; simp only [wf_go, if_pos c106]
                    exact ⟨by rw [hres], by rw [hres], rfl⟩
                  · have t106 : (s).toInt < 9 := ww_nle c106
                    refine lv_aload_n hx hb dX5_watch_109 rfl (lv_at hl 3 rfl) ?_
                    refine mm_geta hx hb hts hown hK hW 75 rfl q1760 dX5_watch_110 ?_
                    refine lv_iload hx hb dX5_watch_113 (lv_at hl 0 rfl) ?_
                    refine lv_bipush (v := (-2)) hx hb dX5_watch_115 (by decide) ?_
                    refine mm_iast hx hb hK hW hS 75 rfl (ww_in (by omega) (by omega)) dX5_watch_117 (fun S117 H locs f117 hW hS => ?_)
                    obtain ⟨v118, e118⟩ : ∃ yQ : Int32, yQ = s + 1 := ⟨_, rfl⟩
                    refine lv_iinc (v := v118) (lv' := [(5, .int v118), (4, .int n), (3, .int l), (0, .ref o), (1, .int p), (2, .int q)]) hx hb dX5_watch_118 hl (k := 0) rfl (by rw [e118]; rfl) (by decide) rfl (fun ls hl => ?_)
                    refine lv_goto (tgt := 102) hx hb dX5_watch_121 (by decide) ?_
                    have tb : v118.toInt = s.toInt + 1 := by rw [e118]; exact ww_inc' (by omega)
                    exact ih102 v118 S117 H locs (by omega) (by omega) (by omega) (by subst f117 e118; simp only [wf_go, if_neg c106] at hgo102; exact hgo102) hW hS ls (lv_sub hl [0, 1, 2, 3, 4, 5] rfl)
              exact L102 10 l S0 H locs (by show (9 : Int) - _ < 10; omega) i229 (by omega) (by rw [← hgo29]; simp only [wa_go, wf_S, if_neg c35, if_pos c42]) hW hS ls (lv_sub hl [0, 1, 2, 3, 4, 5] rfl)
            · have t42 : (n).toInt < 9 := ww_nle c42
              refine lv_aload_n hx hb dX5_watch_45 rfl (lv_at hl 3 rfl) ?_
              refine mm_geta hx hb hts hown hK hW 20 rfl q1705 dX5_watch_46 ?_
              refine lv_iload hx hb dX5_watch_49 (lv_at hl 0 rfl) ?_
              refine mm_zald hx hb hK hW 20 rfl (ww_in (by omega) (by omega)) dX5_watch_51 ?_
              refine lv_if_ne (tgt := 58) hx hb dX5_watch_52 (by decide) (fun c52 => ?_) (fun c52 => ?_)
              · skip
                obtain ⟨v58, e58⟩ : ∃ yQ : Int32, yQ = n + 1 := ⟨_, rfl⟩
                refine lv_iinc (v := v58) (lv' := [(4, .int v58), (5, .int m), (3, .int l), (0, .ref o), (1, .int p), (2, .int q)]) hx hb dX5_watch_58 hl (k := 1) rfl (by rw [e58]; rfl) (by decide) rfl (fun ls hl => ?_)
                refine lv_aload_n hx hb dX5_watch_61 rfl (lv_at hl 3 rfl) ?_
                refine mm_geta hx hb hts hown hK hW 19 rfl q1704 dX5_watch_62 ?_
                refine lv_iload hx hb dX5_watch_65 (lv_at hl 1 rfl) ?_
                refine mm_iald hx hb hK hW 19 rfl (ww_in (by omega) (by omega)) dX5_watch_67 ?_
                refine lv_iload_n hx hb dX5_watch_68 rfl (lv_at hl 5 rfl) ?_
                refine lv_icmp_gt (tgt := 93) hx hb dX5_watch_69 (by decide) (fun c69 => ?_) (fun c69 => ?_)
                · have t69 : (q).toInt < ((rd_ S0 19 m)).toInt := ww_lt c69
                  obtain ⟨v93, e93⟩ : ∃ yQ : Int32, yQ = m + 1 := ⟨_, rfl⟩
                  refine lv_iinc (v := v93) (lv' := [(5, .int v93), (4, .int v58), (3, .int l), (0, .ref o), (1, .int p), (2, .int q)]) hx hb dX5_watch_93 hl (k := 1) rfl (by rw [e93]; rfl) (by decide) rfl (fun ls hl => ?_)
                  refine lv_goto (tgt := 29) hx hb dX5_watch_96 (by decide) ?_
                  have tb : v93.toInt = m.toInt + 1 := by rw [e93]; exact ww_inc' (by omega)
                  have tn : (n + 1).toInt = n.toInt + 1 := ww_inc' (by omega)
                  have tl : (l + 1).toInt = l.toInt + 1 := ww_inc' (by omega)
                  exact ih29 l v58 v93 S0 H locs (by omega) (by omega) (by omega) (by first | exact iF29 | (rw [f89]; exact iF29.wr (by decide))) (by first | omega | (rw [e90]; omega)) (by first | omega | (rw [e58]; omega) | (rw [e58, e90]; omega)) (by first | omega | (rw [e58]; omega)) (by first | omega | (rw [e90]; omega)) (by subst e58 e93; simp only [wa_go, if_neg c35, if_neg c42, if_neg c52, if_pos c69] at hgo29; exact hgo29) hW hS ls (lv_sub hl [0, 1, 2, 3, 4, 5] rfl)
                · have t69 : ((rd_ S0 19 m)).toInt ≤ (q).toInt := ww_nlt c69
                  refine lv_iload_n hx hb dX5_watch_72 rfl (lv_at hl 2 rfl) ?_
                  refine lv_iconst (v := 3) hx hb dX5_watch_73 (by decide) ?_
                  refine lv_iload_n hx hb dX5_watch_74 rfl (lv_at hl 4 rfl) ?_
                  refine nv_imul hx hb dX5_watch_75 (fun v75 e75 => ?_)
                  have t3p : v75.toInt = 3 * p.toInt := by
                    have z : (3 : Int32).toInt = 3 := by decide
                    rw [e75, ww_mul, z] <;> rw [z] <;> omega
                  refine lv_icmp_ne (tgt := 82) hx hb dX5_watch_76 (by decide) (fun c76 => ?_) (fun c76 => ?_)
                  · skip
                    have tne : l.toInt < 3 * p.toInt := by
                      have z := ww_ne c76
                      omega
                    refine lv_aload_n hx hb dX5_watch_82 rfl (lv_at hl 3 rfl) ?_
                    refine mm_geta hx hb hts hown hK hW 75 rfl q1760 dX5_watch_83 ?_
                    refine lv_iload_n hx hb dX5_watch_86 rfl (lv_at hl 2 rfl) ?_
                    refine lv_iload hx hb dX5_watch_87 (lv_at hl 1 rfl) ?_
                    refine mm_iast hx hb hK hW hS 75 rfl (ww_in (by omega) (by omega)) dX5_watch_89 (fun S89 H locs f89 hW hS => ?_)
                    obtain ⟨v90, e90⟩ : ∃ yQ : Int32, yQ = l + 1 := ⟨_, rfl⟩
                    refine lv_iinc (v := v90) (lv' := [(3, .int v90), (4, .int v58), (5, .int m), (0, .ref o), (1, .int p), (2, .int q)]) hx hb dX5_watch_90 hl (k := 2) rfl (by rw [e90]; rfl) (by decide) rfl (fun ls hl => ?_)
                    obtain ⟨v93, e93⟩ : ∃ yQ : Int32, yQ = m + 1 := ⟨_, rfl⟩
                    refine lv_iinc (v := v93) (lv' := [(5, .int v93), (3, .int v90), (4, .int v58), (0, .ref o), (1, .int p), (2, .int q)]) hx hb dX5_watch_93 hl (k := 2) rfl (by rw [e93]; rfl) (by decide) rfl (fun ls hl => ?_)
                    refine lv_goto (tgt := 29) hx hb dX5_watch_96 (by decide) ?_
                    have tb : v93.toInt = m.toInt + 1 := by rw [e93]; exact ww_inc' (by omega)
                    have tn : (n + 1).toInt = n.toInt + 1 := ww_inc' (by omega)
                    have tl : (l + 1).toInt = l.toInt + 1 := ww_inc' (by omega)
                    exact ih29 v90 v58 v93 S89 H locs (by omega) (by omega) (by omega) (by first | exact iF29 | (rw [f89]; exact iF29.wr (by decide))) (by first | omega | (rw [e90]; omega)) (by first | omega | (rw [e58]; omega) | (rw [e58, e90]; omega)) (by first | omega | (rw [e58]; omega)) (by first | omega | (rw [e90]; omega)) (by subst e58 e75 f89 e90 e93; simp only [wa_go, if_neg c35, if_neg c42, if_neg c52, if_neg c69, if_neg c76] at hgo29; exact hgo29) hW hS ls (lv_sub hl [0, 2, 1, 3, 4, 5] rfl)
                  · skip
                    refine lv_goto (tgt := 93) hx hb dX5_watch_79 (by decide) ?_
                    obtain ⟨v93, e93⟩ : ∃ yQ : Int32, yQ = m + 1 := ⟨_, rfl⟩
                    refine lv_iinc (v := v93) (lv' := [(5, .int v93), (4, .int v58), (3, .int l), (0, .ref o), (1, .int p), (2, .int q)]) hx hb dX5_watch_93 hl (k := 1) rfl (by rw [e93]; rfl) (by decide) rfl (fun ls hl => ?_)
                    refine lv_goto (tgt := 29) hx hb dX5_watch_96 (by decide) ?_
                    have tb : v93.toInt = m.toInt + 1 := by rw [e93]; exact ww_inc' (by omega)
                    have tn : (n + 1).toInt = n.toInt + 1 := ww_inc' (by omega)
                    have tl : (l + 1).toInt = l.toInt + 1 := ww_inc' (by omega)
                    exact ih29 l v58 v93 S0 H locs (by omega) (by omega) (by omega) (by first | exact iF29 | (rw [f89]; exact iF29.wr (by decide))) (by first | omega | (rw [e90]; omega)) (by first | omega | (rw [e58]; omega) | (rw [e58, e90]; omega)) (by first | omega | (rw [e58]; omega)) (by first | omega | (rw [e90]; omega)) (by subst e58 e75 e93; simp only [wa_go, if_neg c35, if_neg c42, if_neg c52, if_neg c69, if_pos c76] at hgo29; exact hgo29) hW hS ls (lv_sub hl [0, 1, 2, 3, 4, 5] rfl)
              · skip
                refine lv_goto (tgt := 93) hx hb dX5_watch_55 (by decide) ?_
                obtain ⟨v93, e93⟩ : ∃ yQ : Int32, yQ = m + 1 := ⟨_, rfl⟩
                refine lv_iinc (v := v93) (lv' := [(5, .int v93), (4, .int n), (3, .int l), (0, .ref o), (1, .int p), (2, .int q)]) hx hb dX5_watch_93 hl (k := 0) rfl (by rw [e93]; rfl) (by decide) rfl (fun ls hl => ?_)
                refine lv_goto (tgt := 29) hx hb dX5_watch_96 (by decide) ?_
                have tb : v93.toInt = m.toInt + 1 := by rw [e93]; exact ww_inc' (by omega)
                have tn : (n + 1).toInt = n.toInt + 1 := ww_inc' (by omega)
                have tl : (l + 1).toInt = l.toInt + 1 := ww_inc' (by omega)
                exact ih29 l n v93 S0 H locs (by omega) (by omega) (by omega) (by first | exact iF29 | (rw [f89]; exact iF29.wr (by decide))) (by first | omega | (rw [e90]; omega)) (by first | omega | (rw [e58]; omega) | (rw [e58, e90]; omega)) (by first | omega | (rw [e58]; omega)) (by first | omega | (rw [e90]; omega)) (by subst e93; simp only [wa_go, if_neg c35, if_neg c42, if_pos c52] at hgo29; exact hgo29) hW hS ls (lv_sub hl [0, 1, 2, 3, 4, 5] rfl)
      exact L29 121 0 0 0 S H locs (by have := hB.2; show _ - 0 < _; omega) (by decide) hB.1 (fr_.rf S) (by decide) (by decide) (by decide) (by show (0 : Int) ≤ _; omega) (by subst e3 e13; simp only [ff_watch, if_neg c6, if_neg c16]) hW hS ls (lv_sub hl [0, 1, 2, 3, 4, 5] rfl)
    · skip
      refine lv_iconst (v := (-1)) hx hb dX5_watch_19 (by decide) ?_
      refine mm_iret hx hb hr hlocks hW hS ?_ dX5_watch_20
      have hres : ff_watch S p q = ((-1), S) := by subst e3 e13; simp only [ff_watch, if_neg c6, if_pos c16]
      exact ⟨by rw [hres], by rw [hres], rfl⟩

set_option maxHeartbeats 4000000 in
theorem mc_watched (lQ : Launch) (G : wm_G) (o : Nat) (S : mm_S) (E : mm_E) (s : Int32) (p : Int32) (hw1 : (fd_ S 74).toInt ≤ 3) (hw0 : -1 ≤ (fd_ S 74).toInt) : mm_Met lQ G o yX5_watched (ws_ yX5_watched cX5_watched 3 (some .int)) 1 S E [.int s, .int p] (some (.int (ff_watched S s p))) S E := by
  refine mm_start (by decide +kernel) (Nat.le_of_ble_eq_true rfl) rfl (fun pQ eQ sQ mQ belowQ methQ cQ hx hb hml hr hlocks hts hown hK H hW hS ls hl => ?_)
  have hl : lv_has ls 3 [(0, .ref o), (1, .int s), (2, .int p)] := hl
  generalize hlc : ([] : List Loc) = locs at hS ⊢
  refine lv_iload_n hx hb dX5_watched_0 rfl (lv_at hl 1 rfl) ?_
  refine lv_iconst (v := 0) hx hb dX5_watched_1 (by decide) ?_
  refine lv_iconst (v := 2) hx hb dX5_watched_2 (by decide) ?_
  refine pp_calli (As := [.int s, .int 0, .int 2]) (rest := []) (n := 3) ⟨hx, hb, hml, hown, hts⟩ (mc_in lQ s 0 2) (lw_S q1979 q1980 q92 q1981) (by decide +kernel) rfl ⟨Nat.le_of_ble_eq_true rfl, Nat.le_of_ble_eq_true rfl⟩ hl.1 rfl (Nat.le_of_ble_eq_true rfl) dX5_watched_3 ⟨Nat.le_of_ble_eq_true rfl, Nat.le_of_ble_eq_true rfl⟩ (fun v3 e3 => ?_)
  refine lv_if_eq (tgt := 39) hx hb dX5_watched_6 (by decide) (fun c6 => ?_) (fun c6 => ?_)
  · skip
    refine lv_iconst (v := (-1)) hx hb dX5_watched_39 (by decide) ?_
    refine mm_iret hx hb hr hlocks hW hS ?_ dX5_watched_40
    have hres : ff_watched S s p = (-1) := by subst e3; simp only [ff_watched, if_pos c6]
    exact ⟨by rw [hres], rfl, rfl⟩
  · skip
    obtain ⟨s0, s1⟩ := ff_in_t (v := s) (a := 0) (b := 2) (by rw [← e3]; exact c6)
    have s0 : 0 ≤ s.toInt := s0
    have s1 : s.toInt ≤ 2 := s1
    refine lv_iload_n hx hb dX5_watched_9 rfl (lv_at hl 2 rfl) ?_
    refine lv_iconst (v := 0) hx hb dX5_watched_10 (by decide) ?_
    refine lv_aload_n hx hb dX5_watched_11 rfl (lv_at hl 0 rfl) ?_
    refine mm_geti hx hb hts hown hK hW 74 rfl (by decide) q1759 dX5_watched_12 ?_
    refine lv_iconst (v := 1) hx hb dX5_watched_15 (by decide) ?_
    refine nv_isub hx hb dX5_watched_16 (fun v16 e16 => ?_)
    refine pp_calli (As := [.int p, .int 0, .int v16]) (rest := []) (n := 3) ⟨hx, hb, hml, hown, hts⟩ (mc_in lQ p 0 v16) (lw_S q1979 q1980 q92 q1981) (by decide +kernel) rfl ⟨Nat.le_of_ble_eq_true rfl, Nat.le_of_ble_eq_true rfl⟩ hl.1 rfl (Nat.le_of_ble_eq_true rfl) dX5_watched_17 ⟨Nat.le_of_ble_eq_true rfl, Nat.le_of_ble_eq_true rfl⟩ (fun v17 e17 => ?_)
    refine lv_if_eq (tgt := 39) hx hb dX5_watched_20 (by decide) (fun c20 => ?_) (fun c20 => ?_)
    · skip
      refine lv_iconst (v := (-1)) hx hb dX5_watched_39 (by decide) ?_
      refine mm_iret hx hb hr hlocks hW hS ?_ dX5_watched_40
      have hres : ff_watched S s p = (-1) := by subst e3 e16 e17; simp only [ff_watched, if_neg c6, if_pos c20]
      exact ⟨by rw [hres], rfl, rfl⟩
    · skip
      obtain ⟨p0, p1⟩ := ff_in_t (v := p) (a := 0) (b := fd_ S 74 - 1) (by rw [← e16, ← e17]; exact c20)
      have p0 : 0 ≤ p.toInt := p0
      rw [ww_sub1 (by omega)] at p1
      refine lv_aload_n hx hb dX5_watched_23 rfl (lv_at hl 0 rfl) ?_
      refine mm_geta hx hb hts hown hK hW 75 rfl q1760 dX5_watched_24 ?_
      refine lv_aload_n hx hb dX5_watched_27 rfl (lv_at hl 0 rfl) ?_
      refine mm_geti hx hb hts hown hK hW 74 rfl (by decide) q1759 dX5_watched_28 ?_
      refine lv_iload_n hx hb dX5_watched_31 rfl (lv_at hl 1 rfl) ?_
      refine nv_imul hx hb dX5_watched_32 (fun v32 e32 => ?_)
      refine lv_iload_n hx hb dX5_watched_33 rfl (lv_at hl 2 rfl) ?_
      refine nv_iadd hx hb dX5_watched_34 (fun v34 e34 => ?_)
      refine mm_iald hx hb hK hW 75 rfl (by rw [e34, e32]; exact ix_9 hw1 s0 s1 p0 (by omega)) dX5_watched_35 ?_
      refine lv_goto (tgt := 40) hx hb dX5_watched_36 (by decide) ?_
      refine mm_iret hx hb hr hlocks hW hS ?_ dX5_watched_40
      have hres : ff_watched S s p = (rd_ S 75 v34) := by subst e3 e16 e17 e32 e34; simp only [ff_watched, if_neg c6, if_neg c20]
      exact ⟨by rw [hres], rfl, rfl⟩

set_option maxHeartbeats 4000000 in
theorem mc_aim (lQ : Launch) (G : wm_G) (o : Nat) (S : mm_S) (E : mm_E) (c : Int32) (v : Int32) (hA : iv_A S) : mm_Met lQ G o yX5_aim (ws_ yX5_aim cX5_aim 3 (some .int)) 1 S E [.int c, .int v] (some (.int (ff_aim S c v).1)) (ff_aim S c v).2 E := by
  refine mm_start (by decide +kernel) (Nat.le_of_ble_eq_true rfl) rfl (fun pQ eQ sQ mQ belowQ methQ cQ hx hb hml hr hlocks hts hown hK H hW hS ls hl => ?_)
  have hl : lv_has ls 3 [(0, .ref o), (1, .int c), (2, .int v)] := hl
  generalize hlc : ([] : List Loc) = locs at hS ⊢
  refine lv_iload_n hx hb dX5_aim_0 rfl (lv_at hl 1 rfl) ?_
  refine lv_iconst (v := 0) hx hb dX5_aim_1 (by decide) ?_
  refine lv_bipush (v := 31) hx hb dX5_aim_2 (by decide) ?_
  refine pp_calli (As := [.int c, .int 0, .int 31]) (rest := []) (n := 3) ⟨hx, hb, hml, hown, hts⟩ (mc_in lQ c 0 31) (lw_S q1979 q1980 q92 q1981) (by decide +kernel) rfl ⟨Nat.le_of_ble_eq_true rfl, Nat.le_of_ble_eq_true rfl⟩ hl.1 rfl (Nat.le_of_ble_eq_true rfl) dX5_aim_4 ⟨Nat.le_of_ble_eq_true rfl, Nat.le_of_ble_eq_true rfl⟩ (fun v4 e4 => ?_)
  refine lv_if_eq (tgt := 20) hx hb dX5_aim_7 (by decide) (fun c7 => ?_) (fun c7 => ?_)
  · skip
    refine lv_iconst (v := (-1)) hx hb dX5_aim_20 (by decide) ?_
    refine mm_iret hx hb hr hlocks hW hS ?_ dX5_aim_21
    have hres : ff_aim S c v = ((-1), S) := by subst e4; simp only [ff_aim, am_S, if_pos c7]
    exact ⟨by rw [hres], by rw [hres], rfl⟩
  · skip
    refine lv_iload_n hx hb dX5_aim_10 rfl (lv_at hl 2 rfl) ?_
    refine lv_iconst (v := 0) hx hb dX5_aim_11 (by decide) ?_
    refine lv_bipush (v := 9) hx hb dX5_aim_12 (by decide) ?_
    refine pp_calli (As := [.int v, .int 0, .int 9]) (rest := []) (n := 3) ⟨hx, hb, hml, hown, hts⟩ (mc_in lQ v 0 9) (lw_S q1979 q1980 q92 q1981) (by decide +kernel) rfl ⟨Nat.le_of_ble_eq_true rfl, Nat.le_of_ble_eq_true rfl⟩ hl.1 rfl (Nat.le_of_ble_eq_true rfl) dX5_aim_14 ⟨Nat.le_of_ble_eq_true rfl, Nat.le_of_ble_eq_true rfl⟩ (fun v14 e14 => ?_)
    refine lv_if_ne (tgt := 22) hx hb dX5_aim_17 (by decide) (fun c17 => ?_) (fun c17 => ?_)
    · skip
      refine lv_aload_n hx hb dX5_aim_22 rfl (lv_at hl 0 rfl) ?_
      refine mm_geti hx hb hts hown hK hW 76 rfl (by decide) q1761 dX5_aim_23 ?_
      refine lv_bipush (v := 6) hx hb dX5_aim_26 (by decide) ?_
      refine lv_icmp_ne (tgt := 34) hx hb dX5_aim_28 (by decide) (fun c28 => ?_) (fun c28 => ?_)
      · skip
        have hlt : (fd_ S 76).toInt < 6 := by
          have q1 := ww_ne c28
          have q2 := hA.2
          have q3 : (6 : Int32).toInt = 6 := by decide
          omega
        have hge := hA.1
        refine lv_aload_n hx hb dX5_aim_34 rfl (lv_at hl 0 rfl) ?_
        refine mm_geta hx hb hts hown hK hW 77 rfl q1762 dX5_aim_35 ?_
        refine lv_aload_n hx hb dX5_aim_38 rfl (lv_at hl 0 rfl) ?_
        refine mm_geti hx hb hts hown hK hW 76 rfl (by decide) q1761 dX5_aim_39 ?_
        refine lv_iload_n hx hb dX5_aim_42 rfl (lv_at hl 2 rfl) ?_
        refine mm_iast hx hb hK hW hS 77 rfl (ww_in (by omega) (by omega)) dX5_aim_43 (fun S43 H locs f43 hW hS => ?_)
        refine lv_aload_n hx hb dX5_aim_44 rfl (lv_at hl 0 rfl) ?_
        refine lv_dup hx hb dX5_aim_45 rfl ?_
        refine mm_geti hx hb hts hown hK hW 76 rfl (by decide) q1761 dX5_aim_46 ?_
        refine lv_iconst (v := 1) hx hb dX5_aim_49 (by decide) ?_
        refine nv_iadd hx hb dX5_aim_50 (fun v50 e50 => ?_)
        refine mm_puti hx hb hts hown hK hW hS 76 rfl (by decide) rfl rfl rfl q1761 dX5_aim_51 (fun S51 H locs f51 hW hS => ?_)
        refine lv_aload_n hx hb dX5_aim_54 rfl (lv_at hl 0 rfl) ?_
        refine mm_geti hx hb hts hown hK hW 76 rfl (by decide) q1761 dX5_aim_55 ?_
        refine mm_iret hx hb hr hlocks hW hS ?_ dX5_aim_58
        have hres : ff_aim S c v = ((fd_ S51 76), S51) := by subst e4 e14 f43 e50 f51; simp only [ff_aim, am_S, if_neg c7, if_neg c17, if_neg c28]
        exact ⟨by rw [hres], by rw [hres], rfl⟩
      · skip
        refine lv_bipush (v := (-3)) hx hb dX5_aim_31 (by decide) ?_
        refine mm_iret hx hb hr hlocks hW hS ?_ dX5_aim_33
        have hres : ff_aim S c v = ((-3), S) := by subst e4 e14; simp only [ff_aim, am_S, if_neg c7, if_neg c17, if_pos c28]
        exact ⟨by rw [hres], by rw [hres], rfl⟩
    · skip
      refine lv_iconst (v := (-1)) hx hb dX5_aim_20 (by decide) ?_
      refine mm_iret hx hb hr hlocks hW hS ?_ dX5_aim_21
      have hres : ff_aim S c v = ((-1), S) := by subst e4 e14; simp only [ff_aim, am_S, if_neg c7, if_pos c17]
      exact ⟨by rw [hres], by rw [hres], rfl⟩

set_option maxHeartbeats 4000000 in
theorem mc_rock (lQ : Launch) (G : wm_G) (o : Nat) (S : mm_S) (E : mm_E) (r : Int32) (i : Int32) (v : Int32) : mm_Met lQ G o yX5_rock (ws_ yX5_rock cX5_rock 5 (some .int)) 1 S E [.int r, .int i, .int v] (some (.int (ff_rock S r i v).1)) (ff_rock S r i v).2 E := by
  refine mm_start (by decide +kernel) (Nat.le_of_ble_eq_true rfl) rfl (fun pQ eQ sQ mQ belowQ methQ cQ hx hb hml hr hlocks hts hown hK H hW hS ls hl => ?_)
  have hl : lv_has ls 5 [(0, .ref o), (1, .int r), (2, .int i), (3, .int v)] := hl
  generalize hlc : ([] : List Loc) = locs at hS ⊢
  refine lv_iload_n hx hb dX5_rock_0 rfl (lv_at hl 1 rfl) ?_
  refine lv_iconst (v := 0) hx hb dX5_rock_1 (by decide) ?_
  refine lv_iconst (v := 3) hx hb dX5_rock_2 (by decide) ?_
  refine pp_calli (As := [.int r, .int 0, .int 3]) (rest := []) (n := 3) ⟨hx, hb, hml, hown, hts⟩ (mc_in lQ r 0 3) (lw_S q1979 q1980 q92 q1981) (by decide +kernel) rfl ⟨Nat.le_of_ble_eq_true rfl, Nat.le_of_ble_eq_true rfl⟩ hl.1 rfl (Nat.le_of_ble_eq_true rfl) dX5_rock_3 ⟨Nat.le_of_ble_eq_true rfl, Nat.le_of_ble_eq_true rfl⟩ (fun v3 e3 => ?_)
  refine lv_if_eq (tgt := 28) hx hb dX5_rock_6 (by decide) (fun c6 => ?_) (fun c6 => ?_)
  · skip
    refine lv_iconst (v := (-1)) hx hb dX5_rock_28 (by decide) ?_
    refine mm_iret hx hb hr hlocks hW hS ?_ dX5_rock_29
    have hres : ff_rock S r i v = ((-1), S) := by subst e3; simp only [ff_rock, if_pos c6]
    exact ⟨by rw [hres], by rw [hres], rfl⟩
  · skip
    obtain ⟨r0, r1⟩ := ff_in_t (v := r) (a := 0) (b := 3) (by rw [← e3]; exact c6)
    have r0 : 0 ≤ r.toInt := r0
    have r1 : r.toInt ≤ 3 := r1
    refine lv_iload_n hx hb dX5_rock_9 rfl (lv_at hl 2 rfl) ?_
    refine lv_iconst (v := 0) hx hb dX5_rock_10 (by decide) ?_
    refine lv_iconst (v := 5) hx hb dX5_rock_11 (by decide) ?_
    refine pp_calli (As := [.int i, .int 0, .int 5]) (rest := []) (n := 3) ⟨hx, hb, hml, hown, hts⟩ (mc_in lQ i 0 5) (lw_S q1979 q1980 q92 q1981) (by decide +kernel) rfl ⟨Nat.le_of_ble_eq_true rfl, Nat.le_of_ble_eq_true rfl⟩ hl.1 rfl (Nat.le_of_ble_eq_true rfl) dX5_rock_12 ⟨Nat.le_of_ble_eq_true rfl, Nat.le_of_ble_eq_true rfl⟩ (fun v12 e12 => ?_)
    refine lv_if_eq (tgt := 28) hx hb dX5_rock_15 (by decide) (fun c15 => ?_) (fun c15 => ?_)
    · skip
      refine lv_iconst (v := (-1)) hx hb dX5_rock_28 (by decide) ?_
      refine mm_iret hx hb hr hlocks hW hS ?_ dX5_rock_29
      have hres : ff_rock S r i v = ((-1), S) := by subst e3 e12; simp only [ff_rock, if_neg c6, if_pos c15]
      exact ⟨by rw [hres], by rw [hres], rfl⟩
    · skip
      obtain ⟨i0, i1⟩ := ff_in_t (v := i) (a := 0) (b := 5) (by rw [← e12]; exact c15)
      have i0 : 0 ≤ i.toInt := i0
      have i1 : i.toInt ≤ 5 := i1
      refine lv_iload_n hx hb dX5_rock_18 rfl (lv_at hl 3 rfl) ?_
      refine lv_iconst (v := 1) hx hb dX5_rock_19 (by decide) ?_
      refine lv_bipush (v := 9) hx hb dX5_rock_20 (by decide) ?_
      refine pp_calli (As := [.int v, .int 1, .int 9]) (rest := []) (n := 3) ⟨hx, hb, hml, hown, hts⟩ (mc_in lQ v 1 9) (lw_S q1979 q1980 q92 q1981) (by decide +kernel) rfl ⟨Nat.le_of_ble_eq_true rfl, Nat.le_of_ble_eq_true rfl⟩ hl.1 rfl (Nat.le_of_ble_eq_true rfl) dX5_rock_22 ⟨Nat.le_of_ble_eq_true rfl, Nat.le_of_ble_eq_true rfl⟩ (fun v22 e22 => ?_)
      refine lv_if_ne (tgt := 30) hx hb dX5_rock_25 (by decide) (fun c25 => ?_) (fun c25 => ?_)
      · skip
        refine lv_aload_n hx hb dX5_rock_30 rfl (lv_at hl 0 rfl) ?_
        refine mm_geta hx hb hts hown hK hW 78 rfl q1763 dX5_rock_31 ?_
        refine lv_bipush (v := 6) hx hb dX5_rock_34 (by decide) ?_
        refine lv_iload_n hx hb dX5_rock_36 rfl (lv_at hl 1 rfl) ?_
        refine nv_imul hx hb dX5_rock_37 (fun v37 e37 => ?_)
        refine lv_iload_n hx hb dX5_rock_38 rfl (lv_at hl 2 rfl) ?_
        refine nv_iadd hx hb dX5_rock_39 (fun v39 e39 => ?_)
        refine mm_iald hx hb hK hW 78 rfl (by rw [e39, e37]; exact ix_6 r0 r1 i0 i1) dX5_rock_40 ?_
        refine lv_istore (lv' := [(4, .int (rd_ S 78 v39)), (0, .ref o), (1, .int r), (2, .int i), (3, .int v)]) hx hb dX5_rock_41 hl (by decide) rfl (fun ls hl => ?_)
        refine lv_aload_n hx hb dX5_rock_43 rfl (lv_at hl 1 rfl) ?_
        refine mm_geta hx hb hts hown hK hW 78 rfl q1763 dX5_rock_44 ?_
        refine lv_bipush (v := 6) hx hb dX5_rock_47 (by decide) ?_
        refine lv_iload_n hx hb dX5_rock_49 rfl (lv_at hl 2 rfl) ?_
        refine nv_imul hx hb dX5_rock_50 (fun v50 e50 => ?_)
        refine lv_iload_n hx hb dX5_rock_51 rfl (lv_at hl 3 rfl) ?_
        refine nv_iadd hx hb dX5_rock_52 (fun v52 e52 => ?_)
        refine lv_iload_n hx hb dX5_rock_53 rfl (lv_at hl 4 rfl) ?_
        refine mm_iast hx hb hK hW hS 78 rfl (by rw [e52, e50]; exact ix_6 r0 r1 i0 i1) dX5_rock_54 (fun S54 H locs f54 hW hS => ?_)
        refine lv_iload hx hb dX5_rock_55 (lv_at hl 0 rfl) ?_
        refine mm_iret hx hb hr hlocks hW hS ?_ dX5_rock_57
        have hres : ff_rock S r i v = ((rd_ S 78 v39), S54) := by subst e3 e12 e22 e37 e39 e50 e52 f54; simp only [ff_rock, if_neg c6, if_neg c15, if_neg c25]
        exact ⟨by rw [hres], by rw [hres], rfl⟩
      · skip
        refine lv_iconst (v := (-1)) hx hb dX5_rock_28 (by decide) ?_
        refine mm_iret hx hb hr hlocks hW hS ?_ dX5_rock_29
        have hres : ff_rock S r i v = ((-1), S) := by subst e3 e12 e22; simp only [ff_rock, if_neg c6, if_neg c15, if_pos c25]
        exact ⟨by rw [hres], by rw [hres], rfl⟩

set_option maxHeartbeats 4000000 in
theorem mc_minutesAt (lQ : Launch) (G : wm_G) (o : Nat) (S : mm_S) (E : mm_E) (i : Int32) (m : Int32) (r : Int32) (y : Int32) (i0 : 0 ≤ i.toInt) (i1 : i.toInt ≤ 5) (m0 : 0 ≤ m.toInt) (m1 : m.toInt ≤ 2) (r0 : 1 ≤ r.toInt) (r1 : r.toInt ≤ 4) : mm_Met lQ G o yX5_minutesAt (ws_ yX5_minutesAt cX5_minutesAt 8 (some .int)) 0 S E [.int i, .int m, .int r, .int y] (some (.int (ff_minutesAt S i m r y))) S E := by
  refine mm_start (by decide +kernel) (Nat.le_of_ble_eq_true rfl) rfl (fun pQ eQ sQ mQ belowQ methQ cQ hx hb hml hr hlocks hts hown hK H hW hS ls hl => ?_)
  have hl : lv_has ls 8 [(0, .ref o), (1, .int i), (2, .int m), (3, .int r), (4, .int y)] := hl
  generalize hlc : ([] : List Loc) = locs at hS ⊢
  refine lv_iconst (v := 0) hx hb dX5_minutesAt_0 (by decide) ?_
  refine lv_istore (lv' := [(5, .int 0), (0, .ref o), (1, .int i), (2, .int m), (3, .int r), (4, .int y)]) hx hb dX5_minutesAt_1 hl (by decide) rfl (fun ls hl => ?_)
  refine lv_iconst (v := 0) hx hb dX5_minutesAt_3 (by decide) ?_
  refine lv_istore (lv' := [(6, .int 0), (5, .int 0), (0, .ref o), (1, .int i), (2, .int m), (3, .int r), (4, .int y)]) hx hb dX5_minutesAt_4 hl (by decide) rfl (fun ls hl => ?_)
  have L6 : ∀ (fu6 : Nat) (w : Int32) (k : Int32), (r.toInt - k.toInt < fu6) → (0 ≤ k.toInt) → (k.toInt ≤ r.toInt) → (ma_go fu6 S i m r y w k = ff_minutesAt S i m r y) → ∀ ls : Array Slot, lv_has ls 8 [(6, .int k), (5, .int w), (0, .ref o), (1, .int i), (2, .int m), (3, .int r), (4, .int y)] → W pQ lQ eQ (wm_rm 0) sQ mQ (Value.ref o :: [.int i, .int m, .int r, .int y]).toArray belowQ methQ cQ H locs 0 0 (MQ belowQ (wm_Q (fun vQ HQ => vQ = some (.int (ff_minutesAt S i m r y)) ∧ mm_W G o S E HQ) (mm_F o)) (Value.ref o :: [.int i, .int m, .int r, .int y]).toArray sQ 0 0 (mm_F o)) (F0 mQ 6 ls []) := by
    intro fu6
    induction fu6 with
    | zero =>
      intro w k hm6 k06 k16 hgo6 ls hl
      exact absurd hm6 (by omega)
    | succ fu6 ih6 =>
      intro w k hm6 k06 k16 hgo6 ls hl
      refine lv_iload hx hb dX5_minutesAt_6 (lv_at hl 0 rfl) ?_
      refine lv_iload_n hx hb dX5_minutesAt_8 rfl (lv_at hl 5 rfl) ?_
      refine lv_icmp_ge (tgt := 67) hx hb dX5_minutesAt_9 (by decide) (fun c9 => ?_) (fun c9 => ?_)
      · have t9 : (r).toInt ≤ (k).toInt := ww_le c9
        refine lv_iload hx hb dX5_minutesAt_67 (lv_at hl 1 rfl) ?_
        refine mm_iret hx hb hr hlocks hW hS ?_ dX5_minutesAt_69
        have hres : ff_minutesAt S i m r y = w := by rw [← hgo6]; simp only [ma_go, if_pos c9]
        exact ⟨by rw [hres], rfl, rfl⟩
      · have t9 : (k).toInt < (r).toInt := ww_nle c9
        refine lv_aload_n hx hb dX5_minutesAt_12 rfl (lv_at hl 2 rfl) ?_
        refine mm_geta hx hb hts hown hK hW 77 rfl q1762 dX5_minutesAt_13 ?_
        refine lv_iload_n hx hb dX5_minutesAt_16 rfl (lv_at hl 3 rfl) ?_
        refine mm_iald hx hb hK hW 77 rfl (ww_in (by omega) (by omega)) dX5_minutesAt_17 ?_
        refine lv_iconst (v := 1) hx hb dX5_minutesAt_18 (by decide) ?_
        refine nv_iadd hx hb dX5_minutesAt_19 (fun v19 e19 => ?_)
        refine lv_iload hx hb dX5_minutesAt_20 (lv_at hl 6 rfl) ?_
        refine nv_imul hx hb dX5_minutesAt_22 (fun v22 e22 => ?_)
        refine lv_aload_n hx hb dX5_minutesAt_23 rfl (lv_at hl 2 rfl) ?_
        refine mm_geta hx hb hts hown hK hW 26 rfl q1711 dX5_minutesAt_24 ?_
        refine lv_iload_n hx hb dX5_minutesAt_27 rfl (lv_at hl 4 rfl) ?_
        refine mm_iald hx hb hK hW 26 rfl (ww_in (by omega) (by omega)) dX5_minutesAt_28 ?_
        refine nv_imul hx hb dX5_minutesAt_29 (fun v29 e29 => ?_)
        refine lv_aload_n hx hb dX5_minutesAt_30 rfl (lv_at hl 2 rfl) ?_
        refine mm_geta hx hb hts hown hK hW 78 rfl q1763 dX5_minutesAt_31 ?_
        refine lv_bipush (v := 6) hx hb dX5_minutesAt_34 (by decide) ?_
        refine lv_iload hx hb dX5_minutesAt_36 (lv_at hl 0 rfl) ?_
        refine nv_imul hx hb dX5_minutesAt_38 (fun v38 e38 => ?_)
        refine lv_iload_n hx hb dX5_minutesAt_39 rfl (lv_at hl 3 rfl) ?_
        refine nv_iadd hx hb dX5_minutesAt_40 (fun v40 e40 => ?_)
        refine mm_iald hx hb hK hW 78 rfl (by rw [e40, e38]; exact ix_6 (by omega) (by omega) i0 i1) dX5_minutesAt_41 ?_
        refine nv_imul hx hb dX5_minutesAt_42 (fun v42 e42 => ?_)
        have n42 : v42 = ma_v S i m y k := by rw [e42, e29, e22, e19, e40, e38]; rfl
        refine lv_istore (lv' := [(7, .int v42), (6, .int k), (5, .int w), (0, .ref o), (1, .int i), (2, .int m), (3, .int r), (4, .int y)]) hx hb dX5_minutesAt_43 hl (by decide) rfl (fun ls hl => ?_)
        refine wm_join (P := fun w59 : Int32 => w59 = (if ma_v S i m y k ≤ w then w else ma_v S i m y k)) (j := 59) (rest := []) (ls := ls) (fun w59 ew59 => ?_) (fun J59 => ?_)
        · skip
          refine lv_istore (lv' := [(5, .int w59), (7, .int v42), (6, .int k), (0, .ref o), (1, .int i), (2, .int m), (3, .int r), (4, .int y)]) hx hb dX5_minutesAt_59 hl (by decide) rfl (fun ls hl => ?_)
          obtain ⟨v61, e61⟩ : ∃ yQ : Int32, yQ = k + 1 := ⟨_, rfl⟩
          refine lv_iinc (v := v61) (lv' := [(6, .int v61), (5, .int w59), (7, .int v42), (0, .ref o), (1, .int i), (2, .int m), (3, .int r), (4, .int y)]) hx hb dX5_minutesAt_61 hl (k := 2) rfl (by rw [e61]; rfl) (by decide) rfl (fun ls hl => ?_)
          refine lv_goto (tgt := 6) hx hb dX5_minutesAt_64 (by decide) ?_
          have tb : v61.toInt = k.toInt + 1 := by rw [e61]; exact ww_inc t9
          exact ih6 w59 v61 (by omega) (by omega) (by omega) (by subst e19 e22 e29 e38 e40 e42 ew59 e61; simp only [ma_go, if_neg c9] at hgo6; exact hgo6) ls (lv_sub hl [0, 1, 3, 4, 5, 6, 7] rfl)
        refine lv_iload hx hb dX5_minutesAt_45 (lv_at hl 0 rfl) ?_
        refine lv_iload hx hb dX5_minutesAt_47 (lv_at hl 2 rfl) ?_
        refine lv_icmp_le (tgt := 57) hx hb dX5_minutesAt_49 (by decide) (fun c49 => ?_) (fun c49 => ?_)
        · have t49 : (v42).toInt ≤ (w).toInt := ww_le c49
          refine lv_iload hx hb dX5_minutesAt_57 (lv_at hl 2 rfl) ?_
          exact J59 _ (by rw [← n42]; simp only [if_neg c9, if_pos c49])
        · have t49 : (w).toInt < (v42).toInt := ww_nle c49
          refine lv_iload hx hb dX5_minutesAt_52 (lv_at hl 0 rfl) ?_
          refine lv_goto (tgt := 59) hx hb dX5_minutesAt_54 (by decide) ?_
          exact J59 _ (by rw [← n42]; simp only [if_neg c9, if_neg c49])
  exact L6 5 0 0 (by show _ - 0 < (5 : Int); omega) (by decide) (by show 0 ≤ _; omega) (by simp only [ff_minutesAt]) ls (lv_sub hl [0, 1, 2, 3, 4, 5, 6] rfl)

set_option maxHeartbeats 4000000 in
theorem mc_aimed (lQ : Launch) (G : wm_G) (o : Nat) (S : mm_S) (E : mm_E) (r : Int32) (y : Int32) (k : Int32) (hA : iv_A S) : mm_Met lQ G o yX5_aimed (ws_ yX5_aimed cX5_aimed 11 (some .int)) 1 S E [.int r, .int y, .int k] (some (.int (ff_aimed S r y k).1)) (ff_aimed S r y k).2 E := by
  refine mm_start (by decide +kernel) (Nat.le_of_ble_eq_true rfl) rfl (fun pQ eQ sQ mQ belowQ methQ cQ hx hb hml hr hlocks hts hown hK H hW hS ls hl => ?_)
  have hl : lv_has ls 11 [(0, .ref o), (1, .int r), (2, .int y), (3, .int k)] := hl
  generalize hlc : ([] : List Loc) = locs at hS ⊢
  refine lv_iload_n hx hb dX5_aimed_0 rfl (lv_at hl 1 rfl) ?_
  refine lv_iconst (v := 1) hx hb dX5_aimed_1 (by decide) ?_
  refine lv_iconst (v := 4) hx hb dX5_aimed_2 (by decide) ?_
  refine pp_calli (As := [.int r, .int 1, .int 4]) (rest := []) (n := 3) ⟨hx, hb, hml, hown, hts⟩ (mc_in lQ r 1 4) (lw_S q1979 q1980 q92 q1981) (by decide +kernel) rfl ⟨Nat.le_of_ble_eq_true rfl, Nat.le_of_ble_eq_true rfl⟩ hl.1 rfl (Nat.le_of_ble_eq_true rfl) dX5_aimed_3 ⟨Nat.le_of_ble_eq_true rfl, Nat.le_of_ble_eq_true rfl⟩ (fun v3 e3 => ?_)
  refine lv_if_eq (tgt := 35) hx hb dX5_aimed_6 (by decide) (fun c6 => ?_) (fun c6 => ?_)
  · skip
    refine lv_iconst (v := (-1)) hx hb dX5_aimed_35 (by decide) ?_
    refine mm_iret hx hb hr hlocks hW hS ?_ dX5_aimed_36
    have hres : ff_aimed S r y k = ((-1), S) := by subst e3; simp only [ff_aimed, if_pos c6]
    exact ⟨by rw [hres], by rw [hres], rfl⟩
  · skip
    obtain ⟨r0, r1⟩ := ff_in_t (v := r) (a := 1) (b := 4) (by rw [← e3]; exact c6)
    have r0 : 1 ≤ r.toInt := r0
    have r1 : r.toInt ≤ 4 := r1
    refine lv_iload_n hx hb dX5_aimed_9 rfl (lv_at hl 2 rfl) ?_
    refine lv_iconst (v := 1) hx hb dX5_aimed_10 (by decide) ?_
    refine lv_bipush (v := 60) hx hb dX5_aimed_11 (by decide) ?_
    refine pp_calli (As := [.int y, .int 1, .int 60]) (rest := []) (n := 3) ⟨hx, hb, hml, hown, hts⟩ (mc_in lQ y 1 60) (lw_S q1979 q1980 q92 q1981) (by decide +kernel) rfl ⟨Nat.le_of_ble_eq_true rfl, Nat.le_of_ble_eq_true rfl⟩ hl.1 rfl (Nat.le_of_ble_eq_true rfl) dX5_aimed_13 ⟨Nat.le_of_ble_eq_true rfl, Nat.le_of_ble_eq_true rfl⟩ (fun v13 e13 => ?_)
    refine lv_if_eq (tgt := 35) hx hb dX5_aimed_16 (by decide) (fun c16 => ?_) (fun c16 => ?_)
    · skip
      refine lv_iconst (v := (-1)) hx hb dX5_aimed_35 (by decide) ?_
      refine mm_iret hx hb hr hlocks hW hS ?_ dX5_aimed_36
      have hres : ff_aimed S r y k = ((-1), S) := by subst e3 e13; simp only [ff_aimed, if_neg c6, if_pos c16]
      exact ⟨by rw [hres], by rw [hres], rfl⟩
    · skip
      refine lv_iload_n hx hb dX5_aimed_19 rfl (lv_at hl 3 rfl) ?_
      refine lv_iconst (v := 1) hx hb dX5_aimed_20 (by decide) ?_
      refine lv_iconst (v := 2) hx hb dX5_aimed_21 (by decide) ?_
      refine pp_calli (As := [.int k, .int 1, .int 2]) (rest := []) (n := 3) ⟨hx, hb, hml, hown, hts⟩ (mc_in lQ k 1 2) (lw_S q1979 q1980 q92 q1981) (by decide +kernel) rfl ⟨Nat.le_of_ble_eq_true rfl, Nat.le_of_ble_eq_true rfl⟩ hl.1 rfl (Nat.le_of_ble_eq_true rfl) dX5_aimed_22 ⟨Nat.le_of_ble_eq_true rfl, Nat.le_of_ble_eq_true rfl⟩ (fun v22 e22 => ?_)
      refine lv_if_eq (tgt := 35) hx hb dX5_aimed_25 (by decide) (fun c25 => ?_) (fun c25 => ?_)
      · skip
        refine lv_iconst (v := (-1)) hx hb dX5_aimed_35 (by decide) ?_
        refine mm_iret hx hb hr hlocks hW hS ?_ dX5_aimed_36
        have hres : ff_aimed S r y k = ((-1), S) := by subst e3 e13 e22; simp only [ff_aimed, if_neg c6, if_neg c16, if_pos c25]
        exact ⟨by rw [hres], by rw [hres], rfl⟩
      · skip
        refine lv_aload_n hx hb dX5_aimed_28 rfl (lv_at hl 0 rfl) ?_
        refine mm_geti hx hb hts hown hK hW 76 rfl (by decide) q1761 dX5_aimed_29 ?_
        refine lv_if_ne (tgt := 37) hx hb dX5_aimed_32 (by decide) (fun c32 => ?_) (fun c32 => ?_)
        · skip
          refine lv_iload_n hx hb dX5_aimed_37 rfl (lv_at hl 3 rfl) ?_
          refine lv_iconst (v := 2) hx hb dX5_aimed_38 (by decide) ?_
          refine lv_icmp_ne (tgt := 53) hx hb dX5_aimed_39 (by decide) (fun c39 => ?_) (fun c39 => ?_)
          · skip
            refine lv_ldcw (v := 2147483647) hx hb hown (hts _ q2276) dX5_aimed_53 ?_
            refine lv_istore (lv' := [(4, .int 2147483647), (0, .ref o), (1, .int r), (2, .int y), (3, .int k)]) hx hb dX5_aimed_56 hl (by decide) rfl (fun ls hl => ?_)
            refine lv_iconst (v := 0) hx hb dX5_aimed_58 (by decide) ?_
            refine lv_istore (lv' := [(5, .int 0), (4, .int 2147483647), (0, .ref o), (1, .int r), (2, .int y), (3, .int k)]) hx hb dX5_aimed_59 hl (by decide) rfl (fun ls hl => ?_)
            have L61 : ∀ (fu61 : Nat) (l1 : Int32) (p : Int32) (S1 : mm_S) (H : Heap) (locs : List Loc), (6 - p.toInt < fu61) → (0 ≤ p.toInt) → (p.toInt ≤ 6) → (fr_ [80, 81] S S1) → (ap_go fu61 S1 r y k l1 p = ap_s S r y k) → mm_W G o S1 E H → va_S (mm_F o) sQ.heap H locs → ∀ ls : Array Slot, lv_has ls 11 [(5, .int p), (4, .int l1), (0, .ref o), (1, .int r), (2, .int y), (3, .int k)] → W pQ lQ eQ (wm_rm 1) sQ mQ (Value.ref o :: [.int r, .int y, .int k]).toArray belowQ methQ cQ H locs 0 0 (MQ belowQ (wm_Q (fun vQ HQ => vQ = some (.int (ff_aimed S r y k).1) ∧ mm_W G o (ff_aimed S r y k).2 E HQ) (mm_F o)) (Value.ref o :: [.int r, .int y, .int k]).toArray sQ 0 0 (mm_F o)) (F0 mQ 61 ls []) := by
              intro fu61
              induction fu61 with
              | zero =>
                intro l1 p S1 H locs hm61 p061 p161 iF61 hgo61 hW hS ls hl
                exact absurd hm61 (by omega)
              | succ fu61 ih61 =>
                intro l1 p S1 H locs hm61 p061 p161 iF61 hgo61 hW hS ls hl
                have x76a : fd_ S1 76 = fd_ S 76 := fd_of (iF61 76 (by decide))
                refine lv_iload hx hb dX5_aimed_61 (lv_at hl 0 rfl) ?_
                refine lv_aload_n hx hb dX5_aimed_63 rfl (lv_at hl 2 rfl) ?_
                refine mm_geti hx hb hts hown hK hW 76 rfl (by decide) q1761 dX5_aimed_64 ?_
                refine lv_icmp_ge (tgt := 255) hx hb dX5_aimed_67 (by decide) (fun c67 => ?_) (fun c67 => ?_)
                · have t67 : ((fd_ S1 76)).toInt ≤ (p).toInt := ww_le c67
                  have hz : (l1, fw_ (fw_ S1 79 k) 76 0) = ap_s S r y k := by rw [ap_go, if_pos c67] at hgo61; exact hgo61
                  refine lv_aload_n hx hb dX5_aimed_255 rfl (lv_at hl 2 rfl) ?_
                  refine lv_iload_n hx hb dX5_aimed_256 rfl (lv_at hl 5 rfl) ?_
                  refine mm_puti hx hb hts hown hK hW hS 79 rfl (by decide) rfl rfl rfl q1764 dX5_aimed_257 (fun S257 H locs f257 hW hS => ?_)
                  refine lv_aload_n hx hb dX5_aimed_260 rfl (lv_at hl 2 rfl) ?_
                  refine lv_iconst (v := 0) hx hb dX5_aimed_261 (by decide) ?_
                  refine mm_puti hx hb hts hown hK hW hS 76 rfl (by decide) rfl rfl rfl q1761 dX5_aimed_262 (fun S262 H locs f262 hW hS => ?_)
                  refine lv_iload hx hb dX5_aimed_265 (lv_at hl 1 rfl) ?_
                  refine mm_iret hx hb hr hlocks hW hS ?_ dX5_aimed_267
                  have hres : ff_aimed S r y k = (l1, S262) := by
                    rw [f262, f257, hz]; subst e3 e13 e22 f257 f262; simp only [ff_aimed, if_neg c6, if_neg c16, if_neg c25, if_neg c32, if_neg c39, if_pos c67]
                  exact ⟨by rw [hres], by rw [hres], rfl⟩
                · have t67 : (p).toInt < ((fd_ S1 76)).toInt := ww_nle c67
                  have hp76 := hA.2
                  rw [x76a] at t67
                  refine lv_iconst (v := 0) hx hb dX5_aimed_70 (by decide) ?_
                  refine lv_istore (lv' := [(6, .int 0), (5, .int p), (4, .int l1), (0, .ref o), (1, .int r), (2, .int y), (3, .int k)]) hx hb dX5_aimed_71 hl (by decide) rfl (fun ls hl => ?_)
                  have L73 : ∀ (fu73 : Nat) (l2 : Int32) (q : Int32) (S2 : mm_S) (H : Heap) (locs : List Loc), (6 - q.toInt < fu73) → (0 ≤ q.toInt) → (q.toInt ≤ 6) → (fr_ [80, 81] S S2) → (aq_go fu73 S2 r y k p l2 q = aq_s S1 r y k p l1) → mm_W G o S2 E H → va_S (mm_F o) sQ.heap H locs → ∀ ls : Array Slot, lv_has ls 11 [(6, .int q), (5, .int p), (4, .int l2), (0, .ref o), (1, .int r), (2, .int y), (3, .int k)] → W pQ lQ eQ (wm_rm 1) sQ mQ (Value.ref o :: [.int r, .int y, .int k]).toArray belowQ methQ cQ H locs 0 0 (MQ belowQ (wm_Q (fun vQ HQ => vQ = some (.int (ff_aimed S r y k).1) ∧ mm_W G o (ff_aimed S r y k).2 E HQ) (mm_F o)) (Value.ref o :: [.int r, .int y, .int k]).toArray sQ 0 0 (mm_F o)) (F0 mQ 73 ls []) := by
                    intro fu73
                    induction fu73 with
                    | zero =>
                      intro l2 q S2 H locs hm73 q073 q173 iF73 hgo73 hW hS ls hl
                      exact absurd hm73 (by omega)
                    | succ fu73 ih73 =>
                      intro l2 q S2 H locs hm73 q073 q173 iF73 hgo73 hW hS ls hl
                      have x76 : fd_ S2 76 = fd_ S 76 := fd_of (iF73 76 (by decide))
                      refine lv_iload hx hb dX5_aimed_73 (lv_at hl 0 rfl) ?_
                      refine wm_join (P := fun w88 : Int32 => w88 = (if k = 2 then fd_ S2 76 else 1)) (j := 88) (rest := [.int q]) (ls := ls) (fun w88 ew88 => ?_) (fun J88 => ?_)
                      · skip
                        refine lv_icmp_ge (tgt := 249) hx hb dX5_aimed_88 (by decide) (fun c88 => ?_) (fun c88 => ?_)
                        · have t88 : (w88).toInt ≤ (q).toInt := ww_le c88
                          rw [ew88] at c88
                          have g2 : (l2, S2) = aq_s S1 r y k p l1 := by simp only [aq_go, if_pos c88] at hgo73; exact hgo73
                          have g21 : l2 = (aq_s S1 r y k p l1).1 := congrArg (fun zQ => zQ.1) g2
                          have g22 : S2 = (aq_s S1 r y k p l1).2 := congrArg (fun zQ => zQ.2) g2
                          clear g2 hgo73
                          obtain ⟨v249, e249⟩ : ∃ yQ : Int32, yQ = p + 1 := ⟨_, rfl⟩
                          refine lv_iinc (v := v249) (lv' := [(5, .int v249), (6, .int q), (4, .int l2), (0, .ref o), (1, .int r), (2, .int y), (3, .int k)]) hx hb dX5_aimed_249 hl (k := 1) rfl (by rw [e249]; rfl) (by decide) rfl (fun ls hl => ?_)
                          refine lv_goto (tgt := 61) hx hb dX5_aimed_252 (by decide) ?_
                          have tb : v249.toInt = p.toInt + 1 := by rw [e249]; exact ww_inc' (by omega)
                          exact ih61 l2 v249 S2 H locs (by omega) (by omega) (by omega) iF73 (by rw [e249, g21, g22]; rw [ap_go, if_neg c67] at hgo61; exact hgo61) hW hS ls (lv_sub hl [0, 2, 3, 4, 5, 6] rfl)
                        · have t88 : (q).toInt < (w88).toInt := ww_nle c88
                          have q76 : q.toInt < 6 := by
                            rw [ew88] at t88
                            have := hA.2
                            rw [x76] at t88
                            split at t88
                            · omega
                            · have z : (1 : Int32).toInt = 1 := by decide
                              omega
                          refine lv_iload_n hx hb dX5_aimed_91 rfl (lv_at hl 6 rfl) ?_
                          refine lv_iconst (v := 2) hx hb dX5_aimed_92 (by decide) ?_
                          refine lv_icmp_ne (tgt := 106) hx hb dX5_aimed_93 (by decide) (fun c93 => ?_) (fun c93 => ?_)
                          · skip
                            refine lv_iconst (v := 0) hx hb dX5_aimed_106 (by decide) ?_
                            refine lv_istore (lv' := [(7, .int 0), (6, .int q), (5, .int p), (4, .int l2), (0, .ref o), (1, .int r), (2, .int y), (3, .int k)]) hx hb dX5_aimed_107 hl (by decide) rfl (fun ls hl => ?_)
                            have L109 : ∀ (fu109 : Nat) (l3 : Int32) (m : Int32) (S3 : mm_S) (H : Heap) (locs : List Loc), (3 - m.toInt < fu109) → (0 ≤ m.toInt) → (m.toInt ≤ 3) → (fr_ [80, 81] S S3) → (an_go fu109 S3 r y k p q l3 m = an_s S2 r y k p q l2) → mm_W G o S3 E H → va_S (mm_F o) sQ.heap H locs → ∀ ls : Array Slot, lv_has ls 11 [(7, .int m), (6, .int q), (5, .int p), (4, .int l3), (0, .ref o), (1, .int r), (2, .int y), (3, .int k)] → W pQ lQ eQ (wm_rm 1) sQ mQ (Value.ref o :: [.int r, .int y, .int k]).toArray belowQ methQ cQ H locs 0 0 (MQ belowQ (wm_Q (fun vQ HQ => vQ = some (.int (ff_aimed S r y k).1) ∧ mm_W G o (ff_aimed S r y k).2 E HQ) (mm_F o)) (Value.ref o :: [.int r, .int y, .int k]).toArray sQ 0 0 (mm_F o)) (F0 mQ 109 ls []) := by
                              intro fu109
                              induction fu109 with
                              | zero =>
                                intro l3 m S3 H locs hm109 m0109 m1109 iF109 hgo109 hW hS ls hl
                                exact absurd hm109 (by omega)
                              | succ fu109 ih109 =>
                                intro l3 m S3 H locs hm109 m0109 m1109 iF109 hgo109 hW hS ls hl
                                refine lv_iload hx hb dX5_aimed_109 (lv_at hl 0 rfl) ?_
                                refine lv_iconst (v := 3) hx hb dX5_aimed_111 (by decide) ?_
                                refine lv_icmp_ge (tgt := 243) hx hb dX5_aimed_112 (by decide) (fun c112 => ?_) (fun c112 => ?_)
                                · have t112 : 3 ≤ (m).toInt := ww_le c112
                                  have g3 : (l3, S3) = an_s S2 r y k p q l2 := by simp only [an_go, if_pos c112] at hgo109; exact hgo109
                                  have g31 : l3 = (an_s S2 r y k p q l2).1 := congrArg (fun zQ => zQ.1) g3
                                  have g32 : S3 = (an_s S2 r y k p q l2).2 := congrArg (fun zQ => zQ.2) g3
                                  clear g3 hgo109
                                  obtain ⟨v243, e243⟩ : ∃ yQ : Int32, yQ = q + 1 := ⟨_, rfl⟩
                                  refine lv_iinc (v := v243) (lv' := [(6, .int v243), (7, .int m), (5, .int p), (4, .int l3), (0, .ref o), (1, .int r), (2, .int y), (3, .int k)]) hx hb dX5_aimed_243 hl (k := 1) rfl (by rw [e243]; rfl) (by decide) rfl (fun ls hl => ?_)
                                  refine lv_goto (tgt := 73) hx hb dX5_aimed_246 (by decide) ?_
                                  have tb : v243.toInt = q.toInt + 1 := by rw [e243]; exact ww_inc' (by omega)
                                  exact ih73 l3 v243 S3 H locs (by omega) (by omega) (by omega) (by first | exact iF109 | exact iF73) (by rw [ew88] at c88; rw [aq_go, if_neg c88] at hgo73; first | (rw [e243, g31, g32]; simp only [if_neg c88, if_neg c93, if_pos c112] at hgo73; exact hgo73) | (rw [e243]; simp only [if_neg c88, if_neg c93, if_pos c112] at hgo73; exact hgo73)) hW hS ls (lv_sub hl [0, 2, 3, 4, 5, 6, 7] rfl)
                                · have t112 : (m).toInt < 3 := ww_nle c112
                                  refine wm_join (P := fun w128 : Int32 => w128 = (if k = 2 then m + 1 else 2)) (j := 128) (rest := []) (ls := ls) (fun w128 ew128 => ?_) (fun J128 => ?_)
                                  · skip
                                    have w128q : 0 ≤ w128.toInt ∧ w128.toInt ≤ 3 := by
                                      rw [ew128]
                                      have tm : (m + 1).toInt = m.toInt + 1 := ww_inc' (by omega)
                                      split <;> first | omega | exact ⟨by decide, by decide⟩
                                    obtain ⟨w128a, w128b⟩ := w128q
                                    refine lv_istore (lv' := [(8, .int w128), (7, .int m), (6, .int q), (5, .int p), (4, .int l3), (0, .ref o), (1, .int r), (2, .int y), (3, .int k)]) hx hb dX5_aimed_128 hl (by decide) rfl (fun ls hl => ?_)
                                    have L130 : ∀ (fu130 : Nat) (l : Int32) (u : Int32) (S4 : mm_S) (H : Heap) (locs : List Loc), (3 - u.toInt < fu130) → (0 ≤ u.toInt) → (u.toInt ≤ 3) → (fr_ [80, 81] S S4) → (ao_go fu130 S4 r y k p q m l u = ao_s S3 r y k p q m l3) → mm_W G o S4 E H → va_S (mm_F o) sQ.heap H locs → ∀ ls : Array Slot, lv_has ls 11 [(8, .int u), (7, .int m), (6, .int q), (5, .int p), (4, .int l), (0, .ref o), (1, .int r), (2, .int y), (3, .int k)] → W pQ lQ eQ (wm_rm 1) sQ mQ (Value.ref o :: [.int r, .int y, .int k]).toArray belowQ methQ cQ H locs 0 0 (MQ belowQ (wm_Q (fun vQ HQ => vQ = some (.int (ff_aimed S r y k).1) ∧ mm_W G o (ff_aimed S r y k).2 E HQ) (mm_F o)) (Value.ref o :: [.int r, .int y, .int k]).toArray sQ 0 0 (mm_F o)) (F0 mQ 130 ls []) := by
                                      intro fu130
                                      induction fu130 with
                                      | zero =>
                                        intro l u S4 H locs hm130 u0130 u1130 iF130 hgo130 hW hS ls hl
                                        exact absurd hm130 (by omega)
                                      | succ fu130 ih130 =>
                                        intro l u S4 H locs hm130 u0130 u1130 iF130 hgo130 hW hS ls hl
                                        refine lv_iload hx hb dX5_aimed_130 (lv_at hl 0 rfl) ?_
                                        refine lv_iconst (v := 3) hx hb dX5_aimed_132 (by decide) ?_
                                        refine lv_icmp_ge (tgt := 237) hx hb dX5_aimed_133 (by decide) (fun c133 => ?_) (fun c133 => ?_)
                                        · have t133 : 3 ≤ (u).toInt := ww_le c133
                                          have g4 : (l, S4) = ao_s S3 r y k p q m l3 := by simp only [ao_go, if_pos c133] at hgo130; exact hgo130
                                          have g41 : l = (ao_s S3 r y k p q m l3).1 := congrArg (fun zQ => zQ.1) g4
                                          have g42 : S4 = (ao_s S3 r y k p q m l3).2 := congrArg (fun zQ => zQ.2) g4
                                          clear g4 hgo130
                                          obtain ⟨v237, e237⟩ : ∃ yQ : Int32, yQ = m + 1 := ⟨_, rfl⟩
                                          refine lv_iinc (v := v237) (lv' := [(7, .int v237), (8, .int u), (6, .int q), (5, .int p), (4, .int l), (0, .ref o), (1, .int r), (2, .int y), (3, .int k)]) hx hb dX5_aimed_237 hl (k := 1) rfl (by rw [e237]; rfl) (by decide) rfl (fun ls hl => ?_)
                                          refine lv_goto (tgt := 109) hx hb dX5_aimed_240 (by decide) ?_
                                          have tb : v237.toInt = m.toInt + 1 := by rw [e237]; exact ww_inc' (by omega)
                                          exact ih109 l v237 S4 H locs (by omega) (by omega) (by omega) iF130 (by rw [e237, g41, g42]; rw [an_go, if_neg c112] at hgo109; exact hgo109) hW hS ls (lv_sub hl [0, 2, 3, 4, 5, 6, 7, 8] rfl)
                                        · have t133 : (u).toInt < 3 := ww_nle c133
                                          refine lv_aload_n hx hb dX5_aimed_136 rfl (lv_at hl 5 rfl) ?_
                                          refine lv_iload hx hb dX5_aimed_137 (lv_at hl 3 rfl) ?_
                                          refine lv_iload hx hb dX5_aimed_139 (lv_at hl 1 rfl) ?_
                                          refine lv_iload_n hx hb dX5_aimed_141 rfl (lv_at hl 6 rfl) ?_
                                          refine lv_iload_n hx hb dX5_aimed_142 rfl (lv_at hl 7 rfl) ?_
                                          refine mm_callp (As := [.int p, .int m, .int r, .int y]) (rest := []) (n := 4) ⟨hx, hb, hml, hown, hts⟩ hK (mc_minutesAt lQ G o S4 E p m r y p061 (by omega) m0109 (by omega) r0 r1) (lw_V q2305 q2307 qs70 q92 q2308) (by decide +kernel) rfl ⟨Nat.le_of_ble_eq_true rfl, Nat.le_of_ble_eq_true rfl⟩ hW hS hl.1 rfl (Nat.le_of_ble_eq_true rfl) dX5_aimed_143 ⟨Nat.le_of_ble_eq_true rfl, Nat.le_of_ble_eq_true rfl⟩ (fun v143 H locs e143 hW hS => ?_)
                                          refine lv_istore (lv' := [(9, .int v143), (8, .int u), (7, .int m), (6, .int q), (5, .int p), (4, .int l), (0, .ref o), (1, .int r), (2, .int y), (3, .int k)]) hx hb dX5_aimed_146 hl (by decide) rfl (fun ls hl => ?_)
                                          refine lv_iload_n hx hb dX5_aimed_148 rfl (lv_at hl 9 rfl) ?_
                                          refine lv_iconst (v := 2) hx hb dX5_aimed_149 (by decide) ?_
                                          refine lv_icmp_ne (tgt := 166) hx hb dX5_aimed_150 (by decide) (fun c150 => ?_) (fun c150 => ?_)
                                          · skip
                                            refine lv_iconst (v := 0) hx hb dX5_aimed_166 (by decide) ?_
                                            refine lv_istore (lv' := [(10, .int 0), (9, .int v143), (8, .int u), (7, .int m), (6, .int q), (5, .int p), (4, .int l), (0, .ref o), (1, .int r), (2, .int y), (3, .int k)]) hx hb dX5_aimed_167 hl (by decide) rfl (fun ls hl => ?_)
                                            refine lv_iload hx hb dX5_aimed_169 (lv_at hl 0 rfl) ?_
                                            refine lv_iload hx hb dX5_aimed_171 (lv_at hl 1 rfl) ?_
                                            refine lv_icmp_le (tgt := 181) hx hb dX5_aimed_173 (by decide) (fun c173 => ?_) (fun c173 => ?_)
                                            · have t173 : 0 ≤ (v143).toInt := ww_le c173
                                              refine lv_iload hx hb dX5_aimed_181 (lv_at hl 1 rfl) ?_
                                              refine lv_istore (lv' := [(9, .int v143), (10, .int 0), (8, .int u), (7, .int m), (6, .int q), (5, .int p), (4, .int l), (0, .ref o), (1, .int r), (2, .int y), (3, .int k)]) hx hb dX5_aimed_183 hl (by decide) rfl (fun ls hl => ?_)
                                              first
                                              | (have n183 : v143 = ai_v S4 r y k p q m u := by unfold ai_v ai_w; first | rw [if_pos c150, ← e160, ← e143, if_pos c173] | rw [if_neg c150, ← e143, if_pos c173])
                                              | (have n183 : v160 = ai_v S4 r y k p q m u := by unfold ai_v ai_w; rw [if_pos c150, ← e160, ← e143, if_neg c173])
                                              | (have n183 : (0 : Int32) = ai_v S4 r y k p q m u := by unfold ai_v ai_w; rw [if_neg c150, ← e143, if_neg c173])
                                              refine lv_iload hx hb dX5_aimed_185 (lv_at hl 0 rfl) ?_
                                              refine lv_iload hx hb dX5_aimed_187 (lv_at hl 6 rfl) ?_
                                              refine lv_icmp_lt (tgt := 195) hx hb dX5_aimed_189 (by decide) (fun c189 => ?_) (fun c189 => ?_)
                                              · have t189 : (v143).toInt < (l).toInt := ww_lt c189
                                                have nlt : ai_v S4 r y k p q m u < l := by rw [← n183]; exact c189
                                                refine lv_iload hx hb dX5_aimed_195 (lv_at hl 0 rfl) ?_
                                                refine lv_istore (lv' := [(4, .int v143), (9, .int v143), (10, .int 0), (8, .int u), (7, .int m), (6, .int q), (5, .int p), (0, .ref o), (1, .int r), (2, .int y), (3, .int k)]) hx hb dX5_aimed_197 hl (by decide) rfl (fun ls hl => ?_)
                                                refine lv_aload_n hx hb dX5_aimed_199 rfl (lv_at hl 7 rfl) ?_
                                                refine mm_geta hx hb hts hown hK hW 80 rfl q1765 dX5_aimed_200 ?_
                                                refine lv_iconst (v := 0) hx hb dX5_aimed_203 (by decide) ?_
                                                refine lv_iload hx hb dX5_aimed_204 (lv_at hl 6 rfl) ?_
                                                refine mm_iast hx hb hK hW hS 80 rfl (ww_in (by decide) (by decide)) dX5_aimed_206 (fun S206 H locs f206 hW hS => ?_)
                                                refine lv_aload_n hx hb dX5_aimed_207 rfl (lv_at hl 7 rfl) ?_
                                                refine mm_geta hx hb hts hown hK hW 81 rfl q1766 dX5_aimed_208 ?_
                                                refine lv_iconst (v := 0) hx hb dX5_aimed_211 (by decide) ?_
                                                refine lv_iload hx hb dX5_aimed_212 (lv_at hl 4 rfl) ?_
                                                refine mm_iast hx hb hK hW hS 81 rfl (ww_in (by decide) (by decide)) dX5_aimed_214 (fun S214 H locs f214 hW hS => ?_)
                                                refine lv_aload_n hx hb dX5_aimed_215 rfl (lv_at hl 7 rfl) ?_
                                                refine mm_geta hx hb hts hown hK hW 80 rfl q1765 dX5_aimed_216 ?_
                                                refine lv_iconst (v := 1) hx hb dX5_aimed_219 (by decide) ?_
                                                refine lv_iload hx hb dX5_aimed_220 (lv_at hl 5 rfl) ?_
                                                refine mm_iast hx hb hK hW hS 80 rfl (ww_in (by decide) (by decide)) dX5_aimed_222 (fun S222 H locs f222 hW hS => ?_)
                                                refine lv_aload_n hx hb dX5_aimed_223 rfl (lv_at hl 7 rfl) ?_
                                                refine mm_geta hx hb hts hown hK hW 81 rfl q1766 dX5_aimed_224 ?_
                                                refine lv_iconst (v := 1) hx hb dX5_aimed_227 (by decide) ?_
                                                refine lv_iload hx hb dX5_aimed_228 (lv_at hl 3 rfl) ?_
                                                refine mm_iast hx hb hK hW hS 81 rfl (ww_in (by decide) (by decide)) dX5_aimed_230 (fun S230 H locs f230 hW hS => ?_)
                                                have n230 : True := trivial
                                                try have n230 : S230 = ai_S S4 p q m u := by rw [f230, f222, f214, f206]; rfl
                                                obtain ⟨v231, e231⟩ : ∃ yQ : Int32, yQ = u + 1 := ⟨_, rfl⟩
                                                refine lv_iinc (v := v231) (lv' := [(8, .int v231), (4, .int v143), (9, .int v143), (10, .int 0), (7, .int m), (6, .int q), (5, .int p), (0, .ref o), (1, .int r), (2, .int y), (3, .int k)]) hx hb dX5_aimed_231 hl (k := 3) rfl (by rw [e231]; rfl) (by decide) rfl (fun ls hl => ?_)
                                                refine lv_goto (tgt := 130) hx hb dX5_aimed_234 (by decide) ?_
                                                have tb : v231.toInt = u.toInt + 1 := by rw [e231]; exact ww_inc' (by omega)
                                                exact ih130 v143 v231 S230 H locs (by omega) (by omega) (by omega) (by first | exact iF130 | (rw [f230, f222, f214, f206]; exact (((iF130.wr (by decide)).wr (by decide)).wr (by decide)).wr (by decide))) (by first | (rw [e231]; rw [ao_go, if_neg c133, if_neg nlt] at hgo130; exact hgo130) | (rw [e231, n230, n183]; rw [ao_go, if_neg c133, if_pos nlt] at hgo130; exact hgo130)) hW hS ls (lv_sub hl [0, 4, 5, 6, 1, 7, 8, 9, 10] rfl)
                                              · have t189 : (l).toInt ≤ (v143).toInt := ww_nlt c189
                                                have nlt : ¬ ai_v S4 r y k p q m u < l := by rw [← n183]; exact c189
                                                refine lv_goto (tgt := 231) hx hb dX5_aimed_192 (by decide) ?_
                                                have n230 : True := trivial
                                                try have n230 : S230 = ai_S S4 p q m u := by rw [f230, f222, f214, f206]; rfl
                                                obtain ⟨v231, e231⟩ : ∃ yQ : Int32, yQ = u + 1 := ⟨_, rfl⟩
                                                refine lv_iinc (v := v231) (lv' := [(8, .int v231), (9, .int v143), (10, .int 0), (7, .int m), (6, .int q), (5, .int p), (4, .int l), (0, .ref o), (1, .int r), (2, .int y), (3, .int k)]) hx hb dX5_aimed_231 hl (k := 2) rfl (by rw [e231]; rfl) (by decide) rfl (fun ls hl => ?_)
                                                refine lv_goto (tgt := 130) hx hb dX5_aimed_234 (by decide) ?_
                                                have tb : v231.toInt = u.toInt + 1 := by rw [e231]; exact ww_inc' (by omega)
                                                exact ih130 l v231 S4 H locs (by omega) (by omega) (by omega) (by first | exact iF130 | (rw [f230, f222, f214, f206]; exact (((iF130.wr (by decide)).wr (by decide)).wr (by decide)).wr (by decide))) (by first | (rw [e231]; rw [ao_go, if_neg c133, if_neg nlt] at hgo130; exact hgo130) | (rw [e231, n230, n183]; rw [ao_go, if_neg c133, if_pos nlt] at hgo130; exact hgo130)) hW hS ls (lv_sub hl [0, 3, 4, 5, 6, 7, 8, 9, 10] rfl)
                                            · have t173 : (v143).toInt < 0 := ww_nle c173
                                              refine lv_iload hx hb dX5_aimed_176 (lv_at hl 0 rfl) ?_
                                              refine lv_goto (tgt := 183) hx hb dX5_aimed_178 (by decide) ?_
                                              refine lv_istore (lv' := [(9, .int 0), (10, .int 0), (8, .int u), (7, .int m), (6, .int q), (5, .int p), (4, .int l), (0, .ref o), (1, .int r), (2, .int y), (3, .int k)]) hx hb dX5_aimed_183 hl (by decide) rfl (fun ls hl => ?_)
                                              first
                                              | (have n183 : v143 = ai_v S4 r y k p q m u := by unfold ai_v ai_w; first | rw [if_pos c150, ← e160, ← e143, if_pos c173] | rw [if_neg c150, ← e143, if_pos c173])
                                              | (have n183 : v160 = ai_v S4 r y k p q m u := by unfold ai_v ai_w; rw [if_pos c150, ← e160, ← e143, if_neg c173])
                                              | (have n183 : (0 : Int32) = ai_v S4 r y k p q m u := by unfold ai_v ai_w; rw [if_neg c150, ← e143, if_neg c173])
                                              refine lv_iload hx hb dX5_aimed_185 (lv_at hl 0 rfl) ?_
                                              refine lv_iload hx hb dX5_aimed_187 (lv_at hl 6 rfl) ?_
                                              refine lv_icmp_lt (tgt := 195) hx hb dX5_aimed_189 (by decide) (fun c189 => ?_) (fun c189 => ?_)
                                              · have t189 : 0 < (l).toInt := ww_lt c189
                                                have nlt : ai_v S4 r y k p q m u < l := by rw [← n183]; exact c189
                                                refine lv_iload hx hb dX5_aimed_195 (lv_at hl 0 rfl) ?_
                                                refine lv_istore (lv' := [(4, .int 0), (9, .int 0), (10, .int 0), (8, .int u), (7, .int m), (6, .int q), (5, .int p), (0, .ref o), (1, .int r), (2, .int y), (3, .int k)]) hx hb dX5_aimed_197 hl (by decide) rfl (fun ls hl => ?_)
                                                refine lv_aload_n hx hb dX5_aimed_199 rfl (lv_at hl 7 rfl) ?_
                                                refine mm_geta hx hb hts hown hK hW 80 rfl q1765 dX5_aimed_200 ?_
                                                refine lv_iconst (v := 0) hx hb dX5_aimed_203 (by decide) ?_
                                                refine lv_iload hx hb dX5_aimed_204 (lv_at hl 6 rfl) ?_
                                                refine mm_iast hx hb hK hW hS 80 rfl (ww_in (by decide) (by decide)) dX5_aimed_206 (fun S206 H locs f206 hW hS => ?_)
                                                refine lv_aload_n hx hb dX5_aimed_207 rfl (lv_at hl 7 rfl) ?_
                                                refine mm_geta hx hb hts hown hK hW 81 rfl q1766 dX5_aimed_208 ?_
                                                refine lv_iconst (v := 0) hx hb dX5_aimed_211 (by decide) ?_
                                                refine lv_iload hx hb dX5_aimed_212 (lv_at hl 4 rfl) ?_
                                                refine mm_iast hx hb hK hW hS 81 rfl (ww_in (by decide) (by decide)) dX5_aimed_214 (fun S214 H locs f214 hW hS => ?_)
                                                refine lv_aload_n hx hb dX5_aimed_215 rfl (lv_at hl 7 rfl) ?_
                                                refine mm_geta hx hb hts hown hK hW 80 rfl q1765 dX5_aimed_216 ?_
                                                refine lv_iconst (v := 1) hx hb dX5_aimed_219 (by decide) ?_
                                                refine lv_iload hx hb dX5_aimed_220 (lv_at hl 5 rfl) ?_
                                                refine mm_iast hx hb hK hW hS 80 rfl (ww_in (by decide) (by decide)) dX5_aimed_222 (fun S222 H locs f222 hW hS => ?_)
                                                refine lv_aload_n hx hb dX5_aimed_223 rfl (lv_at hl 7 rfl) ?_
                                                refine mm_geta hx hb hts hown hK hW 81 rfl q1766 dX5_aimed_224 ?_
                                                refine lv_iconst (v := 1) hx hb dX5_aimed_227 (by decide) ?_
                                                refine lv_iload hx hb dX5_aimed_228 (lv_at hl 3 rfl) ?_
                                                refine mm_iast hx hb hK hW hS 81 rfl (ww_in (by decide) (by decide)) dX5_aimed_230 (fun S230 H locs f230 hW hS => ?_)
                                                have n230 : True := trivial
                                                try have n230 : S230 = ai_S S4 p q m u := by rw [f230, f222, f214, f206]; rfl
                                                obtain ⟨v231, e231⟩ : ∃ yQ : Int32, yQ = u + 1 := ⟨_, rfl⟩
                                                refine lv_iinc (v := v231) (lv' := [(8, .int v231), (4, .int 0), (9, .int 0), (10, .int 0), (7, .int m), (6, .int q), (5, .int p), (0, .ref o), (1, .int r), (2, .int y), (3, .int k)]) hx hb dX5_aimed_231 hl (k := 3) rfl (by rw [e231]; rfl) (by decide) rfl (fun ls hl => ?_)
                                                refine lv_goto (tgt := 130) hx hb dX5_aimed_234 (by decide) ?_
                                                have tb : v231.toInt = u.toInt + 1 := by rw [e231]; exact ww_inc' (by omega)
                                                exact ih130 0 v231 S230 H locs (by omega) (by omega) (by omega) (by first | exact iF130 | (rw [f230, f222, f214, f206]; exact (((iF130.wr (by decide)).wr (by decide)).wr (by decide)).wr (by decide))) (by first | (rw [e231]; rw [ao_go, if_neg c133, if_neg nlt] at hgo130; exact hgo130) | (rw [e231, n230, n183]; rw [ao_go, if_neg c133, if_pos nlt] at hgo130; exact hgo130)) hW hS ls (lv_sub hl [0, 4, 5, 6, 1, 7, 8, 9, 10] rfl)
                                              · have t189 : (l).toInt ≤ 0 := ww_nlt c189
                                                have nlt : ¬ ai_v S4 r y k p q m u < l := by rw [← n183]; exact c189
                                                refine lv_goto (tgt := 231) hx hb dX5_aimed_192 (by decide) ?_
                                                have n230 : True := trivial
                                                try have n230 : S230 = ai_S S4 p q m u := by rw [f230, f222, f214, f206]; rfl
                                                obtain ⟨v231, e231⟩ : ∃ yQ : Int32, yQ = u + 1 := ⟨_, rfl⟩
                                                refine lv_iinc (v := v231) (lv' := [(8, .int v231), (9, .int 0), (10, .int 0), (7, .int m), (6, .int q), (5, .int p), (4, .int l), (0, .ref o), (1, .int r), (2, .int y), (3, .int k)]) hx hb dX5_aimed_231 hl (k := 2) rfl (by rw [e231]; rfl) (by decide) rfl (fun ls hl => ?_)
                                                refine lv_goto (tgt := 130) hx hb dX5_aimed_234 (by decide) ?_
                                                have tb : v231.toInt = u.toInt + 1 := by rw [e231]; exact ww_inc' (by omega)
                                                exact ih130 l v231 S4 H locs (by omega) (by omega) (by omega) (by first | exact iF130 | (rw [f230, f222, f214, f206]; exact (((iF130.wr (by decide)).wr (by decide)).wr (by decide)).wr (by decide))) (by first | (rw [e231]; rw [ao_go, if_neg c133, if_neg nlt] at hgo130; exact hgo130) | (rw [e231, n230, n183]; rw [ao_go, if_neg c133, if_pos nlt] at hgo130; exact hgo130)) hW hS ls (lv_sub hl [0, 3, 4, 5, 6, 7, 8, 9, 10] rfl)
                                          · skip
                                            refine lv_aload_n hx hb dX5_aimed_153 rfl (lv_at hl 6 rfl) ?_
                                            refine lv_iload hx hb dX5_aimed_154 (lv_at hl 3 rfl) ?_
                                            refine lv_iload hx hb dX5_aimed_156 (lv_at hl 1 rfl) ?_
                                            refine lv_iload_n hx hb dX5_aimed_158 rfl (lv_at hl 7 rfl) ?_
                                            refine lv_iload_n hx hb dX5_aimed_159 rfl (lv_at hl 8 rfl) ?_
                                            refine mm_callp (As := [.int q, .int u, .int r, .int y]) (rest := []) (n := 4) ⟨hx, hb, hml, hown, hts⟩ hK (mc_minutesAt lQ G o S4 E q u r y q073 (by omega) u0130 (by omega) r0 r1) (lw_V q2305 q2307 qs70 q92 q2308) (by decide +kernel) rfl ⟨Nat.le_of_ble_eq_true rfl, Nat.le_of_ble_eq_true rfl⟩ hW hS hl.1 rfl (Nat.le_of_ble_eq_true rfl) dX5_aimed_160 ⟨Nat.le_of_ble_eq_true rfl, Nat.le_of_ble_eq_true rfl⟩ (fun v160 H locs e160 hW hS => ?_)
                                            refine lv_goto (tgt := 167) hx hb dX5_aimed_163 (by decide) ?_
                                            refine lv_istore (lv' := [(10, .int v160), (9, .int v143), (8, .int u), (7, .int m), (6, .int q), (5, .int p), (4, .int l), (0, .ref o), (1, .int r), (2, .int y), (3, .int k)]) hx hb dX5_aimed_167 hl (by decide) rfl (fun ls hl => ?_)
                                            refine lv_iload hx hb dX5_aimed_169 (lv_at hl 0 rfl) ?_
                                            refine lv_iload hx hb dX5_aimed_171 (lv_at hl 1 rfl) ?_
                                            refine lv_icmp_le (tgt := 181) hx hb dX5_aimed_173 (by decide) (fun c173 => ?_) (fun c173 => ?_)
                                            · have t173 : (v160).toInt ≤ (v143).toInt := ww_le c173
                                              refine lv_iload hx hb dX5_aimed_181 (lv_at hl 1 rfl) ?_
                                              refine lv_istore (lv' := [(9, .int v143), (10, .int v160), (8, .int u), (7, .int m), (6, .int q), (5, .int p), (4, .int l), (0, .ref o), (1, .int r), (2, .int y), (3, .int k)]) hx hb dX5_aimed_183 hl (by decide) rfl (fun ls hl => ?_)
                                              first
                                              | (have n183 : v143 = ai_v S4 r y k p q m u := by unfold ai_v ai_w; first | rw [if_pos c150, ← e160, ← e143, if_pos c173] | rw [if_neg c150, ← e143, if_pos c173])
                                              | (have n183 : v160 = ai_v S4 r y k p q m u := by unfold ai_v ai_w; rw [if_pos c150, ← e160, ← e143, if_neg c173])
                                              | (have n183 : (0 : Int32) = ai_v S4 r y k p q m u := by unfold ai_v ai_w; rw [if_neg c150, ← e143, if_neg c173])
                                              refine lv_iload hx hb dX5_aimed_185 (lv_at hl 0 rfl) ?_
                                              refine lv_iload hx hb dX5_aimed_187 (lv_at hl 6 rfl) ?_
                                              refine lv_icmp_lt (tgt := 195) hx hb dX5_aimed_189 (by decide) (fun c189 => ?_) (fun c189 => ?_)
                                              · have t189 : (v143).toInt < (l).toInt := ww_lt c189
                                                have nlt : ai_v S4 r y k p q m u < l := by rw [← n183]; exact c189
                                                refine lv_iload hx hb dX5_aimed_195 (lv_at hl 0 rfl) ?_
                                                refine lv_istore (lv' := [(4, .int v143), (9, .int v143), (10, .int v160), (8, .int u), (7, .int m), (6, .int q), (5, .int p), (0, .ref o), (1, .int r), (2, .int y), (3, .int k)]) hx hb dX5_aimed_197 hl (by decide) rfl (fun ls hl => ?_)
                                                refine lv_aload_n hx hb dX5_aimed_199 rfl (lv_at hl 7 rfl) ?_
                                                refine mm_geta hx hb hts hown hK hW 80 rfl q1765 dX5_aimed_200 ?_
                                                refine lv_iconst (v := 0) hx hb dX5_aimed_203 (by decide) ?_
                                                refine lv_iload hx hb dX5_aimed_204 (lv_at hl 6 rfl) ?_
                                                refine mm_iast hx hb hK hW hS 80 rfl (ww_in (by decide) (by decide)) dX5_aimed_206 (fun S206 H locs f206 hW hS => ?_)
                                                refine lv_aload_n hx hb dX5_aimed_207 rfl (lv_at hl 7 rfl) ?_
                                                refine mm_geta hx hb hts hown hK hW 81 rfl q1766 dX5_aimed_208 ?_
                                                refine lv_iconst (v := 0) hx hb dX5_aimed_211 (by decide) ?_
                                                refine lv_iload hx hb dX5_aimed_212 (lv_at hl 4 rfl) ?_
                                                refine mm_iast hx hb hK hW hS 81 rfl (ww_in (by decide) (by decide)) dX5_aimed_214 (fun S214 H locs f214 hW hS => ?_)
                                                refine lv_aload_n hx hb dX5_aimed_215 rfl (lv_at hl 7 rfl) ?_
                                                refine mm_geta hx hb hts hown hK hW 80 rfl q1765 dX5_aimed_216 ?_
                                                refine lv_iconst (v := 1) hx hb dX5_aimed_219 (by decide) ?_
                                                refine lv_iload hx hb dX5_aimed_220 (lv_at hl 5 rfl) ?_
                                                refine mm_iast hx hb hK hW hS 80 rfl (ww_in (by decide) (by decide)) dX5_aimed_222 (fun S222 H locs f222 hW hS => ?_)
                                                refine lv_aload_n hx hb dX5_aimed_223 rfl (lv_at hl 7 rfl) ?_
                                                refine mm_geta hx hb hts hown hK hW 81 rfl q1766 dX5_aimed_224 ?_
                                                refine lv_iconst (v := 1) hx hb dX5_aimed_227 (by decide) ?_
                                                refine lv_iload hx hb dX5_aimed_228 (lv_at hl 3 rfl) ?_
                                                refine mm_iast hx hb hK hW hS 81 rfl (ww_in (by decide) (by decide)) dX5_aimed_230 (fun S230 H locs f230 hW hS => ?_)
                                                have n230 : True := trivial
                                                try have n230 : S230 = ai_S S4 p q m u := by rw [f230, f222, f214, f206]; rfl
                                                obtain ⟨v231, e231⟩ : ∃ yQ : Int32, yQ = u + 1 := ⟨_, rfl⟩
                                                refine lv_iinc (v := v231) (lv' := [(8, .int v231), (4, .int v143), (9, .int v143), (10, .int v160), (7, .int m), (6, .int q), (5, .int p), (0, .ref o), (1, .int r), (2, .int y), (3, .int k)]) hx hb dX5_aimed_231 hl (k := 3) rfl (by rw [e231]; rfl) (by decide) rfl (fun ls hl => ?_)
                                                refine lv_goto (tgt := 130) hx hb dX5_aimed_234 (by decide) ?_
                                                have tb : v231.toInt = u.toInt + 1 := by rw [e231]; exact ww_inc' (by omega)
                                                exact ih130 v143 v231 S230 H locs (by omega) (by omega) (by omega) (by first | exact iF130 | (rw [f230, f222, f214, f206]; exact (((iF130.wr (by decide)).wr (by decide)).wr (by decide)).wr (by decide))) (by first | (rw [e231]; rw [ao_go, if_neg c133, if_neg nlt] at hgo130; exact hgo130) | (rw [e231, n230, n183]; rw [ao_go, if_neg c133, if_pos nlt] at hgo130; exact hgo130)) hW hS ls (lv_sub hl [0, 4, 5, 6, 1, 7, 8, 9, 10] rfl)
                                              · have t189 : (l).toInt ≤ (v143).toInt := ww_nlt c189
                                                have nlt : ¬ ai_v S4 r y k p q m u < l := by rw [← n183]; exact c189
                                                refine lv_goto (tgt := 231) hx hb dX5_aimed_192 (by decide) ?_
                                                have n230 : True := trivial
                                                try have n230 : S230 = ai_S S4 p q m u := by rw [f230, f222, f214, f206]; rfl
                                                obtain ⟨v231, e231⟩ : ∃ yQ : Int32, yQ = u + 1 := ⟨_, rfl⟩
                                                refine lv_iinc (v := v231) (lv' := [(8, .int v231), (9, .int v143), (10, .int v160), (7, .int m), (6, .int q), (5, .int p), (4, .int l), (0, .ref o), (1, .int r), (2, .int y), (3, .int k)]) hx hb dX5_aimed_231 hl (k := 2) rfl (by rw [e231]; rfl) (by decide) rfl (fun ls hl => ?_)
                                                refine lv_goto (tgt := 130) hx hb dX5_aimed_234 (by decide) ?_
                                                have tb : v231.toInt = u.toInt + 1 := by rw [e231]; exact ww_inc' (by omega)
                                                exact ih130 l v231 S4 H locs (by omega) (by omega) (by omega) (by first | exact iF130 | (rw [f230, f222, f214, f206]; exact (((iF130.wr (by decide)).wr (by decide)).wr (by decide)).wr (by decide))) (by first | (rw [e231]; rw [ao_go, if_neg c133, if_neg nlt] at hgo130; exact hgo130) | (rw [e231, n230, n183]; rw [ao_go, if_neg c133, if_pos nlt] at hgo130; exact hgo130)) hW hS ls (lv_sub hl [0, 3, 4, 5, 6, 7, 8, 9, 10] rfl)
                                            · have t173 : (v143).toInt < (v160).toInt := ww_nle c173
                                              refine lv_iload hx hb dX5_aimed_176 (lv_at hl 0 rfl) ?_
                                              refine lv_goto (tgt := 183) hx hb dX5_aimed_178 (by decide) ?_
                                              refine lv_istore (lv' := [(9, .int v160), (10, .int v160), (8, .int u), (7, .int m), (6, .int q), (5, .int p), (4, .int l), (0, .ref o), (1, .int r), (2, .int y), (3, .int k)]) hx hb dX5_aimed_183 hl (by decide) rfl (fun ls hl => ?_)
                                              first
                                              | (have n183 : v143 = ai_v S4 r y k p q m u := by unfold ai_v ai_w; first | rw [if_pos c150, ← e160, ← e143, if_pos c173] | rw [if_neg c150, ← e143, if_pos c173])
                                              | (have n183 : v160 = ai_v S4 r y k p q m u := by unfold ai_v ai_w; rw [if_pos c150, ← e160, ← e143, if_neg c173])
                                              | (have n183 : (0 : Int32) = ai_v S4 r y k p q m u := by unfold ai_v ai_w; rw [if_neg c150, ← e143, if_neg c173])
                                              refine lv_iload hx hb dX5_aimed_185 (lv_at hl 0 rfl) ?_
                                              refine lv_iload hx hb dX5_aimed_187 (lv_at hl 6 rfl) ?_
                                              refine lv_icmp_lt (tgt := 195) hx hb dX5_aimed_189 (by decide) (fun c189 => ?_) (fun c189 => ?_)
                                              · have t189 : (v160).toInt < (l).toInt := ww_lt c189
                                                have nlt : ai_v S4 r y k p q m u < l := by rw [← n183]; exact c189
                                                refine lv_iload hx hb dX5_aimed_195 (lv_at hl 0 rfl) ?_
                                                refine lv_istore (lv' := [(4, .int v160), (9, .int v160), (10, .int v160), (8, .int u), (7, .int m), (6, .int q), (5, .int p), (0, .ref o), (1, .int r), (2, .int y), (3, .int k)]) hx hb dX5_aimed_197 hl (by decide) rfl (fun ls hl => ?_)
                                                refine lv_aload_n hx hb dX5_aimed_199 rfl (lv_at hl 7 rfl) ?_
                                                refine mm_geta hx hb hts hown hK hW 80 rfl q1765 dX5_aimed_200 ?_
                                                refine lv_iconst (v := 0) hx hb dX5_aimed_203 (by decide) ?_
                                                refine lv_iload hx hb dX5_aimed_204 (lv_at hl 6 rfl) ?_
                                                refine mm_iast hx hb hK hW hS 80 rfl (ww_in (by decide) (by decide)) dX5_aimed_206 (fun S206 H locs f206 hW hS => ?_)
                                                refine lv_aload_n hx hb dX5_aimed_207 rfl (lv_at hl 7 rfl) ?_
                                                refine mm_geta hx hb hts hown hK hW 81 rfl q1766 dX5_aimed_208 ?_
                                                refine lv_iconst (v := 0) hx hb dX5_aimed_211 (by decide) ?_
                                                refine lv_iload hx hb dX5_aimed_212 (lv_at hl 4 rfl) ?_
                                                refine mm_iast hx hb hK hW hS 81 rfl (ww_in (by decide) (by decide)) dX5_aimed_214 (fun S214 H locs f214 hW hS => ?_)
                                                refine lv_aload_n hx hb dX5_aimed_215 rfl (lv_at hl 7 rfl) ?_
                                                refine mm_geta hx hb hts hown hK hW 80 rfl q1765 dX5_aimed_216 ?_
                                                refine lv_iconst (v := 1) hx hb dX5_aimed_219 (by decide) ?_
                                                refine lv_iload hx hb dX5_aimed_220 (lv_at hl 5 rfl) ?_
                                                refine mm_iast hx hb hK hW hS 80 rfl (ww_in (by decide) (by decide)) dX5_aimed_222 (fun S222 H locs f222 hW hS => ?_)
                                                refine lv_aload_n hx hb dX5_aimed_223 rfl (lv_at hl 7 rfl) ?_
                                                refine mm_geta hx hb hts hown hK hW 81 rfl q1766 dX5_aimed_224 ?_
                                                refine lv_iconst (v := 1) hx hb dX5_aimed_227 (by decide) ?_
                                                refine lv_iload hx hb dX5_aimed_228 (lv_at hl 3 rfl) ?_
                                                refine mm_iast hx hb hK hW hS 81 rfl (ww_in (by decide) (by decide)) dX5_aimed_230 (fun S230 H locs f230 hW hS => ?_)
                                                have n230 : True := trivial
                                                try have n230 : S230 = ai_S S4 p q m u := by rw [f230, f222, f214, f206]; rfl
                                                obtain ⟨v231, e231⟩ : ∃ yQ : Int32, yQ = u + 1 := ⟨_, rfl⟩
                                                refine lv_iinc (v := v231) (lv' := [(8, .int v231), (4, .int v160), (9, .int v160), (10, .int v160), (7, .int m), (6, .int q), (5, .int p), (0, .ref o), (1, .int r), (2, .int y), (3, .int k)]) hx hb dX5_aimed_231 hl (k := 3) rfl (by rw [e231]; rfl) (by decide) rfl (fun ls hl => ?_)
                                                refine lv_goto (tgt := 130) hx hb dX5_aimed_234 (by decide) ?_
                                                have tb : v231.toInt = u.toInt + 1 := by rw [e231]; exact ww_inc' (by omega)
                                                exact ih130 v160 v231 S230 H locs (by omega) (by omega) (by omega) (by first | exact iF130 | (rw [f230, f222, f214, f206]; exact (((iF130.wr (by decide)).wr (by decide)).wr (by decide)).wr (by decide))) (by first | (rw [e231]; rw [ao_go, if_neg c133, if_neg nlt] at hgo130; exact hgo130) | (rw [e231, n230, n183]; rw [ao_go, if_neg c133, if_pos nlt] at hgo130; exact hgo130)) hW hS ls (lv_sub hl [0, 4, 5, 6, 1, 7, 8, 9, 10] rfl)
                                              · have t189 : (l).toInt ≤ (v160).toInt := ww_nlt c189
                                                have nlt : ¬ ai_v S4 r y k p q m u < l := by rw [← n183]; exact c189
                                                refine lv_goto (tgt := 231) hx hb dX5_aimed_192 (by decide) ?_
                                                have n230 : True := trivial
                                                try have n230 : S230 = ai_S S4 p q m u := by rw [f230, f222, f214, f206]; rfl
                                                obtain ⟨v231, e231⟩ : ∃ yQ : Int32, yQ = u + 1 := ⟨_, rfl⟩
                                                refine lv_iinc (v := v231) (lv' := [(8, .int v231), (9, .int v160), (10, .int v160), (7, .int m), (6, .int q), (5, .int p), (4, .int l), (0, .ref o), (1, .int r), (2, .int y), (3, .int k)]) hx hb dX5_aimed_231 hl (k := 2) rfl (by rw [e231]; rfl) (by decide) rfl (fun ls hl => ?_)
                                                refine lv_goto (tgt := 130) hx hb dX5_aimed_234 (by decide) ?_
                                                have tb : v231.toInt = u.toInt + 1 := by rw [e231]; exact ww_inc' (by omega)
                                                exact ih130 l v231 S4 H locs (by omega) (by omega) (by omega) (by first | exact iF130 | (rw [f230, f222, f214, f206]; exact (((iF130.wr (by decide)).wr (by decide)).wr (by decide)).wr (by decide))) (by first | (rw [e231]; rw [ao_go, if_neg c133, if_neg nlt] at hgo130; exact hgo130) | (rw [e231, n230, n183]; rw [ao_go, if_neg c133, if_pos nlt] at hgo130; exact hgo130)) hW hS ls (lv_sub hl [0, 3, 4, 5, 6, 7, 8, 9, 10] rfl)
                                    exact L130 5 l3 w128 S3 H locs (by show (3 : Int) - _ < 5; omega) w128a w128b iF109 (by rw [ew128]; rfl) hW hS ls (lv_sub hl [0, 1, 2, 3, 4, 5, 6, 7, 8] rfl)
                                  refine lv_iload_n hx hb dX5_aimed_115 rfl (lv_at hl 7 rfl) ?_
                                  refine lv_iconst (v := 2) hx hb dX5_aimed_116 (by decide) ?_
                                  refine lv_icmp_ne (tgt := 127) hx hb dX5_aimed_117 (by decide) (fun c117 => ?_) (fun c117 => ?_)
                                  · skip
                                    refine lv_iconst (v := 2) hx hb dX5_aimed_127 (by decide) ?_
                                    exact J128 _ (by simp only [if_neg c112, if_neg c117])
                                  · skip
                                    refine lv_iload hx hb dX5_aimed_120 (lv_at hl 0 rfl) ?_
                                    refine lv_iconst (v := 1) hx hb dX5_aimed_122 (by decide) ?_
                                    refine nv_iadd hx hb dX5_aimed_123 (fun v123 e123 => ?_)
                                    refine lv_goto (tgt := 128) hx hb dX5_aimed_124 (by decide) ?_
                                    exact J128 _ (by subst e123; simp only [if_neg c112, if_pos c117])
                            exact L109 4 l2 0 S2 H locs (by show (3 : Int) - 0 < 4; omega) (by decide) (by decide) iF73 (rfl) hW hS ls (lv_sub hl [0, 1, 2, 3, 4, 5, 6, 7] rfl)
                          · skip
                            refine lv_iload hx hb dX5_aimed_96 (lv_at hl 0 rfl) ?_
                            refine lv_iload hx hb dX5_aimed_98 (lv_at hl 1 rfl) ?_
                            refine lv_icmp_ne (tgt := 106) hx hb dX5_aimed_100 (by decide) (fun c100 => ?_) (fun c100 => ?_)
                            · skip
                              refine lv_iconst (v := 0) hx hb dX5_aimed_106 (by decide) ?_
                              refine lv_istore (lv' := [(7, .int 0), (6, .int q), (5, .int p), (4, .int l2), (0, .ref o), (1, .int r), (2, .int y), (3, .int k)]) hx hb dX5_aimed_107 hl (by decide) rfl (fun ls hl => ?_)
                              have L109 : ∀ (fu109 : Nat) (l3 : Int32) (m : Int32) (S3 : mm_S) (H : Heap) (locs : List Loc), (3 - m.toInt < fu109) → (0 ≤ m.toInt) → (m.toInt ≤ 3) → (fr_ [80, 81] S S3) → (an_go fu109 S3 r y k p q l3 m = an_s S2 r y k p q l2) → mm_W G o S3 E H → va_S (mm_F o) sQ.heap H locs → ∀ ls : Array Slot, lv_has ls 11 [(7, .int m), (6, .int q), (5, .int p), (4, .int l3), (0, .ref o), (1, .int r), (2, .int y), (3, .int k)] → W pQ lQ eQ (wm_rm 1) sQ mQ (Value.ref o :: [.int r, .int y, .int k]).toArray belowQ methQ cQ H locs 0 0 (MQ belowQ (wm_Q (fun vQ HQ => vQ = some (.int (ff_aimed S r y k).1) ∧ mm_W G o (ff_aimed S r y k).2 E HQ) (mm_F o)) (Value.ref o :: [.int r, .int y, .int k]).toArray sQ 0 0 (mm_F o)) (F0 mQ 109 ls []) := by
                                intro fu109
                                induction fu109 with
                                | zero =>
                                  intro l3 m S3 H locs hm109 m0109 m1109 iF109 hgo109 hW hS ls hl
                                  exact absurd hm109 (by omega)
                                | succ fu109 ih109 =>
                                  intro l3 m S3 H locs hm109 m0109 m1109 iF109 hgo109 hW hS ls hl
                                  refine lv_iload hx hb dX5_aimed_109 (lv_at hl 0 rfl) ?_
                                  refine lv_iconst (v := 3) hx hb dX5_aimed_111 (by decide) ?_
                                  refine lv_icmp_ge (tgt := 243) hx hb dX5_aimed_112 (by decide) (fun c112 => ?_) (fun c112 => ?_)
                                  · have t112 : 3 ≤ (m).toInt := ww_le c112
                                    have g3 : (l3, S3) = an_s S2 r y k p q l2 := by simp only [an_go, if_pos c112] at hgo109; exact hgo109
                                    have g31 : l3 = (an_s S2 r y k p q l2).1 := congrArg (fun zQ => zQ.1) g3
                                    have g32 : S3 = (an_s S2 r y k p q l2).2 := congrArg (fun zQ => zQ.2) g3
                                    clear g3 hgo109
                                    obtain ⟨v243, e243⟩ : ∃ yQ : Int32, yQ = q + 1 := ⟨_, rfl⟩
                                    refine lv_iinc (v := v243) (lv' := [(6, .int v243), (7, .int m), (5, .int p), (4, .int l3), (0, .ref o), (1, .int r), (2, .int y), (3, .int k)]) hx hb dX5_aimed_243 hl (k := 1) rfl (by rw [e243]; rfl) (by decide) rfl (fun ls hl => ?_)
                                    refine lv_goto (tgt := 73) hx hb dX5_aimed_246 (by decide) ?_
                                    have tb : v243.toInt = q.toInt + 1 := by rw [e243]; exact ww_inc' (by omega)
                                    exact ih73 l3 v243 S3 H locs (by omega) (by omega) (by omega) (by first | exact iF109 | exact iF73) (by rw [ew88] at c88; rw [aq_go, if_neg c88] at hgo73; first | (rw [e243, g31, g32]; simp only [if_neg c88, if_pos c93, if_neg c100, if_pos c112] at hgo73; exact hgo73) | (rw [e243]; simp only [if_neg c88, if_pos c93, if_neg c100, if_pos c112] at hgo73; exact hgo73)) hW hS ls (lv_sub hl [0, 2, 3, 4, 5, 6, 7] rfl)
                                  · have t112 : (m).toInt < 3 := ww_nle c112
                                    refine wm_join (P := fun w128 : Int32 => w128 = (if k = 2 then m + 1 else 2)) (j := 128) (rest := []) (ls := ls) (fun w128 ew128 => ?_) (fun J128 => ?_)
                                    · skip
                                      have w128q : 0 ≤ w128.toInt ∧ w128.toInt ≤ 3 := by
                                        rw [ew128]
                                        have tm : (m + 1).toInt = m.toInt + 1 := ww_inc' (by omega)
                                        split <;> first | omega | exact ⟨by decide, by decide⟩
                                      obtain ⟨w128a, w128b⟩ := w128q
                                      refine lv_istore (lv' := [(8, .int w128), (7, .int m), (6, .int q), (5, .int p), (4, .int l3), (0, .ref o), (1, .int r), (2, .int y), (3, .int k)]) hx hb dX5_aimed_128 hl (by decide) rfl (fun ls hl => ?_)
                                      have L130 : ∀ (fu130 : Nat) (l : Int32) (u : Int32) (S4 : mm_S) (H : Heap) (locs : List Loc), (3 - u.toInt < fu130) → (0 ≤ u.toInt) → (u.toInt ≤ 3) → (fr_ [80, 81] S S4) → (ao_go fu130 S4 r y k p q m l u = ao_s S3 r y k p q m l3) → mm_W G o S4 E H → va_S (mm_F o) sQ.heap H locs → ∀ ls : Array Slot, lv_has ls 11 [(8, .int u), (7, .int m), (6, .int q), (5, .int p), (4, .int l), (0, .ref o), (1, .int r), (2, .int y), (3, .int k)] → W pQ lQ eQ (wm_rm 1) sQ mQ (Value.ref o :: [.int r, .int y, .int k]).toArray belowQ methQ cQ H locs 0 0 (MQ belowQ (wm_Q (fun vQ HQ => vQ = some (.int (ff_aimed S r y k).1) ∧ mm_W G o (ff_aimed S r y k).2 E HQ) (mm_F o)) (Value.ref o :: [.int r, .int y, .int k]).toArray sQ 0 0 (mm_F o)) (F0 mQ 130 ls []) := by
                                        intro fu130
                                        induction fu130 with
                                        | zero =>
                                          intro l u S4 H locs hm130 u0130 u1130 iF130 hgo130 hW hS ls hl
                                          exact absurd hm130 (by omega)
                                        | succ fu130 ih130 =>
                                          intro l u S4 H locs hm130 u0130 u1130 iF130 hgo130 hW hS ls hl
                                          refine lv_iload hx hb dX5_aimed_130 (lv_at hl 0 rfl) ?_
                                          refine lv_iconst (v := 3) hx hb dX5_aimed_132 (by decide) ?_
                                          refine lv_icmp_ge (tgt := 237) hx hb dX5_aimed_133 (by decide) (fun c133 => ?_) (fun c133 => ?_)
                                          · have t133 : 3 ≤ (u).toInt := ww_le c133
                                            have g4 : (l, S4) = ao_s S3 r y k p q m l3 := by simp only [ao_go, if_pos c133] at hgo130; exact hgo130
                                            have g41 : l = (ao_s S3 r y k p q m l3).1 := congrArg (fun zQ => zQ.1) g4
                                            have g42 : S4 = (ao_s S3 r y k p q m l3).2 := congrArg (fun zQ => zQ.2) g4
                                            clear g4 hgo130
                                            obtain ⟨v237, e237⟩ : ∃ yQ : Int32, yQ = m + 1 := ⟨_, rfl⟩
                                            refine lv_iinc (v := v237) (lv' := [(7, .int v237), (8, .int u), (6, .int q), (5, .int p), (4, .int l), (0, .ref o), (1, .int r), (2, .int y), (3, .int k)]) hx hb dX5_aimed_237 hl (k := 1) rfl (by rw [e237]; rfl) (by decide) rfl (fun ls hl => ?_)
                                            refine lv_goto (tgt := 109) hx hb dX5_aimed_240 (by decide) ?_
                                            have tb : v237.toInt = m.toInt + 1 := by rw [e237]; exact ww_inc' (by omega)
                                            exact ih109 l v237 S4 H locs (by omega) (by omega) (by omega) iF130 (by rw [e237, g41, g42]; rw [an_go, if_neg c112] at hgo109; exact hgo109) hW hS ls (lv_sub hl [0, 2, 3, 4, 5, 6, 7, 8] rfl)
                                          · have t133 : (u).toInt < 3 := ww_nle c133
                                            refine lv_aload_n hx hb dX5_aimed_136 rfl (lv_at hl 5 rfl) ?_
                                            refine lv_iload hx hb dX5_aimed_137 (lv_at hl 3 rfl) ?_
                                            refine lv_iload hx hb dX5_aimed_139 (lv_at hl 1 rfl) ?_
                                            refine lv_iload_n hx hb dX5_aimed_141 rfl (lv_at hl 6 rfl) ?_
                                            refine lv_iload_n hx hb dX5_aimed_142 rfl (lv_at hl 7 rfl) ?_
                                            refine mm_callp (As := [.int p, .int m, .int r, .int y]) (rest := []) (n := 4) ⟨hx, hb, hml, hown, hts⟩ hK (mc_minutesAt lQ G o S4 E p m r y p061 (by omega) m0109 (by omega) r0 r1) (lw_V q2305 q2307 qs70 q92 q2308) (by decide +kernel) rfl ⟨Nat.le_of_ble_eq_true rfl, Nat.le_of_ble_eq_true rfl⟩ hW hS hl.1 rfl (Nat.le_of_ble_eq_true rfl) dX5_aimed_143 ⟨Nat.le_of_ble_eq_true rfl, Nat.le_of_ble_eq_true rfl⟩ (fun v143 H locs e143 hW hS => ?_)
                                            refine lv_istore (lv' := [(9, .int v143), (8, .int u), (7, .int m), (6, .int q), (5, .int p), (4, .int l), (0, .ref o), (1, .int r), (2, .int y), (3, .int k)]) hx hb dX5_aimed_146 hl (by decide) rfl (fun ls hl => ?_)
                                            refine lv_iload_n hx hb dX5_aimed_148 rfl (lv_at hl 9 rfl) ?_
                                            refine lv_iconst (v := 2) hx hb dX5_aimed_149 (by decide) ?_
                                            refine lv_icmp_ne (tgt := 166) hx hb dX5_aimed_150 (by decide) (fun c150 => ?_) (fun c150 => ?_)
                                            · skip
                                              refine lv_iconst (v := 0) hx hb dX5_aimed_166 (by decide) ?_
                                              refine lv_istore (lv' := [(10, .int 0), (9, .int v143), (8, .int u), (7, .int m), (6, .int q), (5, .int p), (4, .int l), (0, .ref o), (1, .int r), (2, .int y), (3, .int k)]) hx hb dX5_aimed_167 hl (by decide) rfl (fun ls hl => ?_)
                                              refine lv_iload hx hb dX5_aimed_169 (lv_at hl 0 rfl) ?_
                                              refine lv_iload hx hb dX5_aimed_171 (lv_at hl 1 rfl) ?_
                                              refine lv_icmp_le (tgt := 181) hx hb dX5_aimed_173 (by decide) (fun c173 => ?_) (fun c173 => ?_)
                                              · have t173 : 0 ≤ (v143).toInt := ww_le c173
                                                refine lv_iload hx hb dX5_aimed_181 (lv_at hl 1 rfl) ?_
                                                refine lv_istore (lv' := [(9, .int v143), (10, .int 0), (8, .int u), (7, .int m), (6, .int q), (5, .int p), (4, .int l), (0, .ref o), (1, .int r), (2, .int y), (3, .int k)]) hx hb dX5_aimed_183 hl (by decide) rfl (fun ls hl => ?_)
                                                first
                                                | (have n183 : v143 = ai_v S4 r y k p q m u := by unfold ai_v ai_w; first | rw [if_pos c150, ← e160, ← e143, if_pos c173] | rw [if_neg c150, ← e143, if_pos c173])
                                                | (have n183 : v160 = ai_v S4 r y k p q m u := by unfold ai_v ai_w; rw [if_pos c150, ← e160, ← e143, if_neg c173])
                                                | (have n183 : (0 : Int32) = ai_v S4 r y k p q m u := by unfold ai_v ai_w; rw [if_neg c150, ← e143, if_neg c173])
                                                refine lv_iload hx hb dX5_aimed_185 (lv_at hl 0 rfl) ?_
                                                refine lv_iload hx hb dX5_aimed_187 (lv_at hl 6 rfl) ?_
                                                refine lv_icmp_lt (tgt := 195) hx hb dX5_aimed_189 (by decide) (fun c189 => ?_) (fun c189 => ?_)
                                                · have t189 : (v143).toInt < (l).toInt := ww_lt c189
                                                  have nlt : ai_v S4 r y k p q m u < l := by rw [← n183]; exact c189
                                                  refine lv_iload hx hb dX5_aimed_195 (lv_at hl 0 rfl) ?_
                                                  refine lv_istore (lv' := [(4, .int v143), (9, .int v143), (10, .int 0), (8, .int u), (7, .int m), (6, .int q), (5, .int p), (0, .ref o), (1, .int r), (2, .int y), (3, .int k)]) hx hb dX5_aimed_197 hl (by decide) rfl (fun ls hl => ?_)
                                                  refine lv_aload_n hx hb dX5_aimed_199 rfl (lv_at hl 7 rfl) ?_
                                                  refine mm_geta hx hb hts hown hK hW 80 rfl q1765 dX5_aimed_200 ?_
                                                  refine lv_iconst (v := 0) hx hb dX5_aimed_203 (by decide) ?_
                                                  refine lv_iload hx hb dX5_aimed_204 (lv_at hl 6 rfl) ?_
                                                  refine mm_iast hx hb hK hW hS 80 rfl (ww_in (by decide) (by decide)) dX5_aimed_206 (fun S206 H locs f206 hW hS => ?_)
                                                  refine lv_aload_n hx hb dX5_aimed_207 rfl (lv_at hl 7 rfl) ?_
                                                  refine mm_geta hx hb hts hown hK hW 81 rfl q1766 dX5_aimed_208 ?_
                                                  refine lv_iconst (v := 0) hx hb dX5_aimed_211 (by decide) ?_
                                                  refine lv_iload hx hb dX5_aimed_212 (lv_at hl 4 rfl) ?_
                                                  refine mm_iast hx hb hK hW hS 81 rfl (ww_in (by decide) (by decide)) dX5_aimed_214 (fun S214 H locs f214 hW hS => ?_)
                                                  refine lv_aload_n hx hb dX5_aimed_215 rfl (lv_at hl 7 rfl) ?_
                                                  refine mm_geta hx hb hts hown hK hW 80 rfl q1765 dX5_aimed_216 ?_
                                                  refine lv_iconst (v := 1) hx hb dX5_aimed_219 (by decide) ?_
                                                  refine lv_iload hx hb dX5_aimed_220 (lv_at hl 5 rfl) ?_
                                                  refine mm_iast hx hb hK hW hS 80 rfl (ww_in (by decide) (by decide)) dX5_aimed_222 (fun S222 H locs f222 hW hS => ?_)
                                                  refine lv_aload_n hx hb dX5_aimed_223 rfl (lv_at hl 7 rfl) ?_
                                                  refine mm_geta hx hb hts hown hK hW 81 rfl q1766 dX5_aimed_224 ?_
                                                  refine lv_iconst (v := 1) hx hb dX5_aimed_227 (by decide) ?_
                                                  refine lv_iload hx hb dX5_aimed_228 (lv_at hl 3 rfl) ?_
                                                  refine mm_iast hx hb hK hW hS 81 rfl (ww_in (by decide) (by decide)) dX5_aimed_230 (fun S230 H locs f230 hW hS => ?_)
                                                  have n230 : True := trivial
                                                  try have n230 : S230 = ai_S S4 p q m u := by rw [f230, f222, f214, f206]; rfl
                                                  obtain ⟨v231, e231⟩ : ∃ yQ : Int32, yQ = u + 1 := ⟨_, rfl⟩
                                                  refine lv_iinc (v := v231) (lv' := [(8, .int v231), (4, .int v143), (9, .int v143), (10, .int 0), (7, .int m), (6, .int q), (5, .int p), (0, .ref o), (1, .int r), (2, .int y), (3, .int k)]) hx hb dX5_aimed_231 hl (k := 3) rfl (by rw [e231]; rfl) (by decide) rfl (fun ls hl => ?_)
                                                  refine lv_goto (tgt := 130) hx hb dX5_aimed_234 (by decide) ?_
                                                  have tb : v231.toInt = u.toInt + 1 := by rw [e231]; exact ww_inc' (by omega)
                                                  exact ih130 v143 v231 S230 H locs (by omega) (by omega) (by omega) (by first | exact iF130 | (rw [f230, f222, f214, f206]; exact (((iF130.wr (by decide)).wr (by decide)).wr (by decide)).wr (by decide))) (by first | (rw [e231]; rw [ao_go, if_neg c133, if_neg nlt] at hgo130; exact hgo130) | (rw [e231, n230, n183]; rw [ao_go, if_neg c133, if_pos nlt] at hgo130; exact hgo130)) hW hS ls (lv_sub hl [0, 4, 5, 6, 1, 7, 8, 9, 10] rfl)
                                                · have t189 : (l).toInt ≤ (v143).toInt := ww_nlt c189
                                                  have nlt : ¬ ai_v S4 r y k p q m u < l := by rw [← n183]; exact c189
                                                  refine lv_goto (tgt := 231) hx hb dX5_aimed_192 (by decide) ?_
                                                  have n230 : True := trivial
                                                  try have n230 : S230 = ai_S S4 p q m u := by rw [f230, f222, f214, f206]; rfl
                                                  obtain ⟨v231, e231⟩ : ∃ yQ : Int32, yQ = u + 1 := ⟨_, rfl⟩
                                                  refine lv_iinc (v := v231) (lv' := [(8, .int v231), (9, .int v143), (10, .int 0), (7, .int m), (6, .int q), (5, .int p), (4, .int l), (0, .ref o), (1, .int r), (2, .int y), (3, .int k)]) hx hb dX5_aimed_231 hl (k := 2) rfl (by rw [e231]; rfl) (by decide) rfl (fun ls hl => ?_)
                                                  refine lv_goto (tgt := 130) hx hb dX5_aimed_234 (by decide) ?_
                                                  have tb : v231.toInt = u.toInt + 1 := by rw [e231]; exact ww_inc' (by omega)
                                                  exact ih130 l v231 S4 H locs (by omega) (by omega) (by omega) (by first | exact iF130 | (rw [f230, f222, f214, f206]; exact (((iF130.wr (by decide)).wr (by decide)).wr (by decide)).wr (by decide))) (by first | (rw [e231]; rw [ao_go, if_neg c133, if_neg nlt] at hgo130; exact hgo130) | (rw [e231, n230, n183]; rw [ao_go, if_neg c133, if_pos nlt] at hgo130; exact hgo130)) hW hS ls (lv_sub hl [0, 3, 4, 5, 6, 7, 8, 9, 10] rfl)
                                              · have t173 : (v143).toInt < 0 := ww_nle c173
                                                refine lv_iload hx hb dX5_aimed_176 (lv_at hl 0 rfl) ?_
                                                refine lv_goto (tgt := 183) hx hb dX5_aimed_178 (by decide) ?_
                                                refine lv_istore (lv' := [(9, .int 0), (10, .int 0), (8, .int u), (7, .int m), (6, .int q), (5, .int p), (4, .int l), (0, .ref o), (1, .int r), (2, .int y), (3, .int k)]) hx hb dX5_aimed_183 hl (by decide) rfl (fun ls hl => ?_)
                                                first
                                                | (have n183 : v143 = ai_v S4 r y k p q m u := by unfold ai_v ai_w; first | rw [if_pos c150, ← e160, ← e143, if_pos c173] | rw [if_neg c150, ← e143, if_pos c173])
                                                | (have n183 : v160 = ai_v S4 r y k p q m u := by unfold ai_v ai_w; rw [if_pos c150, ← e160, ← e143, if_neg c173])
                                                | (have n183 : (0 : Int32) = ai_v S4 r y k p q m u := by unfold ai_v ai_w; rw [if_neg c150, ← e143, if_neg c173])
                                                refine lv_iload hx hb dX5_aimed_185 (lv_at hl 0 rfl) ?_
                                                refine lv_iload hx hb dX5_aimed_187 (lv_at hl 6 rfl) ?_
                                                refine lv_icmp_lt (tgt := 195) hx hb dX5_aimed_189 (by decide) (fun c189 => ?_) (fun c189 => ?_)
                                                · have t189 : 0 < (l).toInt := ww_lt c189
                                                  have nlt : ai_v S4 r y k p q m u < l := by rw [← n183]; exact c189
                                                  refine lv_iload hx hb dX5_aimed_195 (lv_at hl 0 rfl) ?_
                                                  refine lv_istore (lv' := [(4, .int 0), (9, .int 0), (10, .int 0), (8, .int u), (7, .int m), (6, .int q), (5, .int p), (0, .ref o), (1, .int r), (2, .int y), (3, .int k)]) hx hb dX5_aimed_197 hl (by decide) rfl (fun ls hl => ?_)
                                                  refine lv_aload_n hx hb dX5_aimed_199 rfl (lv_at hl 7 rfl) ?_
                                                  refine mm_geta hx hb hts hown hK hW 80 rfl q1765 dX5_aimed_200 ?_
                                                  refine lv_iconst (v := 0) hx hb dX5_aimed_203 (by decide) ?_
                                                  refine lv_iload hx hb dX5_aimed_204 (lv_at hl 6 rfl) ?_
                                                  refine mm_iast hx hb hK hW hS 80 rfl (ww_in (by decide) (by decide)) dX5_aimed_206 (fun S206 H locs f206 hW hS => ?_)
                                                  refine lv_aload_n hx hb dX5_aimed_207 rfl (lv_at hl 7 rfl) ?_
                                                  refine mm_geta hx hb hts hown hK hW 81 rfl q1766 dX5_aimed_208 ?_
                                                  refine lv_iconst (v := 0) hx hb dX5_aimed_211 (by decide) ?_
                                                  refine lv_iload hx hb dX5_aimed_212 (lv_at hl 4 rfl) ?_
                                                  refine mm_iast hx hb hK hW hS 81 rfl (ww_in (by decide) (by decide)) dX5_aimed_214 (fun S214 H locs f214 hW hS => ?_)
                                                  refine lv_aload_n hx hb dX5_aimed_215 rfl (lv_at hl 7 rfl) ?_
                                                  refine mm_geta hx hb hts hown hK hW 80 rfl q1765 dX5_aimed_216 ?_
                                                  refine lv_iconst (v := 1) hx hb dX5_aimed_219 (by decide) ?_
                                                  refine lv_iload hx hb dX5_aimed_220 (lv_at hl 5 rfl) ?_
                                                  refine mm_iast hx hb hK hW hS 80 rfl (ww_in (by decide) (by decide)) dX5_aimed_222 (fun S222 H locs f222 hW hS => ?_)
                                                  refine lv_aload_n hx hb dX5_aimed_223 rfl (lv_at hl 7 rfl) ?_
                                                  refine mm_geta hx hb hts hown hK hW 81 rfl q1766 dX5_aimed_224 ?_
                                                  refine lv_iconst (v := 1) hx hb dX5_aimed_227 (by decide) ?_
                                                  refine lv_iload hx hb dX5_aimed_228 (lv_at hl 3 rfl) ?_
                                                  refine mm_iast hx hb hK hW hS 81 rfl (ww_in (by decide) (by decide)) dX5_aimed_230 (fun S230 H locs f230 hW hS => ?_)
                                                  have n230 : True := trivial
                                                  try have n230 : S230 = ai_S S4 p q m u := by rw [f230, f222, f214, f206]; rfl
                                                  obtain ⟨v231, e231⟩ : ∃ yQ : Int32, yQ = u + 1 := ⟨_, rfl⟩
                                                  refine lv_iinc (v := v231) (lv' := [(8, .int v231), (4, .int 0), (9, .int 0), (10, .int 0), (7, .int m), (6, .int q), (5, .int p), (0, .ref o), (1, .int r), (2, .int y), (3, .int k)]) hx hb dX5_aimed_231 hl (k := 3) rfl (by rw [e231]; rfl) (by decide) rfl (fun ls hl => ?_)
                                                  refine lv_goto (tgt := 130) hx hb dX5_aimed_234 (by decide) ?_
                                                  have tb : v231.toInt = u.toInt + 1 := by rw [e231]; exact ww_inc' (by omega)
                                                  exact ih130 0 v231 S230 H locs (by omega) (by omega) (by omega) (by first | exact iF130 | (rw [f230, f222, f214, f206]; exact (((iF130.wr (by decide)).wr (by decide)).wr (by decide)).wr (by decide))) (by first | (rw [e231]; rw [ao_go, if_neg c133, if_neg nlt] at hgo130; exact hgo130) | (rw [e231, n230, n183]; rw [ao_go, if_neg c133, if_pos nlt] at hgo130; exact hgo130)) hW hS ls (lv_sub hl [0, 4, 5, 6, 1, 7, 8, 9, 10] rfl)
                                                · have t189 : (l).toInt ≤ 0 := ww_nlt c189
                                                  have nlt : ¬ ai_v S4 r y k p q m u < l := by rw [← n183]; exact c189
                                                  refine lv_goto (tgt := 231) hx hb dX5_aimed_192 (by decide) ?_
                                                  have n230 : True := trivial
                                                  try have n230 : S230 = ai_S S4 p q m u := by rw [f230, f222, f214, f206]; rfl
                                                  obtain ⟨v231, e231⟩ : ∃ yQ : Int32, yQ = u + 1 := ⟨_, rfl⟩
                                                  refine lv_iinc (v := v231) (lv' := [(8, .int v231), (9, .int 0), (10, .int 0), (7, .int m), (6, .int q), (5, .int p), (4, .int l), (0, .ref o), (1, .int r), (2, .int y), (3, .int k)]) hx hb dX5_aimed_231 hl (k := 2) rfl (by rw [e231]; rfl) (by decide) rfl (fun ls hl => ?_)
                                                  refine lv_goto (tgt := 130) hx hb dX5_aimed_234 (by decide) ?_
                                                  have tb : v231.toInt = u.toInt + 1 := by rw [e231]; exact ww_inc' (by omega)
                                                  exact ih130 l v231 S4 H locs (by omega) (by omega) (by omega) (by first | exact iF130 | (rw [f230, f222, f214, f206]; exact (((iF130.wr (by decide)).wr (by decide)).wr (by decide)).wr (by decide))) (by first | (rw [e231]; rw [ao_go, if_neg c133, if_neg nlt] at hgo130; exact hgo130) | (rw [e231, n230, n183]; rw [ao_go, if_neg c133, if_pos nlt] at hgo130; exact hgo130)) hW hS ls (lv_sub hl [0, 3, 4, 5, 6, 7, 8, 9, 10] rfl)
                                            · skip
                                              refine lv_aload_n hx hb dX5_aimed_153 rfl (lv_at hl 6 rfl) ?_
                                              refine lv_iload hx hb dX5_aimed_154 (lv_at hl 3 rfl) ?_
                                              refine lv_iload hx hb dX5_aimed_156 (lv_at hl 1 rfl) ?_
                                              refine lv_iload_n hx hb dX5_aimed_158 rfl (lv_at hl 7 rfl) ?_
                                              refine lv_iload_n hx hb dX5_aimed_159 rfl (lv_at hl 8 rfl) ?_
                                              refine mm_callp (As := [.int q, .int u, .int r, .int y]) (rest := []) (n := 4) ⟨hx, hb, hml, hown, hts⟩ hK (mc_minutesAt lQ G o S4 E q u r y q073 (by omega) u0130 (by omega) r0 r1) (lw_V q2305 q2307 qs70 q92 q2308) (by decide +kernel) rfl ⟨Nat.le_of_ble_eq_true rfl, Nat.le_of_ble_eq_true rfl⟩ hW hS hl.1 rfl (Nat.le_of_ble_eq_true rfl) dX5_aimed_160 ⟨Nat.le_of_ble_eq_true rfl, Nat.le_of_ble_eq_true rfl⟩ (fun v160 H locs e160 hW hS => ?_)
                                              refine lv_goto (tgt := 167) hx hb dX5_aimed_163 (by decide) ?_
                                              refine lv_istore (lv' := [(10, .int v160), (9, .int v143), (8, .int u), (7, .int m), (6, .int q), (5, .int p), (4, .int l), (0, .ref o), (1, .int r), (2, .int y), (3, .int k)]) hx hb dX5_aimed_167 hl (by decide) rfl (fun ls hl => ?_)
                                              refine lv_iload hx hb dX5_aimed_169 (lv_at hl 0 rfl) ?_
                                              refine lv_iload hx hb dX5_aimed_171 (lv_at hl 1 rfl) ?_
                                              refine lv_icmp_le (tgt := 181) hx hb dX5_aimed_173 (by decide) (fun c173 => ?_) (fun c173 => ?_)
                                              · have t173 : (v160).toInt ≤ (v143).toInt := ww_le c173
                                                refine lv_iload hx hb dX5_aimed_181 (lv_at hl 1 rfl) ?_
                                                refine lv_istore (lv' := [(9, .int v143), (10, .int v160), (8, .int u), (7, .int m), (6, .int q), (5, .int p), (4, .int l), (0, .ref o), (1, .int r), (2, .int y), (3, .int k)]) hx hb dX5_aimed_183 hl (by decide) rfl (fun ls hl => ?_)
                                                first
                                                | (have n183 : v143 = ai_v S4 r y k p q m u := by unfold ai_v ai_w; first | rw [if_pos c150, ← e160, ← e143, if_pos c173] | rw [if_neg c150, ← e143, if_pos c173])
                                                | (have n183 : v160 = ai_v S4 r y k p q m u := by unfold ai_v ai_w; rw [if_pos c150, ← e160, ← e143, if_neg c173])
                                                | (have n183 : (0 : Int32) = ai_v S4 r y k p q m u := by unfold ai_v ai_w; rw [if_neg c150, ← e143, if_neg c173])
                                                refine lv_iload hx hb dX5_aimed_185 (lv_at hl 0 rfl) ?_
                                                refine lv_iload hx hb dX5_aimed_187 (lv_at hl 6 rfl) ?_
                                                refine lv_icmp_lt (tgt := 195) hx hb dX5_aimed_189 (by decide) (fun c189 => ?_) (fun c189 => ?_)
                                                · have t189 : (v143).toInt < (l).toInt := ww_lt c189
                                                  have nlt : ai_v S4 r y k p q m u < l := by rw [← n183]; exact c189
                                                  refine lv_iload hx hb dX5_aimed_195 (lv_at hl 0 rfl) ?_
                                                  refine lv_istore (lv' := [(4, .int v143), (9, .int v143), (10, .int v160), (8, .int u), (7, .int m), (6, .int q), (5, .int p), (0, .ref o), (1, .int r), (2, .int y), (3, .int k)]) hx hb dX5_aimed_197 hl (by decide) rfl (fun ls hl => ?_)
                                                  refine lv_aload_n hx hb dX5_aimed_199 rfl (lv_at hl 7 rfl) ?_
                                                  refine mm_geta hx hb hts hown hK hW 80 rfl q1765 dX5_aimed_200 ?_
                                                  refine lv_iconst (v := 0) hx hb dX5_aimed_203 (by decide) ?_
                                                  refine lv_iload hx hb dX5_aimed_204 (lv_at hl 6 rfl) ?_
                                                  refine mm_iast hx hb hK hW hS 80 rfl (ww_in (by decide) (by decide)) dX5_aimed_206 (fun S206 H locs f206 hW hS => ?_)
                                                  refine lv_aload_n hx hb dX5_aimed_207 rfl (lv_at hl 7 rfl) ?_
                                                  refine mm_geta hx hb hts hown hK hW 81 rfl q1766 dX5_aimed_208 ?_
                                                  refine lv_iconst (v := 0) hx hb dX5_aimed_211 (by decide) ?_
                                                  refine lv_iload hx hb dX5_aimed_212 (lv_at hl 4 rfl) ?_
                                                  refine mm_iast hx hb hK hW hS 81 rfl (ww_in (by decide) (by decide)) dX5_aimed_214 (fun S214 H locs f214 hW hS => ?_)
                                                  refine lv_aload_n hx hb dX5_aimed_215 rfl (lv_at hl 7 rfl) ?_
                                                  refine mm_geta hx hb hts hown hK hW 80 rfl q1765 dX5_aimed_216 ?_
                                                  refine lv_iconst (v := 1) hx hb dX5_aimed_219 (by decide) ?_
                                                  refine lv_iload hx hb dX5_aimed_220 (lv_at hl 5 rfl) ?_
                                                  refine mm_iast hx hb hK hW hS 80 rfl (ww_in (by decide) (by decide)) dX5_aimed_222 (fun S222 H locs f222 hW hS => ?_)
                                                  refine lv_aload_n hx hb dX5_aimed_223 rfl (lv_at hl 7 rfl) ?_
                                                  refine mm_geta hx hb hts hown hK hW 81 rfl q1766 dX5_aimed_224 ?_
                                                  refine lv_iconst (v := 1) hx hb dX5_aimed_227 (by decide) ?_
                                                  refine lv_iload hx hb dX5_aimed_228 (lv_at hl 3 rfl) ?_
                                                  refine mm_iast hx hb hK hW hS 81 rfl (ww_in (by decide) (by decide)) dX5_aimed_230 (fun S230 H locs f230 hW hS => ?_)
                                                  have n230 : True := trivial
                                                  try have n230 : S230 = ai_S S4 p q m u := by rw [f230, f222, f214, f206]; rfl
                                                  obtain ⟨v231, e231⟩ : ∃ yQ : Int32, yQ = u + 1 := ⟨_, rfl⟩
                                                  refine lv_iinc (v := v231) (lv' := [(8, .int v231), (4, .int v143), (9, .int v143), (10, .int v160), (7, .int m), (6, .int q), (5, .int p), (0, .ref o), (1, .int r), (2, .int y), (3, .int k)]) hx hb dX5_aimed_231 hl (k := 3) rfl (by rw [e231]; rfl) (by decide) rfl (fun ls hl => ?_)
                                                  refine lv_goto (tgt := 130) hx hb dX5_aimed_234 (by decide) ?_
                                                  have tb : v231.toInt = u.toInt + 1 := by rw [e231]; exact ww_inc' (by omega)
                                                  exact ih130 v143 v231 S230 H locs (by omega) (by omega) (by omega) (by first | exact iF130 | (rw [f230, f222, f214, f206]; exact (((iF130.wr (by decide)).wr (by decide)).wr (by decide)).wr (by decide))) (by first | (rw [e231]; rw [ao_go, if_neg c133, if_neg nlt] at hgo130; exact hgo130) | (rw [e231, n230, n183]; rw [ao_go, if_neg c133, if_pos nlt] at hgo130; exact hgo130)) hW hS ls (lv_sub hl [0, 4, 5, 6, 1, 7, 8, 9, 10] rfl)
                                                · have t189 : (l).toInt ≤ (v143).toInt := ww_nlt c189
                                                  have nlt : ¬ ai_v S4 r y k p q m u < l := by rw [← n183]; exact c189
                                                  refine lv_goto (tgt := 231) hx hb dX5_aimed_192 (by decide) ?_
                                                  have n230 : True := trivial
                                                  try have n230 : S230 = ai_S S4 p q m u := by rw [f230, f222, f214, f206]; rfl
                                                  obtain ⟨v231, e231⟩ : ∃ yQ : Int32, yQ = u + 1 := ⟨_, rfl⟩
                                                  refine lv_iinc (v := v231) (lv' := [(8, .int v231), (9, .int v143), (10, .int v160), (7, .int m), (6, .int q), (5, .int p), (4, .int l), (0, .ref o), (1, .int r), (2, .int y), (3, .int k)]) hx hb dX5_aimed_231 hl (k := 2) rfl (by rw [e231]; rfl) (by decide) rfl (fun ls hl => ?_)
                                                  refine lv_goto (tgt := 130) hx hb dX5_aimed_234 (by decide) ?_
                                                  have tb : v231.toInt = u.toInt + 1 := by rw [e231]; exact ww_inc' (by omega)
                                                  exact ih130 l v231 S4 H locs (by omega) (by omega) (by omega) (by first | exact iF130 | (rw [f230, f222, f214, f206]; exact (((iF130.wr (by decide)).wr (by decide)).wr (by decide)).wr (by decide))) (by first | (rw [e231]; rw [ao_go, if_neg c133, if_neg nlt] at hgo130; exact hgo130) | (rw [e231, n230, n183]; rw [ao_go, if_neg c133, if_pos nlt] at hgo130; exact hgo130)) hW hS ls (lv_sub hl [0, 3, 4, 5, 6, 7, 8, 9, 10] rfl)
                                              · have t173 : (v143).toInt < (v160).toInt := ww_nle c173
                                                refine lv_iload hx hb dX5_aimed_176 (lv_at hl 0 rfl) ?_
                                                refine lv_goto (tgt := 183) hx hb dX5_aimed_178 (by decide) ?_
                                                refine lv_istore (lv' := [(9, .int v160), (10, .int v160), (8, .int u), (7, .int m), (6, .int q), (5, .int p), (4, .int l), (0, .ref o), (1, .int r), (2, .int y), (3, .int k)]) hx hb dX5_aimed_183 hl (by decide) rfl (fun ls hl => ?_)
                                                first
                                                | (have n183 : v143 = ai_v S4 r y k p q m u := by unfold ai_v ai_w; first | rw [if_pos c150, ← e160, ← e143, if_pos c173] | rw [if_neg c150, ← e143, if_pos c173])
                                                | (have n183 : v160 = ai_v S4 r y k p q m u := by unfold ai_v ai_w; rw [if_pos c150, ← e160, ← e143, if_neg c173])
                                                | (have n183 : (0 : Int32) = ai_v S4 r y k p q m u := by unfold ai_v ai_w; rw [if_neg c150, ← e143, if_neg c173])
                                                refine lv_iload hx hb dX5_aimed_185 (lv_at hl 0 rfl) ?_
                                                refine lv_iload hx hb dX5_aimed_187 (lv_at hl 6 rfl) ?_
                                                refine lv_icmp_lt (tgt := 195) hx hb dX5_aimed_189 (by decide) (fun c189 => ?_) (fun c189 => ?_)
                                                · have t189 : (v160).toInt < (l).toInt := ww_lt c189
                                                  have nlt : ai_v S4 r y k p q m u < l := by rw [← n183]; exact c189
                                                  refine lv_iload hx hb dX5_aimed_195 (lv_at hl 0 rfl) ?_
                                                  refine lv_istore (lv' := [(4, .int v160), (9, .int v160), (10, .int v160), (8, .int u), (7, .int m), (6, .int q), (5, .int p), (0, .ref o), (1, .int r), (2, .int y), (3, .int k)]) hx hb dX5_aimed_197 hl (by decide) rfl (fun ls hl => ?_)
                                                  refine lv_aload_n hx hb dX5_aimed_199 rfl (lv_at hl 7 rfl) ?_
                                                  refine mm_geta hx hb hts hown hK hW 80 rfl q1765 dX5_aimed_200 ?_
                                                  refine lv_iconst (v := 0) hx hb dX5_aimed_203 (by decide) ?_
                                                  refine lv_iload hx hb dX5_aimed_204 (lv_at hl 6 rfl) ?_
                                                  refine mm_iast hx hb hK hW hS 80 rfl (ww_in (by decide) (by decide)) dX5_aimed_206 (fun S206 H locs f206 hW hS => ?_)
                                                  refine lv_aload_n hx hb dX5_aimed_207 rfl (lv_at hl 7 rfl) ?_
                                                  refine mm_geta hx hb hts hown hK hW 81 rfl q1766 dX5_aimed_208 ?_
                                                  refine lv_iconst (v := 0) hx hb dX5_aimed_211 (by decide) ?_
                                                  refine lv_iload hx hb dX5_aimed_212 (lv_at hl 4 rfl) ?_
                                                  refine mm_iast hx hb hK hW hS 81 rfl (ww_in (by decide) (by decide)) dX5_aimed_214 (fun S214 H locs f214 hW hS => ?_)
                                                  refine lv_aload_n hx hb dX5_aimed_215 rfl (lv_at hl 7 rfl) ?_
                                                  refine mm_geta hx hb hts hown hK hW 80 rfl q1765 dX5_aimed_216 ?_
                                                  refine lv_iconst (v := 1) hx hb dX5_aimed_219 (by decide) ?_
                                                  refine lv_iload hx hb dX5_aimed_220 (lv_at hl 5 rfl) ?_
                                                  refine mm_iast hx hb hK hW hS 80 rfl (ww_in (by decide) (by decide)) dX5_aimed_222 (fun S222 H locs f222 hW hS => ?_)
                                                  refine lv_aload_n hx hb dX5_aimed_223 rfl (lv_at hl 7 rfl) ?_
                                                  refine mm_geta hx hb hts hown hK hW 81 rfl q1766 dX5_aimed_224 ?_
                                                  refine lv_iconst (v := 1) hx hb dX5_aimed_227 (by decide) ?_
                                                  refine lv_iload hx hb dX5_aimed_228 (lv_at hl 3 rfl) ?_
                                                  refine mm_iast hx hb hK hW hS 81 rfl (ww_in (by decide) (by decide)) dX5_aimed_230 (fun S230 H locs f230 hW hS => ?_)
                                                  have n230 : True := trivial
                                                  try have n230 : S230 = ai_S S4 p q m u := by rw [f230, f222, f214, f206]; rfl
                                                  obtain ⟨v231, e231⟩ : ∃ yQ : Int32, yQ = u + 1 := ⟨_, rfl⟩
                                                  refine lv_iinc (v := v231) (lv' := [(8, .int v231), (4, .int v160), (9, .int v160), (10, .int v160), (7, .int m), (6, .int q), (5, .int p), (0, .ref o), (1, .int r), (2, .int y), (3, .int k)]) hx hb dX5_aimed_231 hl (k := 3) rfl (by rw [e231]; rfl) (by decide) rfl (fun ls hl => ?_)
                                                  refine lv_goto (tgt := 130) hx hb dX5_aimed_234 (by decide) ?_
                                                  have tb : v231.toInt = u.toInt + 1 := by rw [e231]; exact ww_inc' (by omega)
                                                  exact ih130 v160 v231 S230 H locs (by omega) (by omega) (by omega) (by first | exact iF130 | (rw [f230, f222, f214, f206]; exact (((iF130.wr (by decide)).wr (by decide)).wr (by decide)).wr (by decide))) (by first | (rw [e231]; rw [ao_go, if_neg c133, if_neg nlt] at hgo130; exact hgo130) | (rw [e231, n230, n183]; rw [ao_go, if_neg c133, if_pos nlt] at hgo130; exact hgo130)) hW hS ls (lv_sub hl [0, 4, 5, 6, 1, 7, 8, 9, 10] rfl)
                                                · have t189 : (l).toInt ≤ (v160).toInt := ww_nlt c189
                                                  have nlt : ¬ ai_v S4 r y k p q m u < l := by rw [← n183]; exact c189
                                                  refine lv_goto (tgt := 231) hx hb dX5_aimed_192 (by decide) ?_
                                                  have n230 : True := trivial
                                                  try have n230 : S230 = ai_S S4 p q m u := by rw [f230, f222, f214, f206]; rfl
                                                  obtain ⟨v231, e231⟩ : ∃ yQ : Int32, yQ = u + 1 := ⟨_, rfl⟩
                                                  refine lv_iinc (v := v231) (lv' := [(8, .int v231), (9, .int v160), (10, .int v160), (7, .int m), (6, .int q), (5, .int p), (4, .int l), (0, .ref o), (1, .int r), (2, .int y), (3, .int k)]) hx hb dX5_aimed_231 hl (k := 2) rfl (by rw [e231]; rfl) (by decide) rfl (fun ls hl => ?_)
                                                  refine lv_goto (tgt := 130) hx hb dX5_aimed_234 (by decide) ?_
                                                  have tb : v231.toInt = u.toInt + 1 := by rw [e231]; exact ww_inc' (by omega)
                                                  exact ih130 l v231 S4 H locs (by omega) (by omega) (by omega) (by first | exact iF130 | (rw [f230, f222, f214, f206]; exact (((iF130.wr (by decide)).wr (by decide)).wr (by decide)).wr (by decide))) (by first | (rw [e231]; rw [ao_go, if_neg c133, if_neg nlt] at hgo130; exact hgo130) | (rw [e231, n230, n183]; rw [ao_go, if_neg c133, if_pos nlt] at hgo130; exact hgo130)) hW hS ls (lv_sub hl [0, 3, 4, 5, 6, 7, 8, 9, 10] rfl)
                                      exact L130 5 l3 w128 S3 H locs (by show (3 : Int) - _ < 5; omega) w128a w128b iF109 (by rw [ew128]; rfl) hW hS ls (lv_sub hl [0, 1, 2, 3, 4, 5, 6, 7, 8] rfl)
                                    refine lv_iload_n hx hb dX5_aimed_115 rfl (lv_at hl 7 rfl) ?_
                                    refine lv_iconst (v := 2) hx hb dX5_aimed_116 (by decide) ?_
                                    refine lv_icmp_ne (tgt := 127) hx hb dX5_aimed_117 (by decide) (fun c117 => ?_) (fun c117 => ?_)
                                    · skip
                                      refine lv_iconst (v := 2) hx hb dX5_aimed_127 (by decide) ?_
                                      exact J128 _ (by simp only [if_neg c112, if_neg c117])
                                    · skip
                                      refine lv_iload hx hb dX5_aimed_120 (lv_at hl 0 rfl) ?_
                                      refine lv_iconst (v := 1) hx hb dX5_aimed_122 (by decide) ?_
                                      refine nv_iadd hx hb dX5_aimed_123 (fun v123 e123 => ?_)
                                      refine lv_goto (tgt := 128) hx hb dX5_aimed_124 (by decide) ?_
                                      exact J128 _ (by subst e123; simp only [if_neg c112, if_pos c117])
                              exact L109 4 l2 0 S2 H locs (by show (3 : Int) - 0 < 4; omega) (by decide) (by decide) iF73 (rfl) hW hS ls (lv_sub hl [0, 1, 2, 3, 4, 5, 6, 7] rfl)
                            · skip
                              refine lv_goto (tgt := 243) hx hb dX5_aimed_103 (by decide) ?_
                              obtain ⟨v243, e243⟩ : ∃ yQ : Int32, yQ = q + 1 := ⟨_, rfl⟩
                              refine lv_iinc (v := v243) (lv' := [(6, .int v243), (5, .int p), (4, .int l2), (0, .ref o), (1, .int r), (2, .int y), (3, .int k)]) hx hb dX5_aimed_243 hl (k := 0) rfl (by rw [e243]; rfl) (by decide) rfl (fun ls hl => ?_)
                              refine lv_goto (tgt := 73) hx hb dX5_aimed_246 (by decide) ?_
                              have tb : v243.toInt = q.toInt + 1 := by rw [e243]; exact ww_inc' (by omega)
                              exact ih73 l2 v243 S2 H locs (by omega) (by omega) (by omega) (by first | exact iF109 | exact iF73) (by rw [ew88] at c88; rw [aq_go, if_neg c88] at hgo73; first | (rw [e243, g31, g32]; simp only [if_neg c88, if_pos c93, if_pos c100] at hgo73; exact hgo73) | (rw [e243]; simp only [if_neg c88, if_pos c93, if_pos c100] at hgo73; exact hgo73)) hW hS ls (lv_sub hl [0, 1, 2, 3, 4, 5, 6] rfl)
                      refine lv_iload_n hx hb dX5_aimed_75 rfl (lv_at hl 6 rfl) ?_
                      refine lv_iconst (v := 2) hx hb dX5_aimed_76 (by decide) ?_
                      refine lv_icmp_ne (tgt := 87) hx hb dX5_aimed_77 (by decide) (fun c77 => ?_) (fun c77 => ?_)
                      · skip
                        refine lv_iconst (v := 1) hx hb dX5_aimed_87 (by decide) ?_
                        exact J88 _ (by simp only [if_neg c77])
                      · skip
                        refine lv_aload_n hx hb dX5_aimed_80 rfl (lv_at hl 3 rfl) ?_
                        refine mm_geti hx hb hts hown hK hW 76 rfl (by decide) q1761 dX5_aimed_81 ?_
                        refine lv_goto (tgt := 88) hx hb dX5_aimed_84 (by decide) ?_
                        exact J88 _ (by simp only [if_pos c77])
                  exact L73 7 l1 0 S1 H locs (by decide) (by decide) (by decide) iF61 (rfl) hW hS ls (lv_sub hl [0, 1, 2, 3, 4, 5, 6] rfl)
            exact L61 7 2147483647 0 S H locs (by decide) (by decide) (by decide) (fr_.rf S) (rfl) hW hS ls (lv_sub hl [0, 1, 2, 3, 4, 5] rfl)
          · skip
            refine lv_aload_n hx hb dX5_aimed_42 rfl (lv_at hl 0 rfl) ?_
            refine mm_geti hx hb hts hown hK hW 76 rfl (by decide) q1761 dX5_aimed_43 ?_
            refine lv_iconst (v := 2) hx hb dX5_aimed_46 (by decide) ?_
            refine lv_icmp_ge (tgt := 53) hx hb dX5_aimed_47 (by decide) (fun c47 => ?_) (fun c47 => ?_)
            · have t47 : 2 ≤ ((fd_ S 76)).toInt := ww_le c47
              refine lv_ldcw (v := 2147483647) hx hb hown (hts _ q2276) dX5_aimed_53 ?_
              refine lv_istore (lv' := [(4, .int 2147483647), (0, .ref o), (1, .int r), (2, .int y), (3, .int k)]) hx hb dX5_aimed_56 hl (by decide) rfl (fun ls hl => ?_)
              refine lv_iconst (v := 0) hx hb dX5_aimed_58 (by decide) ?_
              refine lv_istore (lv' := [(5, .int 0), (4, .int 2147483647), (0, .ref o), (1, .int r), (2, .int y), (3, .int k)]) hx hb dX5_aimed_59 hl (by decide) rfl (fun ls hl => ?_)
              have L61 : ∀ (fu61 : Nat) (l1 : Int32) (p : Int32) (S1 : mm_S) (H : Heap) (locs : List Loc), (6 - p.toInt < fu61) → (0 ≤ p.toInt) → (p.toInt ≤ 6) → (fr_ [80, 81] S S1) → (ap_go fu61 S1 r y k l1 p = ap_s S r y k) → mm_W G o S1 E H → va_S (mm_F o) sQ.heap H locs → ∀ ls : Array Slot, lv_has ls 11 [(5, .int p), (4, .int l1), (0, .ref o), (1, .int r), (2, .int y), (3, .int k)] → W pQ lQ eQ (wm_rm 1) sQ mQ (Value.ref o :: [.int r, .int y, .int k]).toArray belowQ methQ cQ H locs 0 0 (MQ belowQ (wm_Q (fun vQ HQ => vQ = some (.int (ff_aimed S r y k).1) ∧ mm_W G o (ff_aimed S r y k).2 E HQ) (mm_F o)) (Value.ref o :: [.int r, .int y, .int k]).toArray sQ 0 0 (mm_F o)) (F0 mQ 61 ls []) := by
                intro fu61
                induction fu61 with
                | zero =>
                  intro l1 p S1 H locs hm61 p061 p161 iF61 hgo61 hW hS ls hl
                  exact absurd hm61 (by omega)
                | succ fu61 ih61 =>
                  intro l1 p S1 H locs hm61 p061 p161 iF61 hgo61 hW hS ls hl
                  have x76a : fd_ S1 76 = fd_ S 76 := fd_of (iF61 76 (by decide))
                  refine lv_iload hx hb dX5_aimed_61 (lv_at hl 0 rfl) ?_
                  refine lv_aload_n hx hb dX5_aimed_63 rfl (lv_at hl 2 rfl) ?_
                  refine mm_geti hx hb hts hown hK hW 76 rfl (by decide) q1761 dX5_aimed_64 ?_
                  refine lv_icmp_ge (tgt := 255) hx hb dX5_aimed_67 (by decide) (fun c67 => ?_) (fun c67 => ?_)
                  · have t67 : ((fd_ S1 76)).toInt ≤ (p).toInt := ww_le c67
                    have hz : (l1, fw_ (fw_ S1 79 k) 76 0) = ap_s S r y k := by rw [ap_go, if_pos c67] at hgo61; exact hgo61
                    refine lv_aload_n hx hb dX5_aimed_255 rfl (lv_at hl 2 rfl) ?_
                    refine lv_iload_n hx hb dX5_aimed_256 rfl (lv_at hl 5 rfl) ?_
                    refine mm_puti hx hb hts hown hK hW hS 79 rfl (by decide) rfl rfl rfl q1764 dX5_aimed_257 (fun S257 H locs f257 hW hS => ?_)
                    refine lv_aload_n hx hb dX5_aimed_260 rfl (lv_at hl 2 rfl) ?_
                    refine lv_iconst (v := 0) hx hb dX5_aimed_261 (by decide) ?_
                    refine mm_puti hx hb hts hown hK hW hS 76 rfl (by decide) rfl rfl rfl q1761 dX5_aimed_262 (fun S262 H locs f262 hW hS => ?_)
                    refine lv_iload hx hb dX5_aimed_265 (lv_at hl 1 rfl) ?_
                    refine mm_iret hx hb hr hlocks hW hS ?_ dX5_aimed_267
                    have hres : ff_aimed S r y k = (l1, S262) := by
                      rw [f262, f257, hz]; subst e3 e13 e22 f257 f262; simp only [ff_aimed, if_neg c6, if_neg c16, if_neg c25, if_neg c32, if_pos c39, if_pos c47, if_pos c67]
                    exact ⟨by rw [hres], by rw [hres], rfl⟩
                  · have t67 : (p).toInt < ((fd_ S1 76)).toInt := ww_nle c67
                    have hp76 := hA.2
                    rw [x76a] at t67
                    refine lv_iconst (v := 0) hx hb dX5_aimed_70 (by decide) ?_
                    refine lv_istore (lv' := [(6, .int 0), (5, .int p), (4, .int l1), (0, .ref o), (1, .int r), (2, .int y), (3, .int k)]) hx hb dX5_aimed_71 hl (by decide) rfl (fun ls hl => ?_)
                    have L73 : ∀ (fu73 : Nat) (l2 : Int32) (q : Int32) (S2 : mm_S) (H : Heap) (locs : List Loc), (6 - q.toInt < fu73) → (0 ≤ q.toInt) → (q.toInt ≤ 6) → (fr_ [80, 81] S S2) → (aq_go fu73 S2 r y k p l2 q = aq_s S1 r y k p l1) → mm_W G o S2 E H → va_S (mm_F o) sQ.heap H locs → ∀ ls : Array Slot, lv_has ls 11 [(6, .int q), (5, .int p), (4, .int l2), (0, .ref o), (1, .int r), (2, .int y), (3, .int k)] → W pQ lQ eQ (wm_rm 1) sQ mQ (Value.ref o :: [.int r, .int y, .int k]).toArray belowQ methQ cQ H locs 0 0 (MQ belowQ (wm_Q (fun vQ HQ => vQ = some (.int (ff_aimed S r y k).1) ∧ mm_W G o (ff_aimed S r y k).2 E HQ) (mm_F o)) (Value.ref o :: [.int r, .int y, .int k]).toArray sQ 0 0 (mm_F o)) (F0 mQ 73 ls []) := by
                      intro fu73
                      induction fu73 with
                      | zero =>
                        intro l2 q S2 H locs hm73 q073 q173 iF73 hgo73 hW hS ls hl
                        exact absurd hm73 (by omega)
                      | succ fu73 ih73 =>
                        intro l2 q S2 H locs hm73 q073 q173 iF73 hgo73 hW hS ls hl
                        have x76 : fd_ S2 76 = fd_ S 76 := fd_of (iF73 76 (by decide))
                        refine lv_iload hx hb dX5_aimed_73 (lv_at hl 0 rfl) ?_
                        refine wm_join (P := fun w88 : Int32 => w88 = (if k = 2 then fd_ S2 76 else 1)) (j := 88) (rest := [.int q]) (ls := ls) (fun w88 ew88 => ?_) (fun J88 => ?_)
                        · skip
                          refine lv_icmp_ge (tgt := 249) hx hb dX5_aimed_88 (by decide) (fun c88 => ?_) (fun c88 => ?_)
                          · have t88 : (w88).toInt ≤ (q).toInt := ww_le c88
                            rw [ew88] at c88
                            have g2 : (l2, S2) = aq_s S1 r y k p l1 := by simp only [aq_go, if_pos c88] at hgo73; exact hgo73
                            have g21 : l2 = (aq_s S1 r y k p l1).1 := congrArg (fun zQ => zQ.1) g2
                            have g22 : S2 = (aq_s S1 r y k p l1).2 := congrArg (fun zQ => zQ.2) g2
                            clear g2 hgo73
                            obtain ⟨v249, e249⟩ : ∃ yQ : Int32, yQ = p + 1 := ⟨_, rfl⟩
                            refine lv_iinc (v := v249) (lv' := [(5, .int v249), (6, .int q), (4, .int l2), (0, .ref o), (1, .int r), (2, .int y), (3, .int k)]) hx hb dX5_aimed_249 hl (k := 1) rfl (by rw [e249]; rfl) (by decide) rfl (fun ls hl => ?_)
                            refine lv_goto (tgt := 61) hx hb dX5_aimed_252 (by decide) ?_
                            have tb : v249.toInt = p.toInt + 1 := by rw [e249]; exact ww_inc' (by omega)
                            exact ih61 l2 v249 S2 H locs (by omega) (by omega) (by omega) iF73 (by rw [e249, g21, g22]; rw [ap_go, if_neg c67] at hgo61; exact hgo61) hW hS ls (lv_sub hl [0, 2, 3, 4, 5, 6] rfl)
                          · have t88 : (q).toInt < (w88).toInt := ww_nle c88
                            have q76 : q.toInt < 6 := by
                              rw [ew88] at t88
                              have := hA.2
                              rw [x76] at t88
                              split at t88
                              · omega
                              · have z : (1 : Int32).toInt = 1 := by decide
                                omega
                            refine lv_iload_n hx hb dX5_aimed_91 rfl (lv_at hl 6 rfl) ?_
                            refine lv_iconst (v := 2) hx hb dX5_aimed_92 (by decide) ?_
                            refine lv_icmp_ne (tgt := 106) hx hb dX5_aimed_93 (by decide) (fun c93 => ?_) (fun c93 => ?_)
                            · skip
                              refine lv_iconst (v := 0) hx hb dX5_aimed_106 (by decide) ?_
                              refine lv_istore (lv' := [(7, .int 0), (6, .int q), (5, .int p), (4, .int l2), (0, .ref o), (1, .int r), (2, .int y), (3, .int k)]) hx hb dX5_aimed_107 hl (by decide) rfl (fun ls hl => ?_)
                              have L109 : ∀ (fu109 : Nat) (l3 : Int32) (m : Int32) (S3 : mm_S) (H : Heap) (locs : List Loc), (3 - m.toInt < fu109) → (0 ≤ m.toInt) → (m.toInt ≤ 3) → (fr_ [80, 81] S S3) → (an_go fu109 S3 r y k p q l3 m = an_s S2 r y k p q l2) → mm_W G o S3 E H → va_S (mm_F o) sQ.heap H locs → ∀ ls : Array Slot, lv_has ls 11 [(7, .int m), (6, .int q), (5, .int p), (4, .int l3), (0, .ref o), (1, .int r), (2, .int y), (3, .int k)] → W pQ lQ eQ (wm_rm 1) sQ mQ (Value.ref o :: [.int r, .int y, .int k]).toArray belowQ methQ cQ H locs 0 0 (MQ belowQ (wm_Q (fun vQ HQ => vQ = some (.int (ff_aimed S r y k).1) ∧ mm_W G o (ff_aimed S r y k).2 E HQ) (mm_F o)) (Value.ref o :: [.int r, .int y, .int k]).toArray sQ 0 0 (mm_F o)) (F0 mQ 109 ls []) := by
                                intro fu109
                                induction fu109 with
                                | zero =>
                                  intro l3 m S3 H locs hm109 m0109 m1109 iF109 hgo109 hW hS ls hl
                                  exact absurd hm109 (by omega)
                                | succ fu109 ih109 =>
                                  intro l3 m S3 H locs hm109 m0109 m1109 iF109 hgo109 hW hS ls hl
                                  refine lv_iload hx hb dX5_aimed_109 (lv_at hl 0 rfl) ?_
                                  refine lv_iconst (v := 3) hx hb dX5_aimed_111 (by decide) ?_
                                  refine lv_icmp_ge (tgt := 243) hx hb dX5_aimed_112 (by decide) (fun c112 => ?_) (fun c112 => ?_)
                                  · have t112 : 3 ≤ (m).toInt := ww_le c112
                                    have g3 : (l3, S3) = an_s S2 r y k p q l2 := by simp only [an_go, if_pos c112] at hgo109; exact hgo109
                                    have g31 : l3 = (an_s S2 r y k p q l2).1 := congrArg (fun zQ => zQ.1) g3
                                    have g32 : S3 = (an_s S2 r y k p q l2).2 := congrArg (fun zQ => zQ.2) g3
                                    clear g3 hgo109
                                    obtain ⟨v243, e243⟩ : ∃ yQ : Int32, yQ = q + 1 := ⟨_, rfl⟩
                                    refine lv_iinc (v := v243) (lv' := [(6, .int v243), (7, .int m), (5, .int p), (4, .int l3), (0, .ref o), (1, .int r), (2, .int y), (3, .int k)]) hx hb dX5_aimed_243 hl (k := 1) rfl (by rw [e243]; rfl) (by decide) rfl (fun ls hl => ?_)
                                    refine lv_goto (tgt := 73) hx hb dX5_aimed_246 (by decide) ?_
                                    have tb : v243.toInt = q.toInt + 1 := by rw [e243]; exact ww_inc' (by omega)
                                    exact ih73 l3 v243 S3 H locs (by omega) (by omega) (by omega) (by first | exact iF109 | exact iF73) (by rw [ew88] at c88; rw [aq_go, if_neg c88] at hgo73; first | (rw [e243, g31, g32]; simp only [if_neg c88, if_neg c93, if_pos c112] at hgo73; exact hgo73) | (rw [e243]; simp only [if_neg c88, if_neg c93, if_pos c112] at hgo73; exact hgo73)) hW hS ls (lv_sub hl [0, 2, 3, 4, 5, 6, 7] rfl)
                                  · have t112 : (m).toInt < 3 := ww_nle c112
                                    refine wm_join (P := fun w128 : Int32 => w128 = (if k = 2 then m + 1 else 2)) (j := 128) (rest := []) (ls := ls) (fun w128 ew128 => ?_) (fun J128 => ?_)
                                    · skip
                                      have w128q : 0 ≤ w128.toInt ∧ w128.toInt ≤ 3 := by
                                        rw [ew128]
                                        have tm : (m + 1).toInt = m.toInt + 1 := ww_inc' (by omega)
                                        split <;> first | omega | exact ⟨by decide, by decide⟩
                                      obtain ⟨w128a, w128b⟩ := w128q
                                      refine lv_istore (lv' := [(8, .int w128), (7, .int m), (6, .int q), (5, .int p), (4, .int l3), (0, .ref o), (1, .int r), (2, .int y), (3, .int k)]) hx hb dX5_aimed_128 hl (by decide) rfl (fun ls hl => ?_)
                                      have L130 : ∀ (fu130 : Nat) (l : Int32) (u : Int32) (S4 : mm_S) (H : Heap) (locs : List Loc), (3 - u.toInt < fu130) → (0 ≤ u.toInt) → (u.toInt ≤ 3) → (fr_ [80, 81] S S4) → (ao_go fu130 S4 r y k p q m l u = ao_s S3 r y k p q m l3) → mm_W G o S4 E H → va_S (mm_F o) sQ.heap H locs → ∀ ls : Array Slot, lv_has ls 11 [(8, .int u), (7, .int m), (6, .int q), (5, .int p), (4, .int l), (0, .ref o), (1, .int r), (2, .int y), (3, .int k)] → W pQ lQ eQ (wm_rm 1) sQ mQ (Value.ref o :: [.int r, .int y, .int k]).toArray belowQ methQ cQ H locs 0 0 (MQ belowQ (wm_Q (fun vQ HQ => vQ = some (.int (ff_aimed S r y k).1) ∧ mm_W G o (ff_aimed S r y k).2 E HQ) (mm_F o)) (Value.ref o :: [.int r, .int y, .int k]).toArray sQ 0 0 (mm_F o)) (F0 mQ 130 ls []) := by
                                        intro fu130
                                        induction fu130 with
                                        | zero =>
                                          intro l u S4 H locs hm130 u0130 u1130 iF130 hgo130 hW hS ls hl
                                          exact absurd hm130 (by omega)
                                        | succ fu130 ih130 =>
                                          intro l u S4 H locs hm130 u0130 u1130 iF130 hgo130 hW hS ls hl
                                          refine lv_iload hx hb dX5_aimed_130 (lv_at hl 0 rfl) ?_
                                          refine lv_iconst (v := 3) hx hb dX5_aimed_132 (by decide) ?_
                                          refine lv_icmp_ge (tgt := 237) hx hb dX5_aimed_133 (by decide) (fun c133 => ?_) (fun c133 => ?_)
                                          · have t133 : 3 ≤ (u).toInt := ww_le c133
                                            have g4 : (l, S4) = ao_s S3 r y k p q m l3 := by simp only [ao_go, if_pos c133] at hgo130; exact hgo130
                                            have g41 : l = (ao_s S3 r y k p q m l3).1 := congrArg (fun zQ => zQ.1) g4
                                            have g42 : S4 = (ao_s S3 r y k p q m l3).2 := congrArg (fun zQ => zQ.2) g4
                                            clear g4 hgo130
                                            obtain ⟨v237, e237⟩ : ∃ yQ : Int32, yQ = m + 1 := ⟨_, rfl⟩
                                            refine lv_iinc (v := v237) (lv' := [(7, .int v237), (8, .int u), (6, .int q), (5, .int p), (4, .int l), (0, .ref o), (1, .int r), (2, .int y), (3, .int k)]) hx hb dX5_aimed_237 hl (k := 1) rfl (by rw [e237]; rfl) (by decide) rfl (fun ls hl => ?_)
                                            refine lv_goto (tgt := 109) hx hb dX5_aimed_240 (by decide) ?_
                                            have tb : v237.toInt = m.toInt + 1 := by rw [e237]; exact ww_inc' (by omega)
                                            exact ih109 l v237 S4 H locs (by omega) (by omega) (by omega) iF130 (by rw [e237, g41, g42]; rw [an_go, if_neg c112] at hgo109; exact hgo109) hW hS ls (lv_sub hl [0, 2, 3, 4, 5, 6, 7, 8] rfl)
                                          · have t133 : (u).toInt < 3 := ww_nle c133
                                            refine lv_aload_n hx hb dX5_aimed_136 rfl (lv_at hl 5 rfl) ?_
                                            refine lv_iload hx hb dX5_aimed_137 (lv_at hl 3 rfl) ?_
                                            refine lv_iload hx hb dX5_aimed_139 (lv_at hl 1 rfl) ?_
                                            refine lv_iload_n hx hb dX5_aimed_141 rfl (lv_at hl 6 rfl) ?_
                                            refine lv_iload_n hx hb dX5_aimed_142 rfl (lv_at hl 7 rfl) ?_
                                            refine mm_callp (As := [.int p, .int m, .int r, .int y]) (rest := []) (n := 4) ⟨hx, hb, hml, hown, hts⟩ hK (mc_minutesAt lQ G o S4 E p m r y p061 (by omega) m0109 (by omega) r0 r1) (lw_V q2305 q2307 qs70 q92 q2308) (by decide +kernel) rfl ⟨Nat.le_of_ble_eq_true rfl, Nat.le_of_ble_eq_true rfl⟩ hW hS hl.1 rfl (Nat.le_of_ble_eq_true rfl) dX5_aimed_143 ⟨Nat.le_of_ble_eq_true rfl, Nat.le_of_ble_eq_true rfl⟩ (fun v143 H locs e143 hW hS => ?_)
                                            refine lv_istore (lv' := [(9, .int v143), (8, .int u), (7, .int m), (6, .int q), (5, .int p), (4, .int l), (0, .ref o), (1, .int r), (2, .int y), (3, .int k)]) hx hb dX5_aimed_146 hl (by decide) rfl (fun ls hl => ?_)
                                            refine lv_iload_n hx hb dX5_aimed_148 rfl (lv_at hl 9 rfl) ?_
                                            refine lv_iconst (v := 2) hx hb dX5_aimed_149 (by decide) ?_
                                            refine lv_icmp_ne (tgt := 166) hx hb dX5_aimed_150 (by decide) (fun c150 => ?_) (fun c150 => ?_)
                                            · skip
                                              refine lv_iconst (v := 0) hx hb dX5_aimed_166 (by decide) ?_
                                              refine lv_istore (lv' := [(10, .int 0), (9, .int v143), (8, .int u), (7, .int m), (6, .int q), (5, .int p), (4, .int l), (0, .ref o), (1, .int r), (2, .int y), (3, .int k)]) hx hb dX5_aimed_167 hl (by decide) rfl (fun ls hl => ?_)
                                              refine lv_iload hx hb dX5_aimed_169 (lv_at hl 0 rfl) ?_
                                              refine lv_iload hx hb dX5_aimed_171 (lv_at hl 1 rfl) ?_
                                              refine lv_icmp_le (tgt := 181) hx hb dX5_aimed_173 (by decide) (fun c173 => ?_) (fun c173 => ?_)
                                              · have t173 : 0 ≤ (v143).toInt := ww_le c173
                                                refine lv_iload hx hb dX5_aimed_181 (lv_at hl 1 rfl) ?_
                                                refine lv_istore (lv' := [(9, .int v143), (10, .int 0), (8, .int u), (7, .int m), (6, .int q), (5, .int p), (4, .int l), (0, .ref o), (1, .int r), (2, .int y), (3, .int k)]) hx hb dX5_aimed_183 hl (by decide) rfl (fun ls hl => ?_)
                                                first
                                                | (have n183 : v143 = ai_v S4 r y k p q m u := by unfold ai_v ai_w; first | rw [if_pos c150, ← e160, ← e143, if_pos c173] | rw [if_neg c150, ← e143, if_pos c173])
                                                | (have n183 : v160 = ai_v S4 r y k p q m u := by unfold ai_v ai_w; rw [if_pos c150, ← e160, ← e143, if_neg c173])
                                                | (have n183 : (0 : Int32) = ai_v S4 r y k p q m u := by unfold ai_v ai_w; rw [if_neg c150, ← e143, if_neg c173])
                                                refine lv_iload hx hb dX5_aimed_185 (lv_at hl 0 rfl) ?_
                                                refine lv_iload hx hb dX5_aimed_187 (lv_at hl 6 rfl) ?_
                                                refine lv_icmp_lt (tgt := 195) hx hb dX5_aimed_189 (by decide) (fun c189 => ?_) (fun c189 => ?_)
                                                · have t189 : (v143).toInt < (l).toInt := ww_lt c189
                                                  have nlt : ai_v S4 r y k p q m u < l := by rw [← n183]; exact c189
                                                  refine lv_iload hx hb dX5_aimed_195 (lv_at hl 0 rfl) ?_
                                                  refine lv_istore (lv' := [(4, .int v143), (9, .int v143), (10, .int 0), (8, .int u), (7, .int m), (6, .int q), (5, .int p), (0, .ref o), (1, .int r), (2, .int y), (3, .int k)]) hx hb dX5_aimed_197 hl (by decide) rfl (fun ls hl => ?_)
                                                  refine lv_aload_n hx hb dX5_aimed_199 rfl (lv_at hl 7 rfl) ?_
                                                  refine mm_geta hx hb hts hown hK hW 80 rfl q1765 dX5_aimed_200 ?_
                                                  refine lv_iconst (v := 0) hx hb dX5_aimed_203 (by decide) ?_
                                                  refine lv_iload hx hb dX5_aimed_204 (lv_at hl 6 rfl) ?_
                                                  refine mm_iast hx hb hK hW hS 80 rfl (ww_in (by decide) (by decide)) dX5_aimed_206 (fun S206 H locs f206 hW hS => ?_)
                                                  refine lv_aload_n hx hb dX5_aimed_207 rfl (lv_at hl 7 rfl) ?_
                                                  refine mm_geta hx hb hts hown hK hW 81 rfl q1766 dX5_aimed_208 ?_
                                                  refine lv_iconst (v := 0) hx hb dX5_aimed_211 (by decide) ?_
                                                  refine lv_iload hx hb dX5_aimed_212 (lv_at hl 4 rfl) ?_
                                                  refine mm_iast hx hb hK hW hS 81 rfl (ww_in (by decide) (by decide)) dX5_aimed_214 (fun S214 H locs f214 hW hS => ?_)
                                                  refine lv_aload_n hx hb dX5_aimed_215 rfl (lv_at hl 7 rfl) ?_
                                                  refine mm_geta hx hb hts hown hK hW 80 rfl q1765 dX5_aimed_216 ?_
                                                  refine lv_iconst (v := 1) hx hb dX5_aimed_219 (by decide) ?_
                                                  refine lv_iload hx hb dX5_aimed_220 (lv_at hl 5 rfl) ?_
                                                  refine mm_iast hx hb hK hW hS 80 rfl (ww_in (by decide) (by decide)) dX5_aimed_222 (fun S222 H locs f222 hW hS => ?_)
                                                  refine lv_aload_n hx hb dX5_aimed_223 rfl (lv_at hl 7 rfl) ?_
                                                  refine mm_geta hx hb hts hown hK hW 81 rfl q1766 dX5_aimed_224 ?_
                                                  refine lv_iconst (v := 1) hx hb dX5_aimed_227 (by decide) ?_
                                                  refine lv_iload hx hb dX5_aimed_228 (lv_at hl 3 rfl) ?_
                                                  refine mm_iast hx hb hK hW hS 81 rfl (ww_in (by decide) (by decide)) dX5_aimed_230 (fun S230 H locs f230 hW hS => ?_)
                                                  have n230 : True := trivial
                                                  try have n230 : S230 = ai_S S4 p q m u := by rw [f230, f222, f214, f206]; rfl
                                                  obtain ⟨v231, e231⟩ : ∃ yQ : Int32, yQ = u + 1 := ⟨_, rfl⟩
                                                  refine lv_iinc (v := v231) (lv' := [(8, .int v231), (4, .int v143), (9, .int v143), (10, .int 0), (7, .int m), (6, .int q), (5, .int p), (0, .ref o), (1, .int r), (2, .int y), (3, .int k)]) hx hb dX5_aimed_231 hl (k := 3) rfl (by rw [e231]; rfl) (by decide) rfl (fun ls hl => ?_)
                                                  refine lv_goto (tgt := 130) hx hb dX5_aimed_234 (by decide) ?_
                                                  have tb : v231.toInt = u.toInt + 1 := by rw [e231]; exact ww_inc' (by omega)
                                                  exact ih130 v143 v231 S230 H locs (by omega) (by omega) (by omega) (by first | exact iF130 | (rw [f230, f222, f214, f206]; exact (((iF130.wr (by decide)).wr (by decide)).wr (by decide)).wr (by decide))) (by first | (rw [e231]; rw [ao_go, if_neg c133, if_neg nlt] at hgo130; exact hgo130) | (rw [e231, n230, n183]; rw [ao_go, if_neg c133, if_pos nlt] at hgo130; exact hgo130)) hW hS ls (lv_sub hl [0, 4, 5, 6, 1, 7, 8, 9, 10] rfl)
                                                · have t189 : (l).toInt ≤ (v143).toInt := ww_nlt c189
                                                  have nlt : ¬ ai_v S4 r y k p q m u < l := by rw [← n183]; exact c189
                                                  refine lv_goto (tgt := 231) hx hb dX5_aimed_192 (by decide) ?_
                                                  have n230 : True := trivial
                                                  try have n230 : S230 = ai_S S4 p q m u := by rw [f230, f222, f214, f206]; rfl
                                                  obtain ⟨v231, e231⟩ : ∃ yQ : Int32, yQ = u + 1 := ⟨_, rfl⟩
                                                  refine lv_iinc (v := v231) (lv' := [(8, .int v231), (9, .int v143), (10, .int 0), (7, .int m), (6, .int q), (5, .int p), (4, .int l), (0, .ref o), (1, .int r), (2, .int y), (3, .int k)]) hx hb dX5_aimed_231 hl (k := 2) rfl (by rw [e231]; rfl) (by decide) rfl (fun ls hl => ?_)
                                                  refine lv_goto (tgt := 130) hx hb dX5_aimed_234 (by decide) ?_
                                                  have tb : v231.toInt = u.toInt + 1 := by rw [e231]; exact ww_inc' (by omega)
                                                  exact ih130 l v231 S4 H locs (by omega) (by omega) (by omega) (by first | exact iF130 | (rw [f230, f222, f214, f206]; exact (((iF130.wr (by decide)).wr (by decide)).wr (by decide)).wr (by decide))) (by first | (rw [e231]; rw [ao_go, if_neg c133, if_neg nlt] at hgo130; exact hgo130) | (rw [e231, n230, n183]; rw [ao_go, if_neg c133, if_pos nlt] at hgo130; exact hgo130)) hW hS ls (lv_sub hl [0, 3, 4, 5, 6, 7, 8, 9, 10] rfl)
                                              · have t173 : (v143).toInt < 0 := ww_nle c173
                                                refine lv_iload hx hb dX5_aimed_176 (lv_at hl 0 rfl) ?_
                                                refine lv_goto (tgt := 183) hx hb dX5_aimed_178 (by decide) ?_
                                                refine lv_istore (lv' := [(9, .int 0), (10, .int 0), (8, .int u), (7, .int m), (6, .int q), (5, .int p), (4, .int l), (0, .ref o), (1, .int r), (2, .int y), (3, .int k)]) hx hb dX5_aimed_183 hl (by decide) rfl (fun ls hl => ?_)
                                                first
                                                | (have n183 : v143 = ai_v S4 r y k p q m u := by unfold ai_v ai_w; first | rw [if_pos c150, ← e160, ← e143, if_pos c173] | rw [if_neg c150, ← e143, if_pos c173])
                                                | (have n183 : v160 = ai_v S4 r y k p q m u := by unfold ai_v ai_w; rw [if_pos c150, ← e160, ← e143, if_neg c173])
                                                | (have n183 : (0 : Int32) = ai_v S4 r y k p q m u := by unfold ai_v ai_w; rw [if_neg c150, ← e143, if_neg c173])
                                                refine lv_iload hx hb dX5_aimed_185 (lv_at hl 0 rfl) ?_
                                                refine lv_iload hx hb dX5_aimed_187 (lv_at hl 6 rfl) ?_
                                                refine lv_icmp_lt (tgt := 195) hx hb dX5_aimed_189 (by decide) (fun c189 => ?_) (fun c189 => ?_)
                                                · have t189 : 0 < (l).toInt := ww_lt c189
                                                  have nlt : ai_v S4 r y k p q m u < l := by rw [← n183]; exact c189
                                                  refine lv_iload hx hb dX5_aimed_195 (lv_at hl 0 rfl) ?_
                                                  refine lv_istore (lv' := [(4, .int 0), (9, .int 0), (10, .int 0), (8, .int u), (7, .int m), (6, .int q), (5, .int p), (0, .ref o), (1, .int r), (2, .int y), (3, .int k)]) hx hb dX5_aimed_197 hl (by decide) rfl (fun ls hl => ?_)
                                                  refine lv_aload_n hx hb dX5_aimed_199 rfl (lv_at hl 7 rfl) ?_
                                                  refine mm_geta hx hb hts hown hK hW 80 rfl q1765 dX5_aimed_200 ?_
                                                  refine lv_iconst (v := 0) hx hb dX5_aimed_203 (by decide) ?_
                                                  refine lv_iload hx hb dX5_aimed_204 (lv_at hl 6 rfl) ?_
                                                  refine mm_iast hx hb hK hW hS 80 rfl (ww_in (by decide) (by decide)) dX5_aimed_206 (fun S206 H locs f206 hW hS => ?_)
                                                  refine lv_aload_n hx hb dX5_aimed_207 rfl (lv_at hl 7 rfl) ?_
                                                  refine mm_geta hx hb hts hown hK hW 81 rfl q1766 dX5_aimed_208 ?_
                                                  refine lv_iconst (v := 0) hx hb dX5_aimed_211 (by decide) ?_
                                                  refine lv_iload hx hb dX5_aimed_212 (lv_at hl 4 rfl) ?_
                                                  refine mm_iast hx hb hK hW hS 81 rfl (ww_in (by decide) (by decide)) dX5_aimed_214 (fun S214 H locs f214 hW hS => ?_)
                                                  refine lv_aload_n hx hb dX5_aimed_215 rfl (lv_at hl 7 rfl) ?_
                                                  refine mm_geta hx hb hts hown hK hW 80 rfl q1765 dX5_aimed_216 ?_
                                                  refine lv_iconst (v := 1) hx hb dX5_aimed_219 (by decide) ?_
                                                  refine lv_iload hx hb dX5_aimed_220 (lv_at hl 5 rfl) ?_
                                                  refine mm_iast hx hb hK hW hS 80 rfl (ww_in (by decide) (by decide)) dX5_aimed_222 (fun S222 H locs f222 hW hS => ?_)
                                                  refine lv_aload_n hx hb dX5_aimed_223 rfl (lv_at hl 7 rfl) ?_
                                                  refine mm_geta hx hb hts hown hK hW 81 rfl q1766 dX5_aimed_224 ?_
                                                  refine lv_iconst (v := 1) hx hb dX5_aimed_227 (by decide) ?_
                                                  refine lv_iload hx hb dX5_aimed_228 (lv_at hl 3 rfl) ?_
                                                  refine mm_iast hx hb hK hW hS 81 rfl (ww_in (by decide) (by decide)) dX5_aimed_230 (fun S230 H locs f230 hW hS => ?_)
                                                  have n230 : True := trivial
                                                  try have n230 : S230 = ai_S S4 p q m u := by rw [f230, f222, f214, f206]; rfl
                                                  obtain ⟨v231, e231⟩ : ∃ yQ : Int32, yQ = u + 1 := ⟨_, rfl⟩
                                                  refine lv_iinc (v := v231) (lv' := [(8, .int v231), (4, .int 0), (9, .int 0), (10, .int 0), (7, .int m), (6, .int q), (5, .int p), (0, .ref o), (1, .int r), (2, .int y), (3, .int k)]) hx hb dX5_aimed_231 hl (k := 3) rfl (by rw [e231]; rfl) (by decide) rfl (fun ls hl => ?_)
                                                  refine lv_goto (tgt := 130) hx hb dX5_aimed_234 (by decide) ?_
                                                  have tb : v231.toInt = u.toInt + 1 := by rw [e231]; exact ww_inc' (by omega)
                                                  exact ih130 0 v231 S230 H locs (by omega) (by omega) (by omega) (by first | exact iF130 | (rw [f230, f222, f214, f206]; exact (((iF130.wr (by decide)).wr (by decide)).wr (by decide)).wr (by decide))) (by first | (rw [e231]; rw [ao_go, if_neg c133, if_neg nlt] at hgo130; exact hgo130) | (rw [e231, n230, n183]; rw [ao_go, if_neg c133, if_pos nlt] at hgo130; exact hgo130)) hW hS ls (lv_sub hl [0, 4, 5, 6, 1, 7, 8, 9, 10] rfl)
                                                · have t189 : (l).toInt ≤ 0 := ww_nlt c189
                                                  have nlt : ¬ ai_v S4 r y k p q m u < l := by rw [← n183]; exact c189
                                                  refine lv_goto (tgt := 231) hx hb dX5_aimed_192 (by decide) ?_
                                                  have n230 : True := trivial
                                                  try have n230 : S230 = ai_S S4 p q m u := by rw [f230, f222, f214, f206]; rfl
                                                  obtain ⟨v231, e231⟩ : ∃ yQ : Int32, yQ = u + 1 := ⟨_, rfl⟩
                                                  refine lv_iinc (v := v231) (lv' := [(8, .int v231), (9, .int 0), (10, .int 0), (7, .int m), (6, .int q), (5, .int p), (4, .int l), (0, .ref o), (1, .int r), (2, .int y), (3, .int k)]) hx hb dX5_aimed_231 hl (k := 2) rfl (by rw [e231]; rfl) (by decide) rfl (fun ls hl => ?_)
                                                  refine lv_goto (tgt := 130) hx hb dX5_aimed_234 (by decide) ?_
                                                  have tb : v231.toInt = u.toInt + 1 := by rw [e231]; exact ww_inc' (by omega)
                                                  exact ih130 l v231 S4 H locs (by omega) (by omega) (by omega) (by first | exact iF130 | (rw [f230, f222, f214, f206]; exact (((iF130.wr (by decide)).wr (by decide)).wr (by decide)).wr (by decide))) (by first | (rw [e231]; rw [ao_go, if_neg c133, if_neg nlt] at hgo130; exact hgo130) | (rw [e231, n230, n183]; rw [ao_go, if_neg c133, if_pos nlt] at hgo130; exact hgo130)) hW hS ls (lv_sub hl [0, 3, 4, 5, 6, 7, 8, 9, 10] rfl)
                                            · skip
                                              refine lv_aload_n hx hb dX5_aimed_153 rfl (lv_at hl 6 rfl) ?_
                                              refine lv_iload hx hb dX5_aimed_154 (lv_at hl 3 rfl) ?_
                                              refine lv_iload hx hb dX5_aimed_156 (lv_at hl 1 rfl) ?_
                                              refine lv_iload_n hx hb dX5_aimed_158 rfl (lv_at hl 7 rfl) ?_
                                              refine lv_iload_n hx hb dX5_aimed_159 rfl (lv_at hl 8 rfl) ?_
                                              refine mm_callp (As := [.int q, .int u, .int r, .int y]) (rest := []) (n := 4) ⟨hx, hb, hml, hown, hts⟩ hK (mc_minutesAt lQ G o S4 E q u r y q073 (by omega) u0130 (by omega) r0 r1) (lw_V q2305 q2307 qs70 q92 q2308) (by decide +kernel) rfl ⟨Nat.le_of_ble_eq_true rfl, Nat.le_of_ble_eq_true rfl⟩ hW hS hl.1 rfl (Nat.le_of_ble_eq_true rfl) dX5_aimed_160 ⟨Nat.le_of_ble_eq_true rfl, Nat.le_of_ble_eq_true rfl⟩ (fun v160 H locs e160 hW hS => ?_)
                                              refine lv_goto (tgt := 167) hx hb dX5_aimed_163 (by decide) ?_
                                              refine lv_istore (lv' := [(10, .int v160), (9, .int v143), (8, .int u), (7, .int m), (6, .int q), (5, .int p), (4, .int l), (0, .ref o), (1, .int r), (2, .int y), (3, .int k)]) hx hb dX5_aimed_167 hl (by decide) rfl (fun ls hl => ?_)
                                              refine lv_iload hx hb dX5_aimed_169 (lv_at hl 0 rfl) ?_
                                              refine lv_iload hx hb dX5_aimed_171 (lv_at hl 1 rfl) ?_
                                              refine lv_icmp_le (tgt := 181) hx hb dX5_aimed_173 (by decide) (fun c173 => ?_) (fun c173 => ?_)
                                              · have t173 : (v160).toInt ≤ (v143).toInt := ww_le c173
                                                refine lv_iload hx hb dX5_aimed_181 (lv_at hl 1 rfl) ?_
                                                refine lv_istore (lv' := [(9, .int v143), (10, .int v160), (8, .int u), (7, .int m), (6, .int q), (5, .int p), (4, .int l), (0, .ref o), (1, .int r), (2, .int y), (3, .int k)]) hx hb dX5_aimed_183 hl (by decide) rfl (fun ls hl => ?_)
                                                first
                                                | (have n183 : v143 = ai_v S4 r y k p q m u := by unfold ai_v ai_w; first | rw [if_pos c150, ← e160, ← e143, if_pos c173] | rw [if_neg c150, ← e143, if_pos c173])
                                                | (have n183 : v160 = ai_v S4 r y k p q m u := by unfold ai_v ai_w; rw [if_pos c150, ← e160, ← e143, if_neg c173])
                                                | (have n183 : (0 : Int32) = ai_v S4 r y k p q m u := by unfold ai_v ai_w; rw [if_neg c150, ← e143, if_neg c173])
                                                refine lv_iload hx hb dX5_aimed_185 (lv_at hl 0 rfl) ?_
                                                refine lv_iload hx hb dX5_aimed_187 (lv_at hl 6 rfl) ?_
                                                refine lv_icmp_lt (tgt := 195) hx hb dX5_aimed_189 (by decide) (fun c189 => ?_) (fun c189 => ?_)
                                                · have t189 : (v143).toInt < (l).toInt := ww_lt c189
                                                  have nlt : ai_v S4 r y k p q m u < l := by rw [← n183]; exact c189
                                                  refine lv_iload hx hb dX5_aimed_195 (lv_at hl 0 rfl) ?_
                                                  refine lv_istore (lv' := [(4, .int v143), (9, .int v143), (10, .int v160), (8, .int u), (7, .int m), (6, .int q), (5, .int p), (0, .ref o), (1, .int r), (2, .int y), (3, .int k)]) hx hb dX5_aimed_197 hl (by decide) rfl (fun ls hl => ?_)
                                                  refine lv_aload_n hx hb dX5_aimed_199 rfl (lv_at hl 7 rfl) ?_
                                                  refine mm_geta hx hb hts hown hK hW 80 rfl q1765 dX5_aimed_200 ?_
                                                  refine lv_iconst (v := 0) hx hb dX5_aimed_203 (by decide) ?_
                                                  refine lv_iload hx hb dX5_aimed_204 (lv_at hl 6 rfl) ?_
                                                  refine mm_iast hx hb hK hW hS 80 rfl (ww_in (by decide) (by decide)) dX5_aimed_206 (fun S206 H locs f206 hW hS => ?_)
                                                  refine lv_aload_n hx hb dX5_aimed_207 rfl (lv_at hl 7 rfl) ?_
                                                  refine mm_geta hx hb hts hown hK hW 81 rfl q1766 dX5_aimed_208 ?_
                                                  refine lv_iconst (v := 0) hx hb dX5_aimed_211 (by decide) ?_
                                                  refine lv_iload hx hb dX5_aimed_212 (lv_at hl 4 rfl) ?_
                                                  refine mm_iast hx hb hK hW hS 81 rfl (ww_in (by decide) (by decide)) dX5_aimed_214 (fun S214 H locs f214 hW hS => ?_)
                                                  refine lv_aload_n hx hb dX5_aimed_215 rfl (lv_at hl 7 rfl) ?_
                                                  refine mm_geta hx hb hts hown hK hW 80 rfl q1765 dX5_aimed_216 ?_
                                                  refine lv_iconst (v := 1) hx hb dX5_aimed_219 (by decide) ?_
                                                  refine lv_iload hx hb dX5_aimed_220 (lv_at hl 5 rfl) ?_
                                                  refine mm_iast hx hb hK hW hS 80 rfl (ww_in (by decide) (by decide)) dX5_aimed_222 (fun S222 H locs f222 hW hS => ?_)
                                                  refine lv_aload_n hx hb dX5_aimed_223 rfl (lv_at hl 7 rfl) ?_
                                                  refine mm_geta hx hb hts hown hK hW 81 rfl q1766 dX5_aimed_224 ?_
                                                  refine lv_iconst (v := 1) hx hb dX5_aimed_227 (by decide) ?_
                                                  refine lv_iload hx hb dX5_aimed_228 (lv_at hl 3 rfl) ?_
                                                  refine mm_iast hx hb hK hW hS 81 rfl (ww_in (by decide) (by decide)) dX5_aimed_230 (fun S230 H locs f230 hW hS => ?_)
                                                  have n230 : True := trivial
                                                  try have n230 : S230 = ai_S S4 p q m u := by rw [f230, f222, f214, f206]; rfl
                                                  obtain ⟨v231, e231⟩ : ∃ yQ : Int32, yQ = u + 1 := ⟨_, rfl⟩
                                                  refine lv_iinc (v := v231) (lv' := [(8, .int v231), (4, .int v143), (9, .int v143), (10, .int v160), (7, .int m), (6, .int q), (5, .int p), (0, .ref o), (1, .int r), (2, .int y), (3, .int k)]) hx hb dX5_aimed_231 hl (k := 3) rfl (by rw [e231]; rfl) (by decide) rfl (fun ls hl => ?_)
                                                  refine lv_goto (tgt := 130) hx hb dX5_aimed_234 (by decide) ?_
                                                  have tb : v231.toInt = u.toInt + 1 := by rw [e231]; exact ww_inc' (by omega)
                                                  exact ih130 v143 v231 S230 H locs (by omega) (by omega) (by omega) (by first | exact iF130 | (rw [f230, f222, f214, f206]; exact (((iF130.wr (by decide)).wr (by decide)).wr (by decide)).wr (by decide))) (by first | (rw [e231]; rw [ao_go, if_neg c133, if_neg nlt] at hgo130; exact hgo130) | (rw [e231, n230, n183]; rw [ao_go, if_neg c133, if_pos nlt] at hgo130; exact hgo130)) hW hS ls (lv_sub hl [0, 4, 5, 6, 1, 7, 8, 9, 10] rfl)
                                                · have t189 : (l).toInt ≤ (v143).toInt := ww_nlt c189
                                                  have nlt : ¬ ai_v S4 r y k p q m u < l := by rw [← n183]; exact c189
                                                  refine lv_goto (tgt := 231) hx hb dX5_aimed_192 (by decide) ?_
                                                  have n230 : True := trivial
                                                  try have n230 : S230 = ai_S S4 p q m u := by rw [f230, f222, f214, f206]; rfl
                                                  obtain ⟨v231, e231⟩ : ∃ yQ : Int32, yQ = u + 1 := ⟨_, rfl⟩
                                                  refine lv_iinc (v := v231) (lv' := [(8, .int v231), (9, .int v143), (10, .int v160), (7, .int m), (6, .int q), (5, .int p), (4, .int l), (0, .ref o), (1, .int r), (2, .int y), (3, .int k)]) hx hb dX5_aimed_231 hl (k := 2) rfl (by rw [e231]; rfl) (by decide) rfl (fun ls hl => ?_)
                                                  refine lv_goto (tgt := 130) hx hb dX5_aimed_234 (by decide) ?_
                                                  have tb : v231.toInt = u.toInt + 1 := by rw [e231]; exact ww_inc' (by omega)
                                                  exact ih130 l v231 S4 H locs (by omega) (by omega) (by omega) (by first | exact iF130 | (rw [f230, f222, f214, f206]; exact (((iF130.wr (by decide)).wr (by decide)).wr (by decide)).wr (by decide))) (by first | (rw [e231]; rw [ao_go, if_neg c133, if_neg nlt] at hgo130; exact hgo130) | (rw [e231, n230, n183]; rw [ao_go, if_neg c133, if_pos nlt] at hgo130; exact hgo130)) hW hS ls (lv_sub hl [0, 3, 4, 5, 6, 7, 8, 9, 10] rfl)
                                              · have t173 : (v143).toInt < (v160).toInt := ww_nle c173
                                                refine lv_iload hx hb dX5_aimed_176 (lv_at hl 0 rfl) ?_
                                                refine lv_goto (tgt := 183) hx hb dX5_aimed_178 (by decide) ?_
                                                refine lv_istore (lv' := [(9, .int v160), (10, .int v160), (8, .int u), (7, .int m), (6, .int q), (5, .int p), (4, .int l), (0, .ref o), (1, .int r), (2, .int y), (3, .int k)]) hx hb dX5_aimed_183 hl (by decide) rfl (fun ls hl => ?_)
                                                first
                                                | (have n183 : v143 = ai_v S4 r y k p q m u := by unfold ai_v ai_w; first | rw [if_pos c150, ← e160, ← e143, if_pos c173] | rw [if_neg c150, ← e143, if_pos c173])
                                                | (have n183 : v160 = ai_v S4 r y k p q m u := by unfold ai_v ai_w; rw [if_pos c150, ← e160, ← e143, if_neg c173])
                                                | (have n183 : (0 : Int32) = ai_v S4 r y k p q m u := by unfold ai_v ai_w; rw [if_neg c150, ← e143, if_neg c173])
                                                refine lv_iload hx hb dX5_aimed_185 (lv_at hl 0 rfl) ?_
                                                refine lv_iload hx hb dX5_aimed_187 (lv_at hl 6 rfl) ?_
                                                refine lv_icmp_lt (tgt := 195) hx hb dX5_aimed_189 (by decide) (fun c189 => ?_) (fun c189 => ?_)
                                                · have t189 : (v160).toInt < (l).toInt := ww_lt c189
                                                  have nlt : ai_v S4 r y k p q m u < l := by rw [← n183]; exact c189
                                                  refine lv_iload hx hb dX5_aimed_195 (lv_at hl 0 rfl) ?_
                                                  refine lv_istore (lv' := [(4, .int v160), (9, .int v160), (10, .int v160), (8, .int u), (7, .int m), (6, .int q), (5, .int p), (0, .ref o), (1, .int r), (2, .int y), (3, .int k)]) hx hb dX5_aimed_197 hl (by decide) rfl (fun ls hl => ?_)
                                                  refine lv_aload_n hx hb dX5_aimed_199 rfl (lv_at hl 7 rfl) ?_
                                                  refine mm_geta hx hb hts hown hK hW 80 rfl q1765 dX5_aimed_200 ?_
                                                  refine lv_iconst (v := 0) hx hb dX5_aimed_203 (by decide) ?_
                                                  refine lv_iload hx hb dX5_aimed_204 (lv_at hl 6 rfl) ?_
                                                  refine mm_iast hx hb hK hW hS 80 rfl (ww_in (by decide) (by decide)) dX5_aimed_206 (fun S206 H locs f206 hW hS => ?_)
                                                  refine lv_aload_n hx hb dX5_aimed_207 rfl (lv_at hl 7 rfl) ?_
                                                  refine mm_geta hx hb hts hown hK hW 81 rfl q1766 dX5_aimed_208 ?_
                                                  refine lv_iconst (v := 0) hx hb dX5_aimed_211 (by decide) ?_
                                                  refine lv_iload hx hb dX5_aimed_212 (lv_at hl 4 rfl) ?_
                                                  refine mm_iast hx hb hK hW hS 81 rfl (ww_in (by decide) (by decide)) dX5_aimed_214 (fun S214 H locs f214 hW hS => ?_)
                                                  refine lv_aload_n hx hb dX5_aimed_215 rfl (lv_at hl 7 rfl) ?_
                                                  refine mm_geta hx hb hts hown hK hW 80 rfl q1765 dX5_aimed_216 ?_
                                                  refine lv_iconst (v := 1) hx hb dX5_aimed_219 (by decide) ?_
                                                  refine lv_iload hx hb dX5_aimed_220 (lv_at hl 5 rfl) ?_
                                                  refine mm_iast hx hb hK hW hS 80 rfl (ww_in (by decide) (by decide)) dX5_aimed_222 (fun S222 H locs f222 hW hS => ?_)
                                                  refine lv_aload_n hx hb dX5_aimed_223 rfl (lv_at hl 7 rfl) ?_
                                                  refine mm_geta hx hb hts hown hK hW 81 rfl q1766 dX5_aimed_224 ?_
                                                  refine lv_iconst (v := 1) hx hb dX5_aimed_227 (by decide) ?_
                                                  refine lv_iload hx hb dX5_aimed_228 (lv_at hl 3 rfl) ?_
                                                  refine mm_iast hx hb hK hW hS 81 rfl (ww_in (by decide) (by decide)) dX5_aimed_230 (fun S230 H locs f230 hW hS => ?_)
                                                  have n230 : True := trivial
                                                  try have n230 : S230 = ai_S S4 p q m u := by rw [f230, f222, f214, f206]; rfl
                                                  obtain ⟨v231, e231⟩ : ∃ yQ : Int32, yQ = u + 1 := ⟨_, rfl⟩
                                                  refine lv_iinc (v := v231) (lv' := [(8, .int v231), (4, .int v160), (9, .int v160), (10, .int v160), (7, .int m), (6, .int q), (5, .int p), (0, .ref o), (1, .int r), (2, .int y), (3, .int k)]) hx hb dX5_aimed_231 hl (k := 3) rfl (by rw [e231]; rfl) (by decide) rfl (fun ls hl => ?_)
                                                  refine lv_goto (tgt := 130) hx hb dX5_aimed_234 (by decide) ?_
                                                  have tb : v231.toInt = u.toInt + 1 := by rw [e231]; exact ww_inc' (by omega)
                                                  exact ih130 v160 v231 S230 H locs (by omega) (by omega) (by omega) (by first | exact iF130 | (rw [f230, f222, f214, f206]; exact (((iF130.wr (by decide)).wr (by decide)).wr (by decide)).wr (by decide))) (by first | (rw [e231]; rw [ao_go, if_neg c133, if_neg nlt] at hgo130; exact hgo130) | (rw [e231, n230, n183]; rw [ao_go, if_neg c133, if_pos nlt] at hgo130; exact hgo130)) hW hS ls (lv_sub hl [0, 4, 5, 6, 1, 7, 8, 9, 10] rfl)
                                                · have t189 : (l).toInt ≤ (v160).toInt := ww_nlt c189
                                                  have nlt : ¬ ai_v S4 r y k p q m u < l := by rw [← n183]; exact c189
                                                  refine lv_goto (tgt := 231) hx hb dX5_aimed_192 (by decide) ?_
                                                  have n230 : True := trivial
                                                  try have n230 : S230 = ai_S S4 p q m u := by rw [f230, f222, f214, f206]; rfl
                                                  obtain ⟨v231, e231⟩ : ∃ yQ : Int32, yQ = u + 1 := ⟨_, rfl⟩
                                                  refine lv_iinc (v := v231) (lv' := [(8, .int v231), (9, .int v160), (10, .int v160), (7, .int m), (6, .int q), (5, .int p), (4, .int l), (0, .ref o), (1, .int r), (2, .int y), (3, .int k)]) hx hb dX5_aimed_231 hl (k := 2) rfl (by rw [e231]; rfl) (by decide) rfl (fun ls hl => ?_)
                                                  refine lv_goto (tgt := 130) hx hb dX5_aimed_234 (by decide) ?_
                                                  have tb : v231.toInt = u.toInt + 1 := by rw [e231]; exact ww_inc' (by omega)
                                                  exact ih130 l v231 S4 H locs (by omega) (by omega) (by omega) (by first | exact iF130 | (rw [f230, f222, f214, f206]; exact (((iF130.wr (by decide)).wr (by decide)).wr (by decide)).wr (by decide))) (by first | (rw [e231]; rw [ao_go, if_neg c133, if_neg nlt] at hgo130; exact hgo130) | (rw [e231, n230, n183]; rw [ao_go, if_neg c133, if_pos nlt] at hgo130; exact hgo130)) hW hS ls (lv_sub hl [0, 3, 4, 5, 6, 7, 8, 9, 10] rfl)
                                      exact L130 5 l3 w128 S3 H locs (by show (3 : Int) - _ < 5; omega) w128a w128b iF109 (by rw [ew128]; rfl) hW hS ls (lv_sub hl [0, 1, 2, 3, 4, 5, 6, 7, 8] rfl)
                                    refine lv_iload_n hx hb dX5_aimed_115 rfl (lv_at hl 7 rfl) ?_
                                    refine lv_iconst (v := 2) hx hb dX5_aimed_116 (by decide) ?_
                                    refine lv_icmp_ne (tgt := 127) hx hb dX5_aimed_117 (by decide) (fun c117 => ?_) (fun c117 => ?_)
                                    · skip
                                      refine lv_iconst (v := 2) hx hb dX5_aimed_127 (by decide) ?_
                                      exact J128 _ (by simp only [if_neg c112, if_neg c117])
                                    · skip
                                      refine lv_iload hx hb dX5_aimed_120 (lv_at hl 0 rfl) ?_
                                      refine lv_iconst (v := 1) hx hb dX5_aimed_122 (by decide) ?_
                                      refine nv_iadd hx hb dX5_aimed_123 (fun v123 e123 => ?_)
                                      refine lv_goto (tgt := 128) hx hb dX5_aimed_124 (by decide) ?_
                                      exact J128 _ (by subst e123; simp only [if_neg c112, if_pos c117])
                              exact L109 4 l2 0 S2 H locs (by show (3 : Int) - 0 < 4; omega) (by decide) (by decide) iF73 (rfl) hW hS ls (lv_sub hl [0, 1, 2, 3, 4, 5, 6, 7] rfl)
                            · skip
                              refine lv_iload hx hb dX5_aimed_96 (lv_at hl 0 rfl) ?_
                              refine lv_iload hx hb dX5_aimed_98 (lv_at hl 1 rfl) ?_
                              refine lv_icmp_ne (tgt := 106) hx hb dX5_aimed_100 (by decide) (fun c100 => ?_) (fun c100 => ?_)
                              · skip
                                refine lv_iconst (v := 0) hx hb dX5_aimed_106 (by decide) ?_
                                refine lv_istore (lv' := [(7, .int 0), (6, .int q), (5, .int p), (4, .int l2), (0, .ref o), (1, .int r), (2, .int y), (3, .int k)]) hx hb dX5_aimed_107 hl (by decide) rfl (fun ls hl => ?_)
                                have L109 : ∀ (fu109 : Nat) (l3 : Int32) (m : Int32) (S3 : mm_S) (H : Heap) (locs : List Loc), (3 - m.toInt < fu109) → (0 ≤ m.toInt) → (m.toInt ≤ 3) → (fr_ [80, 81] S S3) → (an_go fu109 S3 r y k p q l3 m = an_s S2 r y k p q l2) → mm_W G o S3 E H → va_S (mm_F o) sQ.heap H locs → ∀ ls : Array Slot, lv_has ls 11 [(7, .int m), (6, .int q), (5, .int p), (4, .int l3), (0, .ref o), (1, .int r), (2, .int y), (3, .int k)] → W pQ lQ eQ (wm_rm 1) sQ mQ (Value.ref o :: [.int r, .int y, .int k]).toArray belowQ methQ cQ H locs 0 0 (MQ belowQ (wm_Q (fun vQ HQ => vQ = some (.int (ff_aimed S r y k).1) ∧ mm_W G o (ff_aimed S r y k).2 E HQ) (mm_F o)) (Value.ref o :: [.int r, .int y, .int k]).toArray sQ 0 0 (mm_F o)) (F0 mQ 109 ls []) := by
                                  intro fu109
                                  induction fu109 with
                                  | zero =>
                                    intro l3 m S3 H locs hm109 m0109 m1109 iF109 hgo109 hW hS ls hl
                                    exact absurd hm109 (by omega)
                                  | succ fu109 ih109 =>
                                    intro l3 m S3 H locs hm109 m0109 m1109 iF109 hgo109 hW hS ls hl
                                    refine lv_iload hx hb dX5_aimed_109 (lv_at hl 0 rfl) ?_
                                    refine lv_iconst (v := 3) hx hb dX5_aimed_111 (by decide) ?_
                                    refine lv_icmp_ge (tgt := 243) hx hb dX5_aimed_112 (by decide) (fun c112 => ?_) (fun c112 => ?_)
                                    · have t112 : 3 ≤ (m).toInt := ww_le c112
                                      have g3 : (l3, S3) = an_s S2 r y k p q l2 := by simp only [an_go, if_pos c112] at hgo109; exact hgo109
                                      have g31 : l3 = (an_s S2 r y k p q l2).1 := congrArg (fun zQ => zQ.1) g3
                                      have g32 : S3 = (an_s S2 r y k p q l2).2 := congrArg (fun zQ => zQ.2) g3
                                      clear g3 hgo109
                                      obtain ⟨v243, e243⟩ : ∃ yQ : Int32, yQ = q + 1 := ⟨_, rfl⟩
                                      refine lv_iinc (v := v243) (lv' := [(6, .int v243), (7, .int m), (5, .int p), (4, .int l3), (0, .ref o), (1, .int r), (2, .int y), (3, .int k)]) hx hb dX5_aimed_243 hl (k := 1) rfl (by rw [e243]; rfl) (by decide) rfl (fun ls hl => ?_)
                                      refine lv_goto (tgt := 73) hx hb dX5_aimed_246 (by decide) ?_
                                      have tb : v243.toInt = q.toInt + 1 := by rw [e243]; exact ww_inc' (by omega)
                                      exact ih73 l3 v243 S3 H locs (by omega) (by omega) (by omega) (by first | exact iF109 | exact iF73) (by rw [ew88] at c88; rw [aq_go, if_neg c88] at hgo73; first | (rw [e243, g31, g32]; simp only [if_neg c88, if_pos c93, if_neg c100, if_pos c112] at hgo73; exact hgo73) | (rw [e243]; simp only [if_neg c88, if_pos c93, if_neg c100, if_pos c112] at hgo73; exact hgo73)) hW hS ls (lv_sub hl [0, 2, 3, 4, 5, 6, 7] rfl)
                                    · have t112 : (m).toInt < 3 := ww_nle c112
                                      refine wm_join (P := fun w128 : Int32 => w128 = (if k = 2 then m + 1 else 2)) (j := 128) (rest := []) (ls := ls) (fun w128 ew128 => ?_) (fun J128 => ?_)
                                      · skip
                                        have w128q : 0 ≤ w128.toInt ∧ w128.toInt ≤ 3 := by
                                          rw [ew128]
                                          have tm : (m + 1).toInt = m.toInt + 1 := ww_inc' (by omega)
                                          split <;> first | omega | exact ⟨by decide, by decide⟩
                                        obtain ⟨w128a, w128b⟩ := w128q
                                        refine lv_istore (lv' := [(8, .int w128), (7, .int m), (6, .int q), (5, .int p), (4, .int l3), (0, .ref o), (1, .int r), (2, .int y), (3, .int k)]) hx hb dX5_aimed_128 hl (by decide) rfl (fun ls hl => ?_)
                                        have L130 : ∀ (fu130 : Nat) (l : Int32) (u : Int32) (S4 : mm_S) (H : Heap) (locs : List Loc), (3 - u.toInt < fu130) → (0 ≤ u.toInt) → (u.toInt ≤ 3) → (fr_ [80, 81] S S4) → (ao_go fu130 S4 r y k p q m l u = ao_s S3 r y k p q m l3) → mm_W G o S4 E H → va_S (mm_F o) sQ.heap H locs → ∀ ls : Array Slot, lv_has ls 11 [(8, .int u), (7, .int m), (6, .int q), (5, .int p), (4, .int l), (0, .ref o), (1, .int r), (2, .int y), (3, .int k)] → W pQ lQ eQ (wm_rm 1) sQ mQ (Value.ref o :: [.int r, .int y, .int k]).toArray belowQ methQ cQ H locs 0 0 (MQ belowQ (wm_Q (fun vQ HQ => vQ = some (.int (ff_aimed S r y k).1) ∧ mm_W G o (ff_aimed S r y k).2 E HQ) (mm_F o)) (Value.ref o :: [.int r, .int y, .int k]).toArray sQ 0 0 (mm_F o)) (F0 mQ 130 ls []) := by
                                          intro fu130
                                          induction fu130 with
                                          | zero =>
                                            intro l u S4 H locs hm130 u0130 u1130 iF130 hgo130 hW hS ls hl
                                            exact absurd hm130 (by omega)
                                          | succ fu130 ih130 =>
                                            intro l u S4 H locs hm130 u0130 u1130 iF130 hgo130 hW hS ls hl
                                            refine lv_iload hx hb dX5_aimed_130 (lv_at hl 0 rfl) ?_
                                            refine lv_iconst (v := 3) hx hb dX5_aimed_132 (by decide) ?_
                                            refine lv_icmp_ge (tgt := 237) hx hb dX5_aimed_133 (by decide) (fun c133 => ?_) (fun c133 => ?_)
                                            · have t133 : 3 ≤ (u).toInt := ww_le c133
                                              have g4 : (l, S4) = ao_s S3 r y k p q m l3 := by simp only [ao_go, if_pos c133] at hgo130; exact hgo130
                                              have g41 : l = (ao_s S3 r y k p q m l3).1 := congrArg (fun zQ => zQ.1) g4
                                              have g42 : S4 = (ao_s S3 r y k p q m l3).2 := congrArg (fun zQ => zQ.2) g4
                                              clear g4 hgo130
                                              obtain ⟨v237, e237⟩ : ∃ yQ : Int32, yQ = m + 1 := ⟨_, rfl⟩
                                              refine lv_iinc (v := v237) (lv' := [(7, .int v237), (8, .int u), (6, .int q), (5, .int p), (4, .int l), (0, .ref o), (1, .int r), (2, .int y), (3, .int k)]) hx hb dX5_aimed_237 hl (k := 1) rfl (by rw [e237]; rfl) (by decide) rfl (fun ls hl => ?_)
                                              refine lv_goto (tgt := 109) hx hb dX5_aimed_240 (by decide) ?_
                                              have tb : v237.toInt = m.toInt + 1 := by rw [e237]; exact ww_inc' (by omega)
                                              exact ih109 l v237 S4 H locs (by omega) (by omega) (by omega) iF130 (by rw [e237, g41, g42]; rw [an_go, if_neg c112] at hgo109; exact hgo109) hW hS ls (lv_sub hl [0, 2, 3, 4, 5, 6, 7, 8] rfl)
                                            · have t133 : (u).toInt < 3 := ww_nle c133
                                              refine lv_aload_n hx hb dX5_aimed_136 rfl (lv_at hl 5 rfl) ?_
                                              refine lv_iload hx hb dX5_aimed_137 (lv_at hl 3 rfl) ?_
                                              refine lv_iload hx hb dX5_aimed_139 (lv_at hl 1 rfl) ?_
                                              refine lv_iload_n hx hb dX5_aimed_141 rfl (lv_at hl 6 rfl) ?_
                                              refine lv_iload_n hx hb dX5_aimed_142 rfl (lv_at hl 7 rfl) ?_
                                              refine mm_callp (As := [.int p, .int m, .int r, .int y]) (rest := []) (n := 4) ⟨hx, hb, hml, hown, hts⟩ hK (mc_minutesAt lQ G o S4 E p m r y p061 (by omega) m0109 (by omega) r0 r1) (lw_V q2305 q2307 qs70 q92 q2308) (by decide +kernel) rfl ⟨Nat.le_of_ble_eq_true rfl, Nat.le_of_ble_eq_true rfl⟩ hW hS hl.1 rfl (Nat.le_of_ble_eq_true rfl) dX5_aimed_143 ⟨Nat.le_of_ble_eq_true rfl, Nat.le_of_ble_eq_true rfl⟩ (fun v143 H locs e143 hW hS => ?_)
                                              refine lv_istore (lv' := [(9, .int v143), (8, .int u), (7, .int m), (6, .int q), (5, .int p), (4, .int l), (0, .ref o), (1, .int r), (2, .int y), (3, .int k)]) hx hb dX5_aimed_146 hl (by decide) rfl (fun ls hl => ?_)
                                              refine lv_iload_n hx hb dX5_aimed_148 rfl (lv_at hl 9 rfl) ?_
                                              refine lv_iconst (v := 2) hx hb dX5_aimed_149 (by decide) ?_
                                              refine lv_icmp_ne (tgt := 166) hx hb dX5_aimed_150 (by decide) (fun c150 => ?_) (fun c150 => ?_)
                                              · skip
                                                refine lv_iconst (v := 0) hx hb dX5_aimed_166 (by decide) ?_
                                                refine lv_istore (lv' := [(10, .int 0), (9, .int v143), (8, .int u), (7, .int m), (6, .int q), (5, .int p), (4, .int l), (0, .ref o), (1, .int r), (2, .int y), (3, .int k)]) hx hb dX5_aimed_167 hl (by decide) rfl (fun ls hl => ?_)
                                                refine lv_iload hx hb dX5_aimed_169 (lv_at hl 0 rfl) ?_
                                                refine lv_iload hx hb dX5_aimed_171 (lv_at hl 1 rfl) ?_
                                                refine lv_icmp_le (tgt := 181) hx hb dX5_aimed_173 (by decide) (fun c173 => ?_) (fun c173 => ?_)
                                                · have t173 : 0 ≤ (v143).toInt := ww_le c173
                                                  refine lv_iload hx hb dX5_aimed_181 (lv_at hl 1 rfl) ?_
                                                  refine lv_istore (lv' := [(9, .int v143), (10, .int 0), (8, .int u), (7, .int m), (6, .int q), (5, .int p), (4, .int l), (0, .ref o), (1, .int r), (2, .int y), (3, .int k)]) hx hb dX5_aimed_183 hl (by decide) rfl (fun ls hl => ?_)
                                                  first
                                                  | (have n183 : v143 = ai_v S4 r y k p q m u := by unfold ai_v ai_w; first | rw [if_pos c150, ← e160, ← e143, if_pos c173] | rw [if_neg c150, ← e143, if_pos c173])
                                                  | (have n183 : v160 = ai_v S4 r y k p q m u := by unfold ai_v ai_w; rw [if_pos c150, ← e160, ← e143, if_neg c173])
                                                  | (have n183 : (0 : Int32) = ai_v S4 r y k p q m u := by unfold ai_v ai_w; rw [if_neg c150, ← e143, if_neg c173])
                                                  refine lv_iload hx hb dX5_aimed_185 (lv_at hl 0 rfl) ?_
                                                  refine lv_iload hx hb dX5_aimed_187 (lv_at hl 6 rfl) ?_
                                                  refine lv_icmp_lt (tgt := 195) hx hb dX5_aimed_189 (by decide) (fun c189 => ?_) (fun c189 => ?_)
                                                  · have t189 : (v143).toInt < (l).toInt := ww_lt c189
                                                    have nlt : ai_v S4 r y k p q m u < l := by rw [← n183]; exact c189
                                                    refine lv_iload hx hb dX5_aimed_195 (lv_at hl 0 rfl) ?_
                                                    refine lv_istore (lv' := [(4, .int v143), (9, .int v143), (10, .int 0), (8, .int u), (7, .int m), (6, .int q), (5, .int p), (0, .ref o), (1, .int r), (2, .int y), (3, .int k)]) hx hb dX5_aimed_197 hl (by decide) rfl (fun ls hl => ?_)
                                                    refine lv_aload_n hx hb dX5_aimed_199 rfl (lv_at hl 7 rfl) ?_
                                                    refine mm_geta hx hb hts hown hK hW 80 rfl q1765 dX5_aimed_200 ?_
                                                    refine lv_iconst (v := 0) hx hb dX5_aimed_203 (by decide) ?_
                                                    refine lv_iload hx hb dX5_aimed_204 (lv_at hl 6 rfl) ?_
                                                    refine mm_iast hx hb hK hW hS 80 rfl (ww_in (by decide) (by decide)) dX5_aimed_206 (fun S206 H locs f206 hW hS => ?_)
                                                    refine lv_aload_n hx hb dX5_aimed_207 rfl (lv_at hl 7 rfl) ?_
                                                    refine mm_geta hx hb hts hown hK hW 81 rfl q1766 dX5_aimed_208 ?_
                                                    refine lv_iconst (v := 0) hx hb dX5_aimed_211 (by decide) ?_
                                                    refine lv_iload hx hb dX5_aimed_212 (lv_at hl 4 rfl) ?_
                                                    refine mm_iast hx hb hK hW hS 81 rfl (ww_in (by decide) (by decide)) dX5_aimed_214 (fun S214 H locs f214 hW hS => ?_)
                                                    refine lv_aload_n hx hb dX5_aimed_215 rfl (lv_at hl 7 rfl) ?_
                                                    refine mm_geta hx hb hts hown hK hW 80 rfl q1765 dX5_aimed_216 ?_
                                                    refine lv_iconst (v := 1) hx hb dX5_aimed_219 (by decide) ?_
                                                    refine lv_iload hx hb dX5_aimed_220 (lv_at hl 5 rfl) ?_
                                                    refine mm_iast hx hb hK hW hS 80 rfl (ww_in (by decide) (by decide)) dX5_aimed_222 (fun S222 H locs f222 hW hS => ?_)
                                                    refine lv_aload_n hx hb dX5_aimed_223 rfl (lv_at hl 7 rfl) ?_
                                                    refine mm_geta hx hb hts hown hK hW 81 rfl q1766 dX5_aimed_224 ?_
                                                    refine lv_iconst (v := 1) hx hb dX5_aimed_227 (by decide) ?_
                                                    refine lv_iload hx hb dX5_aimed_228 (lv_at hl 3 rfl) ?_
                                                    refine mm_iast hx hb hK hW hS 81 rfl (ww_in (by decide) (by decide)) dX5_aimed_230 (fun S230 H locs f230 hW hS => ?_)
                                                    have n230 : True := trivial
                                                    try have n230 : S230 = ai_S S4 p q m u := by rw [f230, f222, f214, f206]; rfl
                                                    obtain ⟨v231, e231⟩ : ∃ yQ : Int32, yQ = u + 1 := ⟨_, rfl⟩
                                                    refine lv_iinc (v := v231) (lv' := [(8, .int v231), (4, .int v143), (9, .int v143), (10, .int 0), (7, .int m), (6, .int q), (5, .int p), (0, .ref o), (1, .int r), (2, .int y), (3, .int k)]) hx hb dX5_aimed_231 hl (k := 3) rfl (by rw [e231]; rfl) (by decide) rfl (fun ls hl => ?_)
                                                    refine lv_goto (tgt := 130) hx hb dX5_aimed_234 (by decide) ?_
                                                    have tb : v231.toInt = u.toInt + 1 := by rw [e231]; exact ww_inc' (by omega)
                                                    exact ih130 v143 v231 S230 H locs (by omega) (by omega) (by omega) (by first | exact iF130 | (rw [f230, f222, f214, f206]; exact (((iF130.wr (by decide)).wr (by decide)).wr (by decide)).wr (by decide))) (by first | (rw [e231]; rw [ao_go, if_neg c133, if_neg nlt] at hgo130; exact hgo130) | (rw [e231, n230, n183]; rw [ao_go, if_neg c133, if_pos nlt] at hgo130; exact hgo130)) hW hS ls (lv_sub hl [0, 4, 5, 6, 1, 7, 8, 9, 10] rfl)
                                                  · have t189 : (l).toInt ≤ (v143).toInt := ww_nlt c189
                                                    have nlt : ¬ ai_v S4 r y k p q m u < l := by rw [← n183]; exact c189
                                                    refine lv_goto (tgt := 231) hx hb dX5_aimed_192 (by decide) ?_
                                                    have n230 : True := trivial
                                                    try have n230 : S230 = ai_S S4 p q m u := by rw [f230, f222, f214, f206]; rfl
                                                    obtain ⟨v231, e231⟩ : ∃ yQ : Int32, yQ = u + 1 := ⟨_, rfl⟩
                                                    refine lv_iinc (v := v231) (lv' := [(8, .int v231), (9, .int v143), (10, .int 0), (7, .int m), (6, .int q), (5, .int p), (4, .int l), (0, .ref o), (1, .int r), (2, .int y), (3, .int k)]) hx hb dX5_aimed_231 hl (k := 2) rfl (by rw [e231]; rfl) (by decide) rfl (fun ls hl => ?_)
                                                    refine lv_goto (tgt := 130) hx hb dX5_aimed_234 (by decide) ?_
                                                    have tb : v231.toInt = u.toInt + 1 := by rw [e231]; exact ww_inc' (by omega)
                                                    exact ih130 l v231 S4 H locs (by omega) (by omega) (by omega) (by first | exact iF130 | (rw [f230, f222, f214, f206]; exact (((iF130.wr (by decide)).wr (by decide)).wr (by decide)).wr (by decide))) (by first | (rw [e231]; rw [ao_go, if_neg c133, if_neg nlt] at hgo130; exact hgo130) | (rw [e231, n230, n183]; rw [ao_go, if_neg c133, if_pos nlt] at hgo130; exact hgo130)) hW hS ls (lv_sub hl [0, 3, 4, 5, 6, 7, 8, 9, 10] rfl)
                                                · have t173 : (v143).toInt < 0 := ww_nle c173
                                                  refine lv_iload hx hb dX5_aimed_176 (lv_at hl 0 rfl) ?_
                                                  refine lv_goto (tgt := 183) hx hb dX5_aimed_178 (by decide) ?_
                                                  refine lv_istore (lv' := [(9, .int 0), (10, .int 0), (8, .int u), (7, .int m), (6, .int q), (5, .int p), (4, .int l), (0, .ref o), (1, .int r), (2, .int y), (3, .int k)]) hx hb dX5_aimed_183 hl (by decide) rfl (fun ls hl => ?_)
                                                  first
                                                  | (have n183 : v143 = ai_v S4 r y k p q m u := by unfold ai_v ai_w; first | rw [if_pos c150, ← e160, ← e143, if_pos c173] | rw [if_neg c150, ← e143, if_pos c173])
                                                  | (have n183 : v160 = ai_v S4 r y k p q m u := by unfold ai_v ai_w; rw [if_pos c150, ← e160, ← e143, if_neg c173])
                                                  | (have n183 : (0 : Int32) = ai_v S4 r y k p q m u := by unfold ai_v ai_w; rw [if_neg c150, ← e143, if_neg c173])
                                                  refine lv_iload hx hb dX5_aimed_185 (lv_at hl 0 rfl) ?_
                                                  refine lv_iload hx hb dX5_aimed_187 (lv_at hl 6 rfl) ?_
                                                  refine lv_icmp_lt (tgt := 195) hx hb dX5_aimed_189 (by decide) (fun c189 => ?_) (fun c189 => ?_)
                                                  · have t189 : 0 < (l).toInt := ww_lt c189
                                                    have nlt : ai_v S4 r y k p q m u < l := by rw [← n183]; exact c189
                                                    refine lv_iload hx hb dX5_aimed_195 (lv_at hl 0 rfl) ?_
                                                    refine lv_istore (lv' := [(4, .int 0), (9, .int 0), (10, .int 0), (8, .int u), (7, .int m), (6, .int q), (5, .int p), (0, .ref o), (1, .int r), (2, .int y), (3, .int k)]) hx hb dX5_aimed_197 hl (by decide) rfl (fun ls hl => ?_)
                                                    refine lv_aload_n hx hb dX5_aimed_199 rfl (lv_at hl 7 rfl) ?_
                                                    refine mm_geta hx hb hts hown hK hW 80 rfl q1765 dX5_aimed_200 ?_
                                                    refine lv_iconst (v := 0) hx hb dX5_aimed_203 (by decide) ?_
                                                    refine lv_iload hx hb dX5_aimed_204 (lv_at hl 6 rfl) ?_
                                                    refine mm_iast hx hb hK hW hS 80 rfl (ww_in (by decide) (by decide)) dX5_aimed_206 (fun S206 H locs f206 hW hS => ?_)
                                                    refine lv_aload_n hx hb dX5_aimed_207 rfl (lv_at hl 7 rfl) ?_
                                                    refine mm_geta hx hb hts hown hK hW 81 rfl q1766 dX5_aimed_208 ?_
                                                    refine lv_iconst (v := 0) hx hb dX5_aimed_211 (by decide) ?_
                                                    refine lv_iload hx hb dX5_aimed_212 (lv_at hl 4 rfl) ?_
                                                    refine mm_iast hx hb hK hW hS 81 rfl (ww_in (by decide) (by decide)) dX5_aimed_214 (fun S214 H locs f214 hW hS => ?_)
                                                    refine lv_aload_n hx hb dX5_aimed_215 rfl (lv_at hl 7 rfl) ?_
                                                    refine mm_geta hx hb hts hown hK hW 80 rfl q1765 dX5_aimed_216 ?_
                                                    refine lv_iconst (v := 1) hx hb dX5_aimed_219 (by decide) ?_
                                                    refine lv_iload hx hb dX5_aimed_220 (lv_at hl 5 rfl) ?_
                                                    refine mm_iast hx hb hK hW hS 80 rfl (ww_in (by decide) (by decide)) dX5_aimed_222 (fun S222 H locs f222 hW hS => ?_)
                                                    refine lv_aload_n hx hb dX5_aimed_223 rfl (lv_at hl 7 rfl) ?_
                                                    refine mm_geta hx hb hts hown hK hW 81 rfl q1766 dX5_aimed_224 ?_
                                                    refine lv_iconst (v := 1) hx hb dX5_aimed_227 (by decide) ?_
                                                    refine lv_iload hx hb dX5_aimed_228 (lv_at hl 3 rfl) ?_
                                                    refine mm_iast hx hb hK hW hS 81 rfl (ww_in (by decide) (by decide)) dX5_aimed_230 (fun S230 H locs f230 hW hS => ?_)
                                                    have n230 : True := trivial
                                                    try have n230 : S230 = ai_S S4 p q m u := by rw [f230, f222, f214, f206]; rfl
                                                    obtain ⟨v231, e231⟩ : ∃ yQ : Int32, yQ = u + 1 := ⟨_, rfl⟩
                                                    refine lv_iinc (v := v231) (lv' := [(8, .int v231), (4, .int 0), (9, .int 0), (10, .int 0), (7, .int m), (6, .int q), (5, .int p), (0, .ref o), (1, .int r), (2, .int y), (3, .int k)]) hx hb dX5_aimed_231 hl (k := 3) rfl (by rw [e231]; rfl) (by decide) rfl (fun ls hl => ?_)
                                                    refine lv_goto (tgt := 130) hx hb dX5_aimed_234 (by decide) ?_
                                                    have tb : v231.toInt = u.toInt + 1 := by rw [e231]; exact ww_inc' (by omega)
                                                    exact ih130 0 v231 S230 H locs (by omega) (by omega) (by omega) (by first | exact iF130 | (rw [f230, f222, f214, f206]; exact (((iF130.wr (by decide)).wr (by decide)).wr (by decide)).wr (by decide))) (by first | (rw [e231]; rw [ao_go, if_neg c133, if_neg nlt] at hgo130; exact hgo130) | (rw [e231, n230, n183]; rw [ao_go, if_neg c133, if_pos nlt] at hgo130; exact hgo130)) hW hS ls (lv_sub hl [0, 4, 5, 6, 1, 7, 8, 9, 10] rfl)
                                                  · have t189 : (l).toInt ≤ 0 := ww_nlt c189
                                                    have nlt : ¬ ai_v S4 r y k p q m u < l := by rw [← n183]; exact c189
                                                    refine lv_goto (tgt := 231) hx hb dX5_aimed_192 (by decide) ?_
                                                    have n230 : True := trivial
                                                    try have n230 : S230 = ai_S S4 p q m u := by rw [f230, f222, f214, f206]; rfl
                                                    obtain ⟨v231, e231⟩ : ∃ yQ : Int32, yQ = u + 1 := ⟨_, rfl⟩
                                                    refine lv_iinc (v := v231) (lv' := [(8, .int v231), (9, .int 0), (10, .int 0), (7, .int m), (6, .int q), (5, .int p), (4, .int l), (0, .ref o), (1, .int r), (2, .int y), (3, .int k)]) hx hb dX5_aimed_231 hl (k := 2) rfl (by rw [e231]; rfl) (by decide) rfl (fun ls hl => ?_)
                                                    refine lv_goto (tgt := 130) hx hb dX5_aimed_234 (by decide) ?_
                                                    have tb : v231.toInt = u.toInt + 1 := by rw [e231]; exact ww_inc' (by omega)
                                                    exact ih130 l v231 S4 H locs (by omega) (by omega) (by omega) (by first | exact iF130 | (rw [f230, f222, f214, f206]; exact (((iF130.wr (by decide)).wr (by decide)).wr (by decide)).wr (by decide))) (by first | (rw [e231]; rw [ao_go, if_neg c133, if_neg nlt] at hgo130; exact hgo130) | (rw [e231, n230, n183]; rw [ao_go, if_neg c133, if_pos nlt] at hgo130; exact hgo130)) hW hS ls (lv_sub hl [0, 3, 4, 5, 6, 7, 8, 9, 10] rfl)
                                              · skip
                                                refine lv_aload_n hx hb dX5_aimed_153 rfl (lv_at hl 6 rfl) ?_
                                                refine lv_iload hx hb dX5_aimed_154 (lv_at hl 3 rfl) ?_
                                                refine lv_iload hx hb dX5_aimed_156 (lv_at hl 1 rfl) ?_
                                                refine lv_iload_n hx hb dX5_aimed_158 rfl (lv_at hl 7 rfl) ?_
                                                refine lv_iload_n hx hb dX5_aimed_159 rfl (lv_at hl 8 rfl) ?_
                                                refine mm_callp (As := [.int q, .int u, .int r, .int y]) (rest := []) (n := 4) ⟨hx, hb, hml, hown, hts⟩ hK (mc_minutesAt lQ G o S4 E q u r y q073 (by omega) u0130 (by omega) r0 r1) (lw_V q2305 q2307 qs70 q92 q2308) (by decide +kernel) rfl ⟨Nat.le_of_ble_eq_true rfl, Nat.le_of_ble_eq_true rfl⟩ hW hS hl.1 rfl (Nat.le_of_ble_eq_true rfl) dX5_aimed_160 ⟨Nat.le_of_ble_eq_true rfl, Nat.le_of_ble_eq_true rfl⟩ (fun v160 H locs e160 hW hS => ?_)
                                                refine lv_goto (tgt := 167) hx hb dX5_aimed_163 (by decide) ?_
                                                refine lv_istore (lv' := [(10, .int v160), (9, .int v143), (8, .int u), (7, .int m), (6, .int q), (5, .int p), (4, .int l), (0, .ref o), (1, .int r), (2, .int y), (3, .int k)]) hx hb dX5_aimed_167 hl (by decide) rfl (fun ls hl => ?_)
                                                refine lv_iload hx hb dX5_aimed_169 (lv_at hl 0 rfl) ?_
                                                refine lv_iload hx hb dX5_aimed_171 (lv_at hl 1 rfl) ?_
                                                refine lv_icmp_le (tgt := 181) hx hb dX5_aimed_173 (by decide) (fun c173 => ?_) (fun c173 => ?_)
                                                · have t173 : (v160).toInt ≤ (v143).toInt := ww_le c173
                                                  refine lv_iload hx hb dX5_aimed_181 (lv_at hl 1 rfl) ?_
                                                  refine lv_istore (lv' := [(9, .int v143), (10, .int v160), (8, .int u), (7, .int m), (6, .int q), (5, .int p), (4, .int l), (0, .ref o), (1, .int r), (2, .int y), (3, .int k)]) hx hb dX5_aimed_183 hl (by decide) rfl (fun ls hl => ?_)
                                                  first
                                                  | (have n183 : v143 = ai_v S4 r y k p q m u := by unfold ai_v ai_w; first | rw [if_pos c150, ← e160, ← e143, if_pos c173] | rw [if_neg c150, ← e143, if_pos c173])
                                                  | (have n183 : v160 = ai_v S4 r y k p q m u := by unfold ai_v ai_w; rw [if_pos c150, ← e160, ← e143, if_neg c173])
                                                  | (have n183 : (0 : Int32) = ai_v S4 r y k p q m u := by unfold ai_v ai_w; rw [if_neg c150, ← e143, if_neg c173])
                                                  refine lv_iload hx hb dX5_aimed_185 (lv_at hl 0 rfl) ?_
                                                  refine lv_iload hx hb dX5_aimed_187 (lv_at hl 6 rfl) ?_
                                                  refine lv_icmp_lt (tgt := 195) hx hb dX5_aimed_189 (by decide) (fun c189 => ?_) (fun c189 => ?_)
                                                  · have t189 : (v143).toInt < (l).toInt := ww_lt c189
                                                    have nlt : ai_v S4 r y k p q m u < l := by rw [← n183]; exact c189
                                                    refine lv_iload hx hb dX5_aimed_195 (lv_at hl 0 rfl) ?_
                                                    refine lv_istore (lv' := [(4, .int v143), (9, .int v143), (10, .int v160), (8, .int u), (7, .int m), (6, .int q), (5, .int p), (0, .ref o), (1, .int r), (2, .int y), (3, .int k)]) hx hb dX5_aimed_197 hl (by decide) rfl (fun ls hl => ?_)
                                                    refine lv_aload_n hx hb dX5_aimed_199 rfl (lv_at hl 7 rfl) ?_
                                                    refine mm_geta hx hb hts hown hK hW 80 rfl q1765 dX5_aimed_200 ?_
                                                    refine lv_iconst (v := 0) hx hb dX5_aimed_203 (by decide) ?_
                                                    refine lv_iload hx hb dX5_aimed_204 (lv_at hl 6 rfl) ?_
                                                    refine mm_iast hx hb hK hW hS 80 rfl (ww_in (by decide) (by decide)) dX5_aimed_206 (fun S206 H locs f206 hW hS => ?_)
                                                    refine lv_aload_n hx hb dX5_aimed_207 rfl (lv_at hl 7 rfl) ?_
                                                    refine mm_geta hx hb hts hown hK hW 81 rfl q1766 dX5_aimed_208 ?_
                                                    refine lv_iconst (v := 0) hx hb dX5_aimed_211 (by decide) ?_
                                                    refine lv_iload hx hb dX5_aimed_212 (lv_at hl 4 rfl) ?_
                                                    refine mm_iast hx hb hK hW hS 81 rfl (ww_in (by decide) (by decide)) dX5_aimed_214 (fun S214 H locs f214 hW hS => ?_)
                                                    refine lv_aload_n hx hb dX5_aimed_215 rfl (lv_at hl 7 rfl) ?_
                                                    refine mm_geta hx hb hts hown hK hW 80 rfl q1765 dX5_aimed_216 ?_
                                                    refine lv_iconst (v := 1) hx hb dX5_aimed_219 (by decide) ?_
                                                    refine lv_iload hx hb dX5_aimed_220 (lv_at hl 5 rfl) ?_
                                                    refine mm_iast hx hb hK hW hS 80 rfl (ww_in (by decide) (by decide)) dX5_aimed_222 (fun S222 H locs f222 hW hS => ?_)
                                                    refine lv_aload_n hx hb dX5_aimed_223 rfl (lv_at hl 7 rfl) ?_
                                                    refine mm_geta hx hb hts hown hK hW 81 rfl q1766 dX5_aimed_224 ?_
                                                    refine lv_iconst (v := 1) hx hb dX5_aimed_227 (by decide) ?_
                                                    refine lv_iload hx hb dX5_aimed_228 (lv_at hl 3 rfl) ?_
                                                    refine mm_iast hx hb hK hW hS 81 rfl (ww_in (by decide) (by decide)) dX5_aimed_230 (fun S230 H locs f230 hW hS => ?_)
                                                    have n230 : True := trivial
                                                    try have n230 : S230 = ai_S S4 p q m u := by rw [f230, f222, f214, f206]; rfl
                                                    obtain ⟨v231, e231⟩ : ∃ yQ : Int32, yQ = u + 1 := ⟨_, rfl⟩
                                                    refine lv_iinc (v := v231) (lv' := [(8, .int v231), (4, .int v143), (9, .int v143), (10, .int v160), (7, .int m), (6, .int q), (5, .int p), (0, .ref o), (1, .int r), (2, .int y), (3, .int k)]) hx hb dX5_aimed_231 hl (k := 3) rfl (by rw [e231]; rfl) (by decide) rfl (fun ls hl => ?_)
                                                    refine lv_goto (tgt := 130) hx hb dX5_aimed_234 (by decide) ?_
                                                    have tb : v231.toInt = u.toInt + 1 := by rw [e231]; exact ww_inc' (by omega)
                                                    exact ih130 v143 v231 S230 H locs (by omega) (by omega) (by omega) (by first | exact iF130 | (rw [f230, f222, f214, f206]; exact (((iF130.wr (by decide)).wr (by decide)).wr (by decide)).wr (by decide))) (by first | (rw [e231]; rw [ao_go, if_neg c133, if_neg nlt] at hgo130; exact hgo130) | (rw [e231, n230, n183]; rw [ao_go, if_neg c133, if_pos nlt] at hgo130; exact hgo130)) hW hS ls (lv_sub hl [0, 4, 5, 6, 1, 7, 8, 9, 10] rfl)
                                                  · have t189 : (l).toInt ≤ (v143).toInt := ww_nlt c189
                                                    have nlt : ¬ ai_v S4 r y k p q m u < l := by rw [← n183]; exact c189
                                                    refine lv_goto (tgt := 231) hx hb dX5_aimed_192 (by decide) ?_
                                                    have n230 : True := trivial
                                                    try have n230 : S230 = ai_S S4 p q m u := by rw [f230, f222, f214, f206]; rfl
                                                    obtain ⟨v231, e231⟩ : ∃ yQ : Int32, yQ = u + 1 := ⟨_, rfl⟩
                                                    refine lv_iinc (v := v231) (lv' := [(8, .int v231), (9, .int v143), (10, .int v160), (7, .int m), (6, .int q), (5, .int p), (4, .int l), (0, .ref o), (1, .int r), (2, .int y), (3, .int k)]) hx hb dX5_aimed_231 hl (k := 2) rfl (by rw [e231]; rfl) (by decide) rfl (fun ls hl => ?_)
                                                    refine lv_goto (tgt := 130) hx hb dX5_aimed_234 (by decide) ?_
                                                    have tb : v231.toInt = u.toInt + 1 := by rw [e231]; exact ww_inc' (by omega)
                                                    exact ih130 l v231 S4 H locs (by omega) (by omega) (by omega) (by first | exact iF130 | (rw [f230, f222, f214, f206]; exact (((iF130.wr (by decide)).wr (by decide)).wr (by decide)).wr (by decide))) (by first | (rw [e231]; rw [ao_go, if_neg c133, if_neg nlt] at hgo130; exact hgo130) | (rw [e231, n230, n183]; rw [ao_go, if_neg c133, if_pos nlt] at hgo130; exact hgo130)) hW hS ls (lv_sub hl [0, 3, 4, 5, 6, 7, 8, 9, 10] rfl)
                                                · have t173 : (v143).toInt < (v160).toInt := ww_nle c173
                                                  refine lv_iload hx hb dX5_aimed_176 (lv_at hl 0 rfl) ?_
                                                  refine lv_goto (tgt := 183) hx hb dX5_aimed_178 (by decide) ?_
                                                  refine lv_istore (lv' := [(9, .int v160), (10, .int v160), (8, .int u), (7, .int m), (6, .int q), (5, .int p), (4, .int l), (0, .ref o), (1, .int r), (2, .int y), (3, .int k)]) hx hb dX5_aimed_183 hl (by decide) rfl (fun ls hl => ?_)
                                                  first
                                                  | (have n183 : v143 = ai_v S4 r y k p q m u := by unfold ai_v ai_w; first | rw [if_pos c150, ← e160, ← e143, if_pos c173] | rw [if_neg c150, ← e143, if_pos c173])
                                                  | (have n183 : v160 = ai_v S4 r y k p q m u := by unfold ai_v ai_w; rw [if_pos c150, ← e160, ← e143, if_neg c173])
                                                  | (have n183 : (0 : Int32) = ai_v S4 r y k p q m u := by unfold ai_v ai_w; rw [if_neg c150, ← e143, if_neg c173])
                                                  refine lv_iload hx hb dX5_aimed_185 (lv_at hl 0 rfl) ?_
                                                  refine lv_iload hx hb dX5_aimed_187 (lv_at hl 6 rfl) ?_
                                                  refine lv_icmp_lt (tgt := 195) hx hb dX5_aimed_189 (by decide) (fun c189 => ?_) (fun c189 => ?_)
                                                  · have t189 : (v160).toInt < (l).toInt := ww_lt c189
                                                    have nlt : ai_v S4 r y k p q m u < l := by rw [← n183]; exact c189
                                                    refine lv_iload hx hb dX5_aimed_195 (lv_at hl 0 rfl) ?_
                                                    refine lv_istore (lv' := [(4, .int v160), (9, .int v160), (10, .int v160), (8, .int u), (7, .int m), (6, .int q), (5, .int p), (0, .ref o), (1, .int r), (2, .int y), (3, .int k)]) hx hb dX5_aimed_197 hl (by decide) rfl (fun ls hl => ?_)
                                                    refine lv_aload_n hx hb dX5_aimed_199 rfl (lv_at hl 7 rfl) ?_
                                                    refine mm_geta hx hb hts hown hK hW 80 rfl q1765 dX5_aimed_200 ?_
                                                    refine lv_iconst (v := 0) hx hb dX5_aimed_203 (by decide) ?_
                                                    refine lv_iload hx hb dX5_aimed_204 (lv_at hl 6 rfl) ?_
                                                    refine mm_iast hx hb hK hW hS 80 rfl (ww_in (by decide) (by decide)) dX5_aimed_206 (fun S206 H locs f206 hW hS => ?_)
                                                    refine lv_aload_n hx hb dX5_aimed_207 rfl (lv_at hl 7 rfl) ?_
                                                    refine mm_geta hx hb hts hown hK hW 81 rfl q1766 dX5_aimed_208 ?_
                                                    refine lv_iconst (v := 0) hx hb dX5_aimed_211 (by decide) ?_
                                                    refine lv_iload hx hb dX5_aimed_212 (lv_at hl 4 rfl) ?_
                                                    refine mm_iast hx hb hK hW hS 81 rfl (ww_in (by decide) (by decide)) dX5_aimed_214 (fun S214 H locs f214 hW hS => ?_)
                                                    refine lv_aload_n hx hb dX5_aimed_215 rfl (lv_at hl 7 rfl) ?_
                                                    refine mm_geta hx hb hts hown hK hW 80 rfl q1765 dX5_aimed_216 ?_
                                                    refine lv_iconst (v := 1) hx hb dX5_aimed_219 (by decide) ?_
                                                    refine lv_iload hx hb dX5_aimed_220 (lv_at hl 5 rfl) ?_
                                                    refine mm_iast hx hb hK hW hS 80 rfl (ww_in (by decide) (by decide)) dX5_aimed_222 (fun S222 H locs f222 hW hS => ?_)
                                                    refine lv_aload_n hx hb dX5_aimed_223 rfl (lv_at hl 7 rfl) ?_
                                                    refine mm_geta hx hb hts hown hK hW 81 rfl q1766 dX5_aimed_224 ?_
                                                    refine lv_iconst (v := 1) hx hb dX5_aimed_227 (by decide) ?_
                                                    refine lv_iload hx hb dX5_aimed_228 (lv_at hl 3 rfl) ?_
                                                    refine mm_iast hx hb hK hW hS 81 rfl (ww_in (by decide) (by decide)) dX5_aimed_230 (fun S230 H locs f230 hW hS => ?_)
                                                    have n230 : True := trivial
                                                    try have n230 : S230 = ai_S S4 p q m u := by rw [f230, f222, f214, f206]; rfl
                                                    obtain ⟨v231, e231⟩ : ∃ yQ : Int32, yQ = u + 1 := ⟨_, rfl⟩
                                                    refine lv_iinc (v := v231) (lv' := [(8, .int v231), (4, .int v160), (9, .int v160), (10, .int v160), (7, .int m), (6, .int q), (5, .int p), (0, .ref o), (1, .int r), (2, .int y), (3, .int k)]) hx hb dX5_aimed_231 hl (k := 3) rfl (by rw [e231]; rfl) (by decide) rfl (fun ls hl => ?_)
                                                    refine lv_goto (tgt := 130) hx hb dX5_aimed_234 (by decide) ?_
                                                    have tb : v231.toInt = u.toInt + 1 := by rw [e231]; exact ww_inc' (by omega)
                                                    exact ih130 v160 v231 S230 H locs (by omega) (by omega) (by omega) (by first | exact iF130 | (rw [f230, f222, f214, f206]; exact (((iF130.wr (by decide)).wr (by decide)).wr (by decide)).wr (by decide))) (by first | (rw [e231]; rw [ao_go, if_neg c133, if_neg nlt] at hgo130; exact hgo130) | (rw [e231, n230, n183]; rw [ao_go, if_neg c133, if_pos nlt] at hgo130; exact hgo130)) hW hS ls (lv_sub hl [0, 4, 5, 6, 1, 7, 8, 9, 10] rfl)
                                                  · have t189 : (l).toInt ≤ (v160).toInt := ww_nlt c189
                                                    have nlt : ¬ ai_v S4 r y k p q m u < l := by rw [← n183]; exact c189
                                                    refine lv_goto (tgt := 231) hx hb dX5_aimed_192 (by decide) ?_
                                                    have n230 : True := trivial
                                                    try have n230 : S230 = ai_S S4 p q m u := by rw [f230, f222, f214, f206]; rfl
                                                    obtain ⟨v231, e231⟩ : ∃ yQ : Int32, yQ = u + 1 := ⟨_, rfl⟩
                                                    refine lv_iinc (v := v231) (lv' := [(8, .int v231), (9, .int v160), (10, .int v160), (7, .int m), (6, .int q), (5, .int p), (4, .int l), (0, .ref o), (1, .int r), (2, .int y), (3, .int k)]) hx hb dX5_aimed_231 hl (k := 2) rfl (by rw [e231]; rfl) (by decide) rfl (fun ls hl => ?_)
                                                    refine lv_goto (tgt := 130) hx hb dX5_aimed_234 (by decide) ?_
                                                    have tb : v231.toInt = u.toInt + 1 := by rw [e231]; exact ww_inc' (by omega)
                                                    exact ih130 l v231 S4 H locs (by omega) (by omega) (by omega) (by first | exact iF130 | (rw [f230, f222, f214, f206]; exact (((iF130.wr (by decide)).wr (by decide)).wr (by decide)).wr (by decide))) (by first | (rw [e231]; rw [ao_go, if_neg c133, if_neg nlt] at hgo130; exact hgo130) | (rw [e231, n230, n183]; rw [ao_go, if_neg c133, if_pos nlt] at hgo130; exact hgo130)) hW hS ls (lv_sub hl [0, 3, 4, 5, 6, 7, 8, 9, 10] rfl)
                                        exact L130 5 l3 w128 S3 H locs (by show (3 : Int) - _ < 5; omega) w128a w128b iF109 (by rw [ew128]; rfl) hW hS ls (lv_sub hl [0, 1, 2, 3, 4, 5, 6, 7, 8] rfl)
                                      refine lv_iload_n hx hb dX5_aimed_115 rfl (lv_at hl 7 rfl) ?_
                                      refine lv_iconst (v := 2) hx hb dX5_aimed_116 (by decide) ?_
                                      refine lv_icmp_ne (tgt := 127) hx hb dX5_aimed_117 (by decide) (fun c117 => ?_) (fun c117 => ?_)
                                      · skip
                                        refine lv_iconst (v := 2) hx hb dX5_aimed_127 (by decide) ?_
                                        exact J128 _ (by simp only [if_neg c112, if_neg c117])
                                      · skip
                                        refine lv_iload hx hb dX5_aimed_120 (lv_at hl 0 rfl) ?_
                                        refine lv_iconst (v := 1) hx hb dX5_aimed_122 (by decide) ?_
                                        refine nv_iadd hx hb dX5_aimed_123 (fun v123 e123 => ?_)
                                        refine lv_goto (tgt := 128) hx hb dX5_aimed_124 (by decide) ?_
                                        exact J128 _ (by subst e123; simp only [if_neg c112, if_pos c117])
                                exact L109 4 l2 0 S2 H locs (by show (3 : Int) - 0 < 4; omega) (by decide) (by decide) iF73 (rfl) hW hS ls (lv_sub hl [0, 1, 2, 3, 4, 5, 6, 7] rfl)
                              · skip
                                refine lv_goto (tgt := 243) hx hb dX5_aimed_103 (by decide) ?_
                                obtain ⟨v243, e243⟩ : ∃ yQ : Int32, yQ = q + 1 := ⟨_, rfl⟩
                                refine lv_iinc (v := v243) (lv' := [(6, .int v243), (5, .int p), (4, .int l2), (0, .ref o), (1, .int r), (2, .int y), (3, .int k)]) hx hb dX5_aimed_243 hl (k := 0) rfl (by rw [e243]; rfl) (by decide) rfl (fun ls hl => ?_)
                                refine lv_goto (tgt := 73) hx hb dX5_aimed_246 (by decide) ?_
                                have tb : v243.toInt = q.toInt + 1 := by rw [e243]; exact ww_inc' (by omega)
                                exact ih73 l2 v243 S2 H locs (by omega) (by omega) (by omega) (by first | exact iF109 | exact iF73) (by rw [ew88] at c88; rw [aq_go, if_neg c88] at hgo73; first | (rw [e243, g31, g32]; simp only [if_neg c88, if_pos c93, if_pos c100] at hgo73; exact hgo73) | (rw [e243]; simp only [if_neg c88, if_pos c93, if_pos c100] at hgo73; exact hgo73)) hW hS ls (lv_sub hl [0, 1, 2, 3, 4, 5, 6] rfl)
                        refine lv_iload_n hx hb dX5_aimed_75 rfl (lv_at hl 6 rfl) ?_
                        refine lv_iconst (v := 2) hx hb dX5_aimed_76 (by decide) ?_
                        refine lv_icmp_ne (tgt := 87) hx hb dX5_aimed_77 (by decide) (fun c77 => ?_) (fun c77 => ?_)
                        · skip
                          refine lv_iconst (v := 1) hx hb dX5_aimed_87 (by decide) ?_
                          exact J88 _ (by simp only [if_neg c77])
                        · skip
                          refine lv_aload_n hx hb dX5_aimed_80 rfl (lv_at hl 3 rfl) ?_
                          refine mm_geti hx hb hts hown hK hW 76 rfl (by decide) q1761 dX5_aimed_81 ?_
                          refine lv_goto (tgt := 88) hx hb dX5_aimed_84 (by decide) ?_
                          exact J88 _ (by simp only [if_pos c77])
                    exact L73 7 l1 0 S1 H locs (by decide) (by decide) (by decide) iF61 (rfl) hW hS ls (lv_sub hl [0, 1, 2, 3, 4, 5, 6] rfl)
              exact L61 7 2147483647 0 S H locs (by decide) (by decide) (by decide) (fr_.rf S) (rfl) hW hS ls (lv_sub hl [0, 1, 2, 3, 4, 5] rfl)
            · have t47 : ((fd_ S 76)).toInt < 2 := ww_nle c47
              refine lv_bipush (v := (-2)) hx hb dX5_aimed_50 (by decide) ?_
              refine mm_iret hx hb hr hlocks hW hS ?_ dX5_aimed_52
              have hres : ff_aimed S r y k = ((-2), S) := by subst e3 e13 e22; simp only [ff_aimed, if_neg c6, if_neg c16, if_neg c25, if_neg c32, if_pos c39, if_neg c47]
              exact ⟨by rw [hres], by rw [hres], rfl⟩
        · skip
          refine lv_iconst (v := (-1)) hx hb dX5_aimed_35 (by decide) ?_
          refine mm_iret hx hb hr hlocks hW hS ?_ dX5_aimed_36
          have hres : ff_aimed S r y k = ((-1), S) := by subst e3 e13 e22; simp only [ff_aimed, if_neg c6, if_neg c16, if_neg c25, if_pos c32]
          exact ⟨by rw [hres], by rw [hres], rfl⟩

set_option maxHeartbeats 4000000 in
theorem mc_aimedAt (lQ : Launch) (G : wm_G) (o : Nat) (S : mm_S) (E : mm_E) (i : Int32) (w : Int32) (hm1 : (fd_ S 79).toInt ≤ 2) (hm0 : 0 ≤ (fd_ S 79).toInt) : mm_Met lQ G o yX5_aimedAt (ws_ yX5_aimedAt cX5_aimedAt 3 (some .int)) 1 S E [.int i, .int w] (some (.int (ff_aimedAt S i w))) S E := by
  refine mm_start (by decide +kernel) (Nat.le_of_ble_eq_true rfl) rfl (fun pQ eQ sQ mQ belowQ methQ cQ hx hb hml hr hlocks hts hown hK H hW hS ls hl => ?_)
  have hl : lv_has ls 3 [(0, .ref o), (1, .int i), (2, .int w)] := hl
  generalize hlc : ([] : List Loc) = locs at hS ⊢
  refine lv_iload_n hx hb dX5_aimedAt_0 rfl (lv_at hl 1 rfl) ?_
  refine lv_iconst (v := 0) hx hb dX5_aimedAt_1 (by decide) ?_
  refine lv_aload_n hx hb dX5_aimedAt_2 rfl (lv_at hl 0 rfl) ?_
  refine mm_geti hx hb hts hown hK hW 79 rfl (by decide) q1764 dX5_aimedAt_3 ?_
  refine lv_iconst (v := 1) hx hb dX5_aimedAt_6 (by decide) ?_
  refine nv_isub hx hb dX5_aimedAt_7 (fun v7 e7 => ?_)
  refine pp_calli (As := [.int i, .int 0, .int v7]) (rest := []) (n := 3) ⟨hx, hb, hml, hown, hts⟩ (mc_in lQ i 0 v7) (lw_S q1979 q1980 q92 q1981) (by decide +kernel) rfl ⟨Nat.le_of_ble_eq_true rfl, Nat.le_of_ble_eq_true rfl⟩ hl.1 rfl (Nat.le_of_ble_eq_true rfl) dX5_aimedAt_8 ⟨Nat.le_of_ble_eq_true rfl, Nat.le_of_ble_eq_true rfl⟩ (fun v8 e8 => ?_)
  refine lv_if_eq (tgt := 23) hx hb dX5_aimedAt_11 (by decide) (fun c11 => ?_) (fun c11 => ?_)
  · skip
    refine lv_iconst (v := (-1)) hx hb dX5_aimedAt_23 (by decide) ?_
    refine lv_goto (tgt := 46) hx hb dX5_aimedAt_24 (by decide) ?_
    refine mm_iret hx hb hr hlocks hW hS ?_ dX5_aimedAt_46
    have hres : ff_aimedAt S i w = (-1) := by subst e7 e8; simp only [ff_aimedAt, if_pos c11]
    exact ⟨by rw [hres], rfl, rfl⟩
  · skip
    obtain ⟨i0, i1⟩ := ff_in_t (v := i) (a := 0) (b := fd_ S 79 - 1) (by rw [← e7, ← e8]; exact c11)
    have i0 : 0 ≤ i.toInt := i0
    rw [ww_sub1 (by omega)] at i1
    refine lv_iload_n hx hb dX5_aimedAt_14 rfl (lv_at hl 2 rfl) ?_
    refine lv_iconst (v := 0) hx hb dX5_aimedAt_15 (by decide) ?_
    refine lv_iconst (v := 1) hx hb dX5_aimedAt_16 (by decide) ?_
    refine pp_calli (As := [.int w, .int 0, .int 1]) (rest := []) (n := 3) ⟨hx, hb, hml, hown, hts⟩ (mc_in lQ w 0 1) (lw_S q1979 q1980 q92 q1981) (by decide +kernel) rfl ⟨Nat.le_of_ble_eq_true rfl, Nat.le_of_ble_eq_true rfl⟩ hl.1 rfl (Nat.le_of_ble_eq_true rfl) dX5_aimedAt_17 ⟨Nat.le_of_ble_eq_true rfl, Nat.le_of_ble_eq_true rfl⟩ (fun v17 e17 => ?_)
    refine lv_if_ne (tgt := 27) hx hb dX5_aimedAt_20 (by decide) (fun c20 => ?_) (fun c20 => ?_)
    · skip
      refine lv_iload_n hx hb dX5_aimedAt_27 rfl (lv_at hl 2 rfl) ?_
      refine lv_if_ne (tgt := 40) hx hb dX5_aimedAt_28 (by decide) (fun c28 => ?_) (fun c28 => ?_)
      · skip
        refine lv_aload_n hx hb dX5_aimedAt_40 rfl (lv_at hl 0 rfl) ?_
        refine mm_geta hx hb hts hown hK hW 81 rfl q1766 dX5_aimedAt_41 ?_
        refine lv_iload_n hx hb dX5_aimedAt_44 rfl (lv_at hl 1 rfl) ?_
        refine mm_iald hx hb hK hW 81 rfl (ww_in (by omega) (by omega)) dX5_aimedAt_45 ?_
        refine mm_iret hx hb hr hlocks hW hS ?_ dX5_aimedAt_46
        have hres : ff_aimedAt S i w = (rd_ S 81 i) := by subst e7 e8 e17; simp only [ff_aimedAt, if_neg c11, if_neg c20, if_neg c28]
        exact ⟨by rw [hres], rfl, rfl⟩
      · skip
        refine lv_aload_n hx hb dX5_aimedAt_31 rfl (lv_at hl 0 rfl) ?_
        refine mm_geta hx hb hts hown hK hW 80 rfl q1765 dX5_aimedAt_32 ?_
        refine lv_iload_n hx hb dX5_aimedAt_35 rfl (lv_at hl 1 rfl) ?_
        refine mm_iald hx hb hK hW 80 rfl (ww_in (by omega) (by omega)) dX5_aimedAt_36 ?_
        refine lv_goto (tgt := 46) hx hb dX5_aimedAt_37 (by decide) ?_
        refine mm_iret hx hb hr hlocks hW hS ?_ dX5_aimedAt_46
        have hres : ff_aimedAt S i w = (rd_ S 80 i) := by subst e7 e8 e17; simp only [ff_aimedAt, if_neg c11, if_neg c20, if_pos c28]
        exact ⟨by rw [hres], rfl, rfl⟩
    · skip
      refine lv_iconst (v := (-1)) hx hb dX5_aimedAt_23 (by decide) ?_
      refine lv_goto (tgt := 46) hx hb dX5_aimedAt_24 (by decide) ?_
      refine mm_iret hx hb hr hlocks hW hS ?_ dX5_aimedAt_46
      have hres : ff_aimedAt S i w = (-1) := by subst e7 e8 e17; simp only [ff_aimedAt, if_neg c11, if_pos c20]
      exact ⟨by rw [hres], rfl, rfl⟩

set_option maxHeartbeats 4000000 in
theorem mc_race (lQ : Launch) (G : wm_G) (o : Nat) (S : mm_S) (E : mm_E) (m : Int32) (y : Int32) (k : Int32) (hB : iv_B S) (hH : iv_H S) : mm_Met lQ G o yX5_race (ws_ yX5_race cX5_race 8 (some .int)) 2 S E [.int m, .int y, .int k] (some (.int (ff_race S m y k))) S E := by
  refine mm_start (by decide +kernel) (Nat.le_of_ble_eq_true rfl) rfl (fun pQ eQ sQ mQ belowQ methQ cQ hx hb hml hr hlocks hts hown hK H hW hS ls hl => ?_)
  have hl : lv_has ls 8 [(0, .ref o), (1, .int m), (2, .int y), (3, .int k)] := hl
  generalize hlc : ([] : List Loc) = locs at hS ⊢
  refine lv_iload_n hx hb dX5_race_0 rfl (lv_at hl 1 rfl) ?_
  refine pp_calli (As := [.int m]) (rest := []) (n := 1) ⟨hx, hb, hml, hown, hts⟩ (mc_isMachine lQ m) (lw_S q2044 q2045 q92 q2046) (by decide +kernel) rfl ⟨Nat.le_of_ble_eq_true rfl, Nat.le_of_ble_eq_true rfl⟩ hl.1 rfl (Nat.le_of_ble_eq_true rfl) dX5_race_1 ⟨Nat.le_of_ble_eq_true rfl, Nat.le_of_ble_eq_true rfl⟩ (fun v1 e1 => ?_)
  refine lv_if_eq (tgt := 27) hx hb dX5_race_4 (by decide) (fun c4 => ?_) (fun c4 => ?_)
  · skip
    refine lv_iconst (v := (-1)) hx hb dX5_race_27 (by decide) ?_
    refine mm_iret hx hb hr hlocks hW hS ?_ dX5_race_28
    have hres : ff_race S m y k = (-1) := by subst e1; simp only [ff_race, if_pos c4]
    exact ⟨by rw [hres], rfl, rfl⟩
  · skip
    obtain ⟨m0, m1⟩ := ff_isMachine_t (m := m) (by rw [← e1]; exact c4)
    refine lv_iload_n hx hb dX5_race_7 rfl (lv_at hl 2 rfl) ?_
    refine lv_iconst (v := 1) hx hb dX5_race_8 (by decide) ?_
    refine lv_bipush (v := 60) hx hb dX5_race_9 (by decide) ?_
    refine pp_calli (As := [.int y, .int 1, .int 60]) (rest := []) (n := 3) ⟨hx, hb, hml, hown, hts⟩ (mc_in lQ y 1 60) (lw_S q1979 q1980 q92 q1981) (by decide +kernel) rfl ⟨Nat.le_of_ble_eq_true rfl, Nat.le_of_ble_eq_true rfl⟩ hl.1 rfl (Nat.le_of_ble_eq_true rfl) dX5_race_11 ⟨Nat.le_of_ble_eq_true rfl, Nat.le_of_ble_eq_true rfl⟩ (fun v11 e11 => ?_)
    refine lv_if_eq (tgt := 27) hx hb dX5_race_14 (by decide) (fun c14 => ?_) (fun c14 => ?_)
    · skip
      refine lv_iconst (v := (-1)) hx hb dX5_race_27 (by decide) ?_
      refine mm_iret hx hb hr hlocks hW hS ?_ dX5_race_28
      have hres : ff_race S m y k = (-1) := by subst e1 e11; simp only [ff_race, if_neg c4, if_pos c14]
      exact ⟨by rw [hres], rfl, rfl⟩
    · skip
      refine lv_iload_n hx hb dX5_race_17 rfl (lv_at hl 3 rfl) ?_
      refine lv_iconst (v := 1) hx hb dX5_race_18 (by decide) ?_
      refine lv_bipush (v := 9) hx hb dX5_race_19 (by decide) ?_
      refine pp_calli (As := [.int k, .int 1, .int 9]) (rest := []) (n := 3) ⟨hx, hb, hml, hown, hts⟩ (mc_in lQ k 1 9) (lw_S q1979 q1980 q92 q1981) (by decide +kernel) rfl ⟨Nat.le_of_ble_eq_true rfl, Nat.le_of_ble_eq_true rfl⟩ hl.1 rfl (Nat.le_of_ble_eq_true rfl) dX5_race_21 ⟨Nat.le_of_ble_eq_true rfl, Nat.le_of_ble_eq_true rfl⟩ (fun v21 e21 => ?_)
      refine lv_if_ne (tgt := 29) hx hb dX5_race_24 (by decide) (fun c24 => ?_) (fun c24 => ?_)
      · skip
        refine lv_aload_n hx hb dX5_race_29 rfl (lv_at hl 0 rfl) ?_
        refine mm_geta hx hb hts hown hK hW 27 rfl q1712 dX5_race_30 ?_
        refine lv_iload_n hx hb dX5_race_33 rfl (lv_at hl 1 rfl) ?_
        refine mm_iald hx hb hK hW 27 rfl (ww_in (by omega) (by omega)) dX5_race_34 ?_
        refine lv_istore (lv' := [(4, .int (rd_ S 27 m)), (0, .ref o), (1, .int m), (2, .int y), (3, .int k)]) hx hb dX5_race_35 hl (by decide) rfl (fun ls hl => ?_)
        refine lv_iload hx hb dX5_race_37 (lv_at hl 0 rfl) ?_
        refine lv_if_lt (tgt := 63) hx hb dX5_race_39 (by decide) (fun c39 => ?_) (fun c39 => ?_)
        · have t39 : ((rd_ S 27 m)).toInt < 0 := ww_lt c39
          refine lv_bipush (v := (-2)) hx hb dX5_race_63 (by decide) ?_
          refine mm_iret hx hb hr hlocks hW hS ?_ dX5_race_65
          have hres : ff_race S m y k = (-2) := by subst e1 e11 e21; simp only [ff_race, if_neg c4, if_neg c14, if_neg c24, if_pos c39]
          exact ⟨by rw [hres], rfl, rfl⟩
        · have t39 : 0 ≤ ((rd_ S 27 m)).toInt := ww_nlt c39
          have h0 : 0 ≤ (rd_ S 27 m).toInt := t39
          have h1 := iv_H_t hB hH m0 (by omega) h0
          refine lv_aload_n hx hb dX5_race_42 rfl (lv_at hl 1 rfl) ?_
          refine mm_geta hx hb hts hown hK hW 12 rfl q1697 dX5_race_43 ?_
          refine lv_iload hx hb dX5_race_46 (lv_at hl 0 rfl) ?_
          refine mm_iald hx hb hK hW 12 rfl (ww_in (by omega) (by omega)) dX5_race_48 ?_
          refine lv_if_gt (tgt := 63) hx hb dX5_race_49 (by decide) (fun c49 => ?_) (fun c49 => ?_)
          · have t49 : 0 < ((rd_ S 12 (rd_ S 27 m))).toInt := ww_lt c49
            refine lv_bipush (v := (-2)) hx hb dX5_race_63 (by decide) ?_
            refine mm_iret hx hb hr hlocks hW hS ?_ dX5_race_65
            have hres : ff_race S m y k = (-2) := by subst e1 e11 e21; simp only [ff_race, if_neg c4, if_neg c14, if_neg c24, if_neg c39, if_pos c49]
            exact ⟨by rw [hres], rfl, rfl⟩
          · have t49 : ((rd_ S 12 (rd_ S 27 m))).toInt ≤ 0 := ww_nlt c49
            refine lv_aload_n hx hb dX5_race_52 rfl (lv_at hl 1 rfl) ?_
            refine mm_geta hx hb hts hown hK hW 10 rfl q1695 dX5_race_53 ?_
            refine lv_iload hx hb dX5_race_56 (lv_at hl 0 rfl) ?_
            refine mm_iald hx hb hK hW 10 rfl (ww_in (by omega) (by omega)) dX5_race_58 ?_
            refine lv_iload_n hx hb dX5_race_59 rfl (lv_at hl 3 rfl) ?_
            refine lv_icmp_lt (tgt := 66) hx hb dX5_race_60 (by decide) (fun c60 => ?_) (fun c60 => ?_)
            · have t60 : ((rd_ S 10 (rd_ S 27 m))).toInt < (y).toInt := ww_lt c60
              refine lv_iload_n hx hb dX5_race_66 rfl (lv_at hl 3 rfl) ?_
              refine lv_aload_n hx hb dX5_race_67 rfl (lv_at hl 1 rfl) ?_
              refine mm_geta hx hb hts hown hK hW 10 rfl q1695 dX5_race_68 ?_
              refine lv_iload hx hb dX5_race_71 (lv_at hl 0 rfl) ?_
              refine mm_iald hx hb hK hW 10 rfl (ww_in (by omega) (by omega)) dX5_race_73 ?_
              refine nv_isub hx hb dX5_race_74 (fun v74 e74 => ?_)
              refine lv_aload_n hx hb dX5_race_75 rfl (lv_at hl 1 rfl) ?_
              refine mm_geta hx hb hts hown hK hW 26 rfl q1711 dX5_race_76 ?_
              refine lv_iload_n hx hb dX5_race_79 rfl (lv_at hl 2 rfl) ?_
              refine mm_iald hx hb hK hW 26 rfl (ww_in (by omega) (by omega)) dX5_race_80 ?_
              refine nv_imul hx hb dX5_race_81 (fun v81 e81 => ?_)
              refine lv_iload_n hx hb dX5_race_82 rfl (lv_at hl 4 rfl) ?_
              refine nv_imul hx hb dX5_race_83 (fun v83 e83 => ?_)
              refine lv_aload_n hx hb dX5_race_84 rfl (lv_at hl 1 rfl) ?_
              refine mm_geta hx hb hts hown hK hW 11 rfl q1696 dX5_race_85 ?_
              refine lv_iload hx hb dX5_race_88 (lv_at hl 0 rfl) ?_
              refine mm_iald hx hb hK hW 11 rfl (ww_in (by omega) (by omega)) dX5_race_90 ?_
              refine nv_isub hx hb dX5_race_91 (fun v91 e91 => ?_)
              have n91 : v91 = ra_m S m y k := by rw [e91, e83, e81, e74]; rfl
              refine lv_istore (lv' := [(5, .int v91), (4, .int (rd_ S 27 m)), (0, .ref o), (1, .int m), (2, .int y), (3, .int k)]) hx hb dX5_race_92 hl (by decide) rfl (fun ls hl => ?_)
              refine wm_join (P := fun w113 : Int32 => w113 = ra_h v91) (j := 113) (rest := []) (ls := ls) (fun w113 ew113 => ?_) (fun J113 => ?_)
              · skip
                refine lv_istore (lv' := [(6, .int w113), (5, .int v91), (4, .int (rd_ S 27 m)), (0, .ref o), (1, .int m), (2, .int y), (3, .int k)]) hx hb dX5_race_113 hl (by decide) rfl (fun ls hl => ?_)
                refine wm_join (P := fun w141 : Int32 => w141 = ra_f S m) (j := 141) (rest := []) (ls := ls) (fun w141 ew141 => ?_) (fun J141 => ?_)
                · skip
                  refine lv_istore (lv' := [(7, .int w141), (6, .int w113), (5, .int v91), (4, .int (rd_ S 27 m)), (0, .ref o), (1, .int m), (2, .int y), (3, .int k)]) hx hb dX5_race_141 hl (by decide) rfl (fun ls hl => ?_)
                  refine lv_iload hx hb dX5_race_143 (lv_at hl 0 rfl) ?_
                  refine lv_iload hx hb dX5_race_145 (lv_at hl 1 rfl) ?_
                  refine nv_iadd hx hb dX5_race_147 (fun v147 e147 => ?_)
                  refine lv_iconst (v := 0) hx hb dX5_race_148 (by decide) ?_
                  refine lv_sipush (v := 9999) hx hb dX5_race_149 (by decide) ?_
                  refine pp_calli (As := [.int v147, .int 0, .int 9999]) (rest := []) (n := 3) ⟨hx, hb, hml, hown, hts⟩ (mc_held lQ v147 0 9999) (lw_S q2089 q2090 q92 q2091) (by decide +kernel) rfl ⟨Nat.le_of_ble_eq_true rfl, Nat.le_of_ble_eq_true rfl⟩ hl.1 rfl (Nat.le_of_ble_eq_true rfl) dX5_race_152 ⟨Nat.le_of_ble_eq_true rfl, Nat.le_of_ble_eq_true rfl⟩ (fun v152 e152 => ?_)
                  refine mm_iret hx hb hr hlocks hW hS ?_ dX5_race_155
                  have hres : ff_race S m y k = v152 := by
                    rw [e152, e147, ew141, ew113, n91]; subst e1 e11 e21; simp only [ff_race, if_neg c4, if_neg c14, if_neg c24, if_neg c39, if_neg c49, if_pos c60]
                  exact ⟨by rw [hres], rfl, rfl⟩
                refine lv_aload_n hx hb dX5_race_115 rfl (lv_at hl 3 rfl) ?_
                refine mm_geta hx hb hts hown hK hW 28 rfl q1713 dX5_race_116 ?_
                refine lv_iload_n hx hb dX5_race_119 rfl (lv_at hl 4 rfl) ?_
                refine mm_iald hx hb hK hW 28 rfl (ww_in (by omega) (by omega)) dX5_race_120 ?_
                refine lv_aload_n hx hb dX5_race_121 rfl (lv_at hl 3 rfl) ?_
                refine mm_geti hx hb hts hown hK hW 1 rfl (by decide) q1686 dX5_race_122 ?_
                refine lv_icmp_le (tgt := 137) hx hb dX5_race_125 (by decide) (fun c125 => ?_) (fun c125 => ?_)
                · have t125 : ((rd_ S 28 m)).toInt ≤ ((fd_ S 1)).toInt := ww_le c125
                  refine lv_aload_n hx hb dX5_race_137 rfl (lv_at hl 3 rfl) ?_
                  refine mm_geti hx hb hts hown hK hW 1 rfl (by decide) q1686 dX5_race_138 ?_
                  exact J141 _ (by simp only [ra_f, if_neg c4, if_neg c14, if_neg c24, if_neg c39, if_neg c49, if_pos c60, if_pos c125])
                · have t125 : ((fd_ S 1)).toInt < ((rd_ S 28 m)).toInt := ww_nle c125
                  refine lv_aload_n hx hb dX5_race_128 rfl (lv_at hl 3 rfl) ?_
                  refine mm_geta hx hb hts hown hK hW 28 rfl q1713 dX5_race_129 ?_
                  refine lv_iload_n hx hb dX5_race_132 rfl (lv_at hl 4 rfl) ?_
                  refine mm_iald hx hb hK hW 28 rfl (ww_in (by omega) (by omega)) dX5_race_133 ?_
                  refine lv_goto (tgt := 141) hx hb dX5_race_134 (by decide) ?_
                  exact J141 _ (by simp only [ra_f, if_neg c4, if_neg c14, if_neg c24, if_neg c39, if_neg c49, if_pos c60, if_neg c125])
              refine lv_iload hx hb dX5_race_94 (lv_at hl 0 rfl) ?_
              refine lv_bipush (v := 60) hx hb dX5_race_96 (by decide) ?_
              refine lv_icmp_gt (tgt := 105) hx hb dX5_race_98 (by decide) (fun c98 => ?_) (fun c98 => ?_)
              · have t98 : 60 < (v91).toInt := ww_lt c98
                refine lv_iload hx hb dX5_race_105 (lv_at hl 0 rfl) ?_
                refine lv_bipush (v := 59) hx hb dX5_race_107 (by decide) ?_
                refine nv_iadd hx hb dX5_race_109 (fun v109 e109 => ?_)
                refine lv_bipush (v := 60) hx hb dX5_race_110 (by decide) ?_
                refine nv_idiv hx hb dX5_race_112 (by decide) (fun v112 e112 => ?_)
                exact J113 _ (by subst e1 e11 e21 e74 e81 e83 e91 e109 e112; simp only [ra_h, if_neg c4, if_neg c14, if_neg c24, if_neg c39, if_neg c49, if_pos c60, if_pos c98])
              · have t98 : (v91).toInt ≤ 60 := ww_nlt c98
                refine lv_iconst (v := 1) hx hb dX5_race_101 (by decide) ?_
                refine lv_goto (tgt := 113) hx hb dX5_race_102 (by decide) ?_
                exact J113 _ (by subst e1 e11 e21 e74 e81 e83 e91; simp only [ra_h, if_neg c4, if_neg c14, if_neg c24, if_neg c39, if_neg c49, if_pos c60, if_neg c98])
            · have t60 : (y).toInt ≤ ((rd_ S 10 (rd_ S 27 m))).toInt := ww_nlt c60
              refine lv_bipush (v := (-2)) hx hb dX5_race_63 (by decide) ?_
              refine mm_iret hx hb hr hlocks hW hS ?_ dX5_race_65
              have hres : ff_race S m y k = (-2) := by subst e1 e11 e21; simp only [ff_race, if_neg c4, if_neg c14, if_neg c24, if_neg c39, if_neg c49, if_neg c60]
              exact ⟨by rw [hres], rfl, rfl⟩
      · skip
        refine lv_iconst (v := (-1)) hx hb dX5_race_27 (by decide) ?_
        refine mm_iret hx hb hr hlocks hW hS ?_ dX5_race_28
        have hres : ff_race S m y k = (-1) := by subst e1 e11 e21; simp only [ff_race, if_neg c4, if_neg c14, if_pos c24]
        exact ⟨by rw [hres], rfl, rfl⟩

set_option maxHeartbeats 4000000 in
theorem mc_capsule (lQ : Launch) (G : wm_G) (o : Nat) (S : mm_S) (E : mm_E) (s : Int32) (hB : iv_B S) (hX : iv_X S) : mm_Met lQ G o yX5_capsule (ws_ yX5_capsule cX5_capsule 6 (some .int)) 4 S E [.int s] (some (.int (ff_capsule S s).1)) (ff_capsule S s).2 E := by
  refine mm_start (by decide +kernel) (Nat.le_of_ble_eq_true rfl) rfl (fun pQ eQ sQ mQ belowQ methQ cQ hx hb hml hr hlocks hts hown hK H hW hS ls hl => ?_)
  have hl : lv_has ls 6 [(0, .ref o), (1, .int s)] := hl
  generalize hlc : ([] : List Loc) = locs at hS ⊢
  refine lv_aload_n hx hb dX5_capsule_0 rfl (lv_at hl 0 rfl) ?_
  refine lv_iload_n hx hb dX5_capsule_1 rfl (lv_at hl 1 rfl) ?_
  refine mm_callp (As := [.int s]) (rest := []) (n := 1) ⟨hx, hb, hml, hown, hts⟩ hK (mc_isBody lQ G o S E s) (lw_V q2020 q2022 qs38 q92 q2023) (by decide +kernel) rfl ⟨Nat.le_of_ble_eq_true rfl, Nat.le_of_ble_eq_true rfl⟩ hW hS hl.1 rfl (Nat.le_of_ble_eq_true rfl) dX5_capsule_2 ⟨Nat.le_of_ble_eq_true rfl, Nat.le_of_ble_eq_true rfl⟩ (fun v2 H locs e2 hW hS => ?_)
  refine lv_if_eq (tgt := 28) hx hb dX5_capsule_5 (by decide) (fun c5 => ?_) (fun c5 => ?_)
  · skip
    refine lv_iconst (v := (-1)) hx hb dX5_capsule_28 (by decide) ?_
    refine mm_iret hx hb hr hlocks hW hS ?_ dX5_capsule_29
    have hres : ff_capsule S s = ((-1), S) := by subst e2; simp only [ff_capsule, if_pos c5]
    exact ⟨by rw [hres], by rw [hres], rfl⟩
  · skip
    obtain ⟨b0, b1, b2⟩ := ff_isBody_t hB (by rw [← e2]; exact c5)
    refine lv_aload_n hx hb dX5_capsule_8 rfl (lv_at hl 0 rfl) ?_
    refine mm_geta hx hb hts hown hK hW 5 rfl q1690 dX5_capsule_9 ?_
    refine lv_iload_n hx hb dX5_capsule_12 rfl (lv_at hl 1 rfl) ?_
    refine mm_iald hx hb hK hW 5 rfl (ww_in (by omega) (by omega)) dX5_capsule_13 ?_
    refine lv_iconst (v := 4) hx hb dX5_capsule_14 (by decide) ?_
    refine lv_icmp_eq (tgt := 30) hx hb dX5_capsule_15 (by decide) (fun c15 => ?_) (fun c15 => ?_)
    · skip
      refine lv_aload_n hx hb dX5_capsule_30 rfl (lv_at hl 0 rfl) ?_
      refine mm_geta hx hb hts hown hK hW 12 rfl q1697 dX5_capsule_31 ?_
      refine lv_iload_n hx hb dX5_capsule_34 rfl (lv_at hl 1 rfl) ?_
      refine mm_iald hx hb hK hW 12 rfl (ww_in (by omega) (by omega)) dX5_capsule_35 ?_
      refine lv_if_eq (tgt := 46) hx hb dX5_capsule_36 (by decide) (fun c36 => ?_) (fun c36 => ?_)
      · skip
        refine lv_bipush (v := (-2)) hx hb dX5_capsule_46 (by decide) ?_
        refine mm_iret hx hb hr hlocks hW hS ?_ dX5_capsule_48
        have hres : ff_capsule S s = (-2, S) := by subst e2; simp only [ff_capsule, cc_fin, if_neg c5, if_pos c15, if_pos c36]
        exact ⟨by rw [hres], by rw [hres], rfl⟩
      · skip
        refine lv_aload_n hx hb dX5_capsule_39 rfl (lv_at hl 0 rfl) ?_
        refine mm_callp (As := []) (rest := []) (n := 0) ⟨hx, hb, hml, hown, hts⟩ hK (mc_menBelow lQ G o S E hB) (lw_V q2205 q2207 qs61 q92 q2208) (by decide +kernel) rfl ⟨Nat.le_of_ble_eq_true rfl, Nat.le_of_ble_eq_true rfl⟩ hW hS hl.1 rfl (Nat.le_of_ble_eq_true rfl) dX5_capsule_40 ⟨Nat.le_of_ble_eq_true rfl, Nat.le_of_ble_eq_true rfl⟩ (fun v40 H locs e40 hW hS => ?_)
        refine lv_if_ne (tgt := 49) hx hb dX5_capsule_43 (by decide) (fun c43 => ?_) (fun c43 => ?_)
        · skip
          have mb : ¬ ff_menBelow S = 0 := by rw [← e40]; exact c43
          have hb120 := hB.2
          refine lv_iconst (v := 0) hx hb dX5_capsule_49 (by decide) ?_
          refine lv_istore_n (lv' := [(2, .int 0), (0, .ref o), (1, .int s)]) hx hb dX5_capsule_50 rfl hl (by decide) rfl (fun ls hl => ?_)
          refine lv_iconst (v := 0) hx hb dX5_capsule_51 (by decide) ?_
          refine lv_istore_n (lv' := [(3, .int 0), (2, .int 0), (0, .ref o), (1, .int s)]) hx hb dX5_capsule_52 rfl hl (by decide) rfl (fun ls hl => ?_)
          have L53 : ∀ (fu53 : Nat) (n : Int32) (m : Int32) (S0 : mm_S) (H : Heap) (locs : List Loc), ((fd_ S 4).toInt - m.toInt < fu53) → (0 ≤ m.toInt) → (m.toInt ≤ (fd_ S 4).toInt) → (fr_ [52, 53, 84, 85] S S0) → (0 ≤ n.toInt) → (n.toInt ≤ m.toInt) → (ff_menBelow_go fu53 S n m = ff_menBelow S) → (cp_go fu53 S0 n m = cp_s S) → mm_W G o S0 E H → va_S (mm_F o) sQ.heap H locs → ∀ ls : Array Slot, lv_has ls 6 [(3, .int m), (2, .int n), (0, .ref o), (1, .int s)] → W pQ lQ eQ (wm_rm 4) sQ mQ (Value.ref o :: [.int s]).toArray belowQ methQ cQ H locs 0 0 (MQ belowQ (wm_Q (fun vQ HQ => vQ = some (.int (ff_capsule S s).1) ∧ mm_W G o (ff_capsule S s).2 E HQ) (mm_F o)) (Value.ref o :: [.int s]).toArray sQ 0 0 (mm_F o)) (F0 mQ 53 ls []) := by
            intro fu53
            induction fu53 with
            | zero =>
              intro n m S0 H locs hm53 i053 i153 iF53 i253 i353 i453 hgo53 hW hS ls hl
              exact absurd hm53 (by omega)
            | succ fu53 ih53 =>
              intro n m S0 H locs hm53 i053 i153 iF53 i253 i353 i453 hgo53 hW hS ls hl
              have e4 : (fd_ S0 4).toInt = (fd_ S 4).toInt := by rw [fd_of (iF53 4 (by decide))]
              have x20 : rd_ S0 20 m = rd_ S 20 m := rd_of (iF53 20 (by decide)) _
              rw [ff_menBelow_go, ← fd_of (iF53 4 (by decide)), ← x20] at i453
              refine lv_iload_n hx hb dX5_capsule_53 rfl (lv_at hl 0 rfl) ?_
              refine lv_aload_n hx hb dX5_capsule_54 rfl (lv_at hl 2 rfl) ?_
              refine mm_geti hx hb hts hown hK hW 4 rfl (by decide) q1689 dX5_capsule_55 ?_
              refine lv_icmp_ge (tgt := 168) hx hb dX5_capsule_58 (by decide) (fun c58 => ?_) (fun c58 => ?_)
              · have t58 : ((fd_ S0 4)).toInt ≤ (m).toInt := ww_le c58
                rw [if_pos c58] at i453
                have n1 : 1 ≤ n.toInt := by
                  have q : n.toInt ≠ (0 : Int32).toInt := ww_ne (by rw [i453]; exact mb)
                  rw [ww_z0] at q
                  omega
                have g0 : (n, S0) = cp_s S := by simp only [cp_go, if_pos c58] at hgo53; exact hgo53
                have g01 : n = (cp_s S).1 := congrArg (fun zQ => zQ.1) g0
                have g02 : S0 = (cp_s S).2 := congrArg (fun zQ => zQ.2) g0
                clear g0 hgo53
                refine lv_iconst (v := 0) hx hb dX5_capsule_168 (by decide) ?_
                refine lv_istore_n (lv' := [(3, .int 0), (2, .int n), (0, .ref o), (1, .int s)]) hx hb dX5_capsule_169 rfl hl (by decide) rfl (fun ls hl => ?_)
                have L170 : ∀ (fu170 : Nat) (i : Int32) (S2 : mm_S) (H : Heap) (locs : List Loc), (n.toInt - i.toInt < fu170) → (0 ≤ i.toInt) → (i.toInt ≤ n.toInt) → (ch_go fu170 S2 s n i = ch_s S0 s n) → mm_W G o S2 E H → va_S (mm_F o) sQ.heap H locs → ∀ ls : Array Slot, lv_has ls 6 [(3, .int i), (2, .int n), (0, .ref o), (1, .int s)] → W pQ lQ eQ (wm_rm 4) sQ mQ (Value.ref o :: [.int s]).toArray belowQ methQ cQ H locs 0 0 (MQ belowQ (wm_Q (fun vQ HQ => vQ = some (.int (ff_capsule S s).1) ∧ mm_W G o (ff_capsule S s).2 E HQ) (mm_F o)) (Value.ref o :: [.int s]).toArray sQ 0 0 (mm_F o)) (F0 mQ 170 ls []) := by
                  intro fu170
                  induction fu170 with
                  | zero =>
                    intro i S2 H locs hm170 i0170 i1170 hgo170 hW hS ls hl
                    exact absurd hm170 (by omega)
                  | succ fu170 ih170 =>
                    intro i S2 H locs hm170 i0170 i1170 hgo170 hW hS ls hl
                    refine lv_iload_n hx hb dX5_capsule_170 rfl (lv_at hl 0 rfl) ?_
                    refine lv_iload_n hx hb dX5_capsule_171 rfl (lv_at hl 1 rfl) ?_
                    refine lv_icmp_ge (tgt := 207) hx hb dX5_capsule_172 (by decide) (fun c172 => ?_) (fun c172 => ?_)
                    · have t172 : (n).toInt ≤ (i).toInt := ww_le c172
                      have hs2 : S2 = ch_s S0 s n := by rw [ch_go, if_pos c172] at hgo170; exact hgo170
                      clear hgo170
                      refine lv_aload_n hx hb dX5_capsule_207 rfl (lv_at hl 2 rfl) ?_
                      refine lv_iload_n hx hb dX5_capsule_208 rfl (lv_at hl 1 rfl) ?_
                      refine mm_puti hx hb hts hown hK hW hS 82 rfl (by decide) rfl rfl rfl q1767 dX5_capsule_209 (fun S209 H locs f209 hW hS => ?_)
                      refine lv_aload_n hx hb dX5_capsule_212 rfl (lv_at hl 2 rfl) ?_
                      refine lv_aload_n hx hb dX5_capsule_213 rfl (lv_at hl 2 rfl) ?_
                      refine mm_geti hx hb hts hown hK hW 1 rfl (by decide) q1686 dX5_capsule_214 ?_
                      refine mm_puti hx hb hts hown hK hW hS 83 rfl (by decide) rfl rfl rfl q1768 dX5_capsule_217 (fun S217 H locs f217 hW hS => ?_)
                      have n217 : S217 = cf_S S2 n := by rw [f217, f209]; rfl
                      refine lv_aload_n hx hb dX5_capsule_220 rfl (lv_at hl 2 rfl) ?_
                      refine mm_geta hx hb hts hown hK hW 86 rfl q1771 dX5_capsule_221 ?_
                      refine lv_iload_n hx hb dX5_capsule_224 rfl (lv_at hl 1 rfl) ?_
                      refine lv_iconst (v := 1) hx hb dX5_capsule_225 (by decide) ?_
                      refine nv_isub hx hb dX5_capsule_226 (fun v226 e226 => ?_)
                      refine mm_iald hx hb hK hW 86 rfl (by rw [e226]; exact ww_in (by rw [ww_sub1 (by omega)]; omega) (by rw [ww_sub1 (by omega)]; omega)) dX5_capsule_227 ?_
                      refine mm_iret hx hb hr hlocks hW hS ?_ dX5_capsule_228
                      have hres : ff_capsule S s = (rd_ S217 86 v226, S217) := by
                        rw [n217, hs2, e226, g01, g02]; simp only [ff_capsule, cc_fin, if_neg (show ¬ ff_isBody S s = 0 from by rw [← e2]; exact c5), if_neg c36, if_neg mb]; first | (rw [if_pos c15]; rfl) | (rw [if_neg c15, if_pos c25]; rfl)
                      exact ⟨by rw [hres], by rw [hres], rfl⟩
                    · have t172 : (i).toInt < (n).toInt := ww_nle c172
                      refine lv_aload_n hx hb dX5_capsule_175 rfl (lv_at hl 2 rfl) ?_
                      refine mm_geta hx hb hts hown hK hW 86 rfl q1771 dX5_capsule_176 ?_
                      refine lv_iload_n hx hb dX5_capsule_179 rfl (lv_at hl 0 rfl) ?_
                      refine lv_aload_n hx hb dX5_capsule_180 rfl (lv_at hl 2 rfl) ?_
                      refine mm_geti hx hb hts hown hK hW 1 rfl (by decide) q1686 dX5_capsule_181 ?_
                      refine lv_iload_n hx hb dX5_capsule_184 rfl (lv_at hl 0 rfl) ?_
                      refine lv_iconst (v := 1) hx hb dX5_capsule_185 (by decide) ?_
                      refine nv_iadd hx hb dX5_capsule_186 (fun v186 e186 => ?_)
                      refine lv_iconst (v := 1) hx hb dX5_capsule_187 (by decide) ?_
                      refine lv_aload_n hx hb dX5_capsule_188 rfl (lv_at hl 2 rfl) ?_
                      refine mm_geta hx hb hts hown hK hW 10 rfl q1695 dX5_capsule_189 ?_
                      refine lv_iload_n hx hb dX5_capsule_192 rfl (lv_at hl 3 rfl) ?_
                      refine mm_iald hx hb hK hW 10 rfl (ww_in (by omega) (by omega)) dX5_capsule_193 ?_
                      refine lv_bipush (v := 20) hx hb dX5_capsule_194 (by decide) ?_
                      refine nv_idiv hx hb dX5_capsule_196 (by decide) (fun v196 e196 => ?_)
                      refine nv_iadd hx hb dX5_capsule_197 (fun v197 e197 => ?_)
                      refine nv_imul hx hb dX5_capsule_198 (fun v198 e198 => ?_)
                      refine nv_iadd hx hb dX5_capsule_199 (fun v199 e199 => ?_)
                      refine mm_iast hx hb hK hW hS 86 rfl (ww_in (by omega) (by omega)) dX5_capsule_200 (fun S200 H locs f200 hW hS => ?_)
                      obtain ⟨v201, e201⟩ : ∃ yQ : Int32, yQ = i + 1 := ⟨_, rfl⟩
                      refine lv_iinc (v := v201) (lv' := [(3, .int v201), (2, .int n), (0, .ref o), (1, .int s)]) hx hb dX5_capsule_201 hl (k := 0) rfl (by rw [e201]; rfl) (by decide) rfl (fun ls hl => ?_)
                      refine lv_goto (tgt := 170) hx hb dX5_capsule_204 (by decide) ?_
                      have tb : v201.toInt = i.toInt + 1 := by rw [e201]; exact ww_inc t172
                      exact ih170 v201 S200 H locs (by omega) (by omega) (by omega) (by subst e186 e196 e197 e198 e199 f200 e201; simp only [ch_go, if_neg c172] at hgo170; exact hgo170) hW hS ls (lv_sub hl [0, 1, 2, 3] rfl)
                exact L170 121 0 S0 H locs (by show _ - 0 < _; omega) (by decide) (by show 0 ≤ _; omega) (rfl) hW hS ls (lv_sub hl [0, 1, 2, 3] rfl)
              · have t58 : (m).toInt < ((fd_ S0 4)).toInt := ww_nle c58
                refine lv_aload_n hx hb dX5_capsule_61 rfl (lv_at hl 2 rfl) ?_
                refine mm_geta hx hb hts hown hK hW 20 rfl q1705 dX5_capsule_62 ?_
                refine lv_iload_n hx hb dX5_capsule_65 rfl (lv_at hl 0 rfl) ?_
                refine mm_zald hx hb hK hW 20 rfl (ww_in (by omega) (by omega)) dX5_capsule_66 ?_
                refine lv_if_ne (tgt := 73) hx hb dX5_capsule_67 (by decide) (fun c67 => ?_) (fun c67 => ?_)
                · skip
                  refine lv_aload_n hx hb dX5_capsule_73 rfl (lv_at hl 2 rfl) ?_
                  refine lv_iconst (v := 1) hx hb dX5_capsule_74 (by decide) ?_
                  refine lv_iload_n hx hb dX5_capsule_75 rfl (lv_at hl 0 rfl) ?_
                  refine lv_iconst (v := 0) hx hb dX5_capsule_76 (by decide) ?_
                  refine mm_calli (As := [.int 1, .int m, .int 0]) (rest := []) (n := 3) ⟨hx, hb, hml, hown, hts⟩ hK (mc_saysNow lQ G o S0 E 1 m 0 (iv_B_of (iF53 4 (by decide)) hB) (iv_X_fr iF53 (by decide) hX) (by omega)) (lw_V q2201 q2203 qs60 q92 q2204) (by decide +kernel) rfl ⟨Nat.le_of_ble_eq_true rfl, Nat.le_of_ble_eq_true rfl⟩ hW hS hl.1 rfl (Nat.le_of_ble_eq_true rfl) dX5_capsule_77 ⟨Nat.le_of_ble_eq_true rfl, Nat.le_of_ble_eq_true rfl⟩ (fun v77 S77 H locs e77 f77 hW hS => ?_)
                  refine lv_istore (lv' := [(4, .int v77), (3, .int m), (2, .int n), (0, .ref o), (1, .int s)]) hx hb dX5_capsule_80 hl (by decide) rfl (fun ls hl => ?_)
                  refine lv_iload_n hx hb dX5_capsule_82 rfl (lv_at hl 2 rfl) ?_
                  refine lv_istore (lv' := [(5, .int n), (4, .int v77), (3, .int m), (2, .int n), (0, .ref o), (1, .int s)]) hx hb dX5_capsule_83 hl (by decide) rfl (fun ls hl => ?_)
                  have L85 : ∀ (fu85 : Nat) (u : Int32) (S1 : mm_S) (H : Heap) (locs : List Loc), (u.toInt < fu85) → (0 ≤ u.toInt) → (u.toInt ≤ n.toInt) → (fr_ [84, 85] S77 S1) → (ci_go fu85 S1 v77 u = ci_s S77 v77 n) → mm_W G o S1 E H → va_S (mm_F o) sQ.heap H locs → ∀ ls : Array Slot, lv_has ls 6 [(5, .int u), (4, .int v77), (3, .int m), (2, .int n), (0, .ref o), (1, .int s)] → W pQ lQ eQ (wm_rm 4) sQ mQ (Value.ref o :: [.int s]).toArray belowQ methQ cQ H locs 0 0 (MQ belowQ (wm_Q (fun vQ HQ => vQ = some (.int (ff_capsule S s).1) ∧ mm_W G o (ff_capsule S s).2 E HQ) (mm_F o)) (Value.ref o :: [.int s]).toArray sQ 0 0 (mm_F o)) (F0 mQ 85 ls []) := by
                    intro fu85
                    induction fu85 with
                    | zero =>
                      intro u S1 H locs hm85 u085 u185 iF85 hgo85 hW hS ls hl
                      exact absurd hm85 (by omega)
                    | succ fu85 ih85 =>
                      intro u S1 H locs hm85 u085 u185 iF85 hgo85 hW hS ls hl
                      refine lv_iload hx hb dX5_capsule_85 (lv_at hl 0 rfl) ?_
                      refine lv_if_le (tgt := 142) hx hb dX5_capsule_87 (by decide) (fun c87 => ?_) (fun c87 => ?_)
                      · have t87 : (u).toInt ≤ 0 := ww_le c87
                        have g : (u, S1) = ci_s S77 v77 n := by simp only [ci_go, if_pos c87] at hgo85; exact hgo85
                        have g1 : u = (ci_s S77 v77 n).1 := congrArg (fun zQ => zQ.1) g
                        have g2 : S1 = (ci_s S77 v77 n).2 := congrArg (fun zQ => zQ.2) g
                        clear g hgo85
                        have cin := cig_t 122 S77 v77 n (by omega) (by omega)
                        have cu : 0 ≤ u.toInt ∧ u.toInt ≤ n.toInt := by rw [g1]; exact cin
                        refine lv_aload_n hx hb dX5_capsule_142 rfl (lv_at hl 4 rfl) ?_
                        refine mm_geta hx hb hts hown hK hW 84 rfl q1769 dX5_capsule_143 ?_
                        refine lv_iload hx hb dX5_capsule_146 (lv_at hl 0 rfl) ?_
                        refine lv_iload_n hx hb dX5_capsule_148 rfl (lv_at hl 2 rfl) ?_
                        refine mm_iast hx hb hK hW hS 84 rfl (ww_in (by omega) (by omega)) dX5_capsule_149 (fun S149 H locs f149 hW hS => ?_)
                        refine lv_aload_n hx hb dX5_capsule_150 rfl (lv_at hl 4 rfl) ?_
                        refine mm_geta hx hb hts hown hK hW 85 rfl q1770 dX5_capsule_151 ?_
                        refine lv_iload hx hb dX5_capsule_154 (lv_at hl 0 rfl) ?_
                        refine lv_iload hx hb dX5_capsule_156 (lv_at hl 1 rfl) ?_
                        refine mm_iast hx hb hK hW hS 85 rfl (ww_in (by omega) (by omega)) dX5_capsule_158 (fun S158 H locs f158 hW hS => ?_)
                        obtain ⟨v159, e159⟩ : ∃ yQ : Int32, yQ = n + 1 := ⟨_, rfl⟩
                        refine lv_iinc (v := v159) (lv' := [(2, .int v159), (5, .int u), (4, .int v77), (3, .int m), (0, .ref o), (1, .int s)]) hx hb dX5_capsule_159 hl (k := 3) rfl (by rw [e159]; rfl) (by decide) rfl (fun ls hl => ?_)
                        skip
                        first | (have hs : S158 = cp_S S0 n m := by rw [f158, f149, g1, g2, f77, e77]; rfl) | skip
                        obtain ⟨v162, e162⟩ : ∃ yQ : Int32, yQ = m + 1 := ⟨_, rfl⟩
                        refine lv_iinc (v := v162) (lv' := [(3, .int v162), (2, .int v159), (5, .int u), (4, .int v77), (0, .ref o), (1, .int s)]) hx hb dX5_capsule_162 hl (k := 3) rfl (by rw [e162]; rfl) (by decide) rfl (fun ls hl => ?_)
                        refine lv_goto (tgt := 53) hx hb dX5_capsule_165 (by decide) ?_
                        have tb : v162.toInt = m.toInt + 1 := by rw [e162]; exact ww_inc' (by omega)
                        have tn : (n + 1).toInt = n.toInt + 1 := ww_inc' (by omega)
                        exact ih53 v159 v162 S158 H locs (by omega) (by omega) (by omega) (by first | exact iF53 | (rw [hs]; exact iF53.tr (cpS_fr _ _ _))) (by first | omega | (rw [e159]; omega)) (by first | omega | (rw [e159]; omega)) (by rw [e162]; first | (rw [e159]; simp only [if_neg c58, if_neg c67, if_pos c87] at i453; exact i453) | (simp only [if_neg c58, if_neg c67, if_pos c87] at i453; have z : n + 0 = n := (ww_eq (by rw [ww_add] <;> rw [ww_z0] <;> omega)); first | exact i453 | (rw [z] at i453; exact i453))) (by first | (rw [hs, e162, e159]; rw [cp_go, if_neg c58, if_neg c67] at hgo53; exact hgo53) | (rw [e162]; rw [cp_go, if_neg c58, if_pos c67] at hgo53; exact hgo53)) hW hS ls (lv_sub hl [0, 1, 4, 5] rfl)
                      · have t87 : 0 < (u).toInt := ww_nle c87
                        refine lv_aload_n hx hb dX5_capsule_90 rfl (lv_at hl 4 rfl) ?_
                        refine mm_geta hx hb hts hown hK hW 85 rfl q1770 dX5_capsule_91 ?_
                        refine lv_iload hx hb dX5_capsule_94 (lv_at hl 0 rfl) ?_
                        refine lv_iconst (v := 1) hx hb dX5_capsule_96 (by decide) ?_
                        refine nv_isub hx hb dX5_capsule_97 (fun v97 e97 => ?_)
                        refine mm_iald hx hb hK hW 85 rfl (by rw [e97]; exact ww_in (by rw [ww_sub1 (by omega)]; omega) (by rw [ww_sub1 (by omega)]; omega)) dX5_capsule_98 ?_
                        refine lv_iload hx hb dX5_capsule_99 (lv_at hl 1 rfl) ?_
                        refine lv_icmp_ge (tgt := 142) hx hb dX5_capsule_101 (by decide) (fun c101 => ?_) (fun c101 => ?_)
                        · have t101 : (v77).toInt ≤ ((rd_ S1 85 v97)).toInt := ww_le c101
                          have nle : v77 ≤ rd_ S1 85 (u - 1) := by rw [← e97]; exact c101
                          have g : (u, S1) = ci_s S77 v77 n := by rw [ci_go, if_neg c87, if_pos nle] at hgo85; exact hgo85
                          have g1 : u = (ci_s S77 v77 n).1 := congrArg (fun zQ => zQ.1) g
                          have g2 : S1 = (ci_s S77 v77 n).2 := congrArg (fun zQ => zQ.2) g
                          clear g hgo85
                          have cin := cig_t 122 S77 v77 n (by omega) (by omega)
                          have cu : 0 ≤ u.toInt ∧ u.toInt ≤ n.toInt := by rw [g1]; exact cin
                          refine lv_aload_n hx hb dX5_capsule_142 rfl (lv_at hl 4 rfl) ?_
                          refine mm_geta hx hb hts hown hK hW 84 rfl q1769 dX5_capsule_143 ?_
                          refine lv_iload hx hb dX5_capsule_146 (lv_at hl 0 rfl) ?_
                          refine lv_iload_n hx hb dX5_capsule_148 rfl (lv_at hl 2 rfl) ?_
                          refine mm_iast hx hb hK hW hS 84 rfl (ww_in (by omega) (by omega)) dX5_capsule_149 (fun S149 H locs f149 hW hS => ?_)
                          refine lv_aload_n hx hb dX5_capsule_150 rfl (lv_at hl 4 rfl) ?_
                          refine mm_geta hx hb hts hown hK hW 85 rfl q1770 dX5_capsule_151 ?_
                          refine lv_iload hx hb dX5_capsule_154 (lv_at hl 0 rfl) ?_
                          refine lv_iload hx hb dX5_capsule_156 (lv_at hl 1 rfl) ?_
                          refine mm_iast hx hb hK hW hS 85 rfl (ww_in (by omega) (by omega)) dX5_capsule_158 (fun S158 H locs f158 hW hS => ?_)
                          obtain ⟨v159, e159⟩ : ∃ yQ : Int32, yQ = n + 1 := ⟨_, rfl⟩
                          refine lv_iinc (v := v159) (lv' := [(2, .int v159), (5, .int u), (4, .int v77), (3, .int m), (0, .ref o), (1, .int s)]) hx hb dX5_capsule_159 hl (k := 3) rfl (by rw [e159]; rfl) (by decide) rfl (fun ls hl => ?_)
                          skip
                          first | (have hs : S158 = cp_S S0 n m := by rw [f158, f149, g1, g2, f77, e77]; rfl) | skip
                          obtain ⟨v162, e162⟩ : ∃ yQ : Int32, yQ = m + 1 := ⟨_, rfl⟩
                          refine lv_iinc (v := v162) (lv' := [(3, .int v162), (2, .int v159), (5, .int u), (4, .int v77), (0, .ref o), (1, .int s)]) hx hb dX5_capsule_162 hl (k := 3) rfl (by rw [e162]; rfl) (by decide) rfl (fun ls hl => ?_)
                          refine lv_goto (tgt := 53) hx hb dX5_capsule_165 (by decide) ?_
                          have tb : v162.toInt = m.toInt + 1 := by rw [e162]; exact ww_inc' (by omega)
                          have tn : (n + 1).toInt = n.toInt + 1 := ww_inc' (by omega)
                          exact ih53 v159 v162 S158 H locs (by omega) (by omega) (by omega) (by first | exact iF53 | (rw [hs]; exact iF53.tr (cpS_fr _ _ _))) (by first | omega | (rw [e159]; omega)) (by first | omega | (rw [e159]; omega)) (by rw [e162]; first | (rw [e159]; simp only [if_neg c58, if_neg c67, if_neg c87, if_pos c101] at i453; exact i453) | (simp only [if_neg c58, if_neg c67, if_neg c87, if_pos c101] at i453; have z : n + 0 = n := (ww_eq (by rw [ww_add] <;> rw [ww_z0] <;> omega)); first | exact i453 | (rw [z] at i453; exact i453))) (by first | (rw [hs, e162, e159]; rw [cp_go, if_neg c58, if_neg c67] at hgo53; exact hgo53) | (rw [e162]; rw [cp_go, if_neg c58, if_pos c67] at hgo53; exact hgo53)) hW hS ls (lv_sub hl [0, 1, 4, 5] rfl)
                        · have t101 : ((rd_ S1 85 v97)).toInt < (v77).toInt := ww_nle c101
                          have nle : ¬ v77 ≤ rd_ S1 85 (u - 1) := by rw [← e97]; exact c101
                          refine lv_aload_n hx hb dX5_capsule_104 rfl (lv_at hl 4 rfl) ?_
                          refine mm_geta hx hb hts hown hK hW 84 rfl q1769 dX5_capsule_105 ?_
                          refine lv_iload hx hb dX5_capsule_108 (lv_at hl 0 rfl) ?_
                          refine lv_aload_n hx hb dX5_capsule_110 rfl (lv_at hl 4 rfl) ?_
                          refine mm_geta hx hb hts hown hK hW 84 rfl q1769 dX5_capsule_111 ?_
                          refine lv_iload hx hb dX5_capsule_114 (lv_at hl 0 rfl) ?_
                          refine lv_iconst (v := 1) hx hb dX5_capsule_116 (by decide) ?_
                          refine nv_isub hx hb dX5_capsule_117 (fun v117 e117 => ?_)
                          refine mm_iald hx hb hK hW 84 rfl (by rw [e117]; exact ww_in (by rw [ww_sub1 (by omega)]; omega) (by rw [ww_sub1 (by omega)]; omega)) dX5_capsule_118 ?_
                          refine mm_iast hx hb hK hW hS 84 rfl (ww_in (by omega) (by omega)) dX5_capsule_119 (fun S119 H locs f119 hW hS => ?_)
                          refine lv_aload_n hx hb dX5_capsule_120 rfl (lv_at hl 4 rfl) ?_
                          refine mm_geta hx hb hts hown hK hW 85 rfl q1770 dX5_capsule_121 ?_
                          refine lv_iload hx hb dX5_capsule_124 (lv_at hl 0 rfl) ?_
                          refine lv_aload_n hx hb dX5_capsule_126 rfl (lv_at hl 4 rfl) ?_
                          refine mm_geta hx hb hts hown hK hW 85 rfl q1770 dX5_capsule_127 ?_
                          refine lv_iload hx hb dX5_capsule_130 (lv_at hl 0 rfl) ?_
                          refine lv_iconst (v := 1) hx hb dX5_capsule_132 (by decide) ?_
                          refine nv_isub hx hb dX5_capsule_133 (fun v133 e133 => ?_)
                          refine mm_iald hx hb hK hW 85 rfl (by rw [e133]; exact ww_in (by rw [ww_sub1 (by omega)]; omega) (by rw [ww_sub1 (by omega)]; omega)) dX5_capsule_134 ?_
                          refine mm_iast hx hb hK hW hS 85 rfl (ww_in (by omega) (by omega)) dX5_capsule_135 (fun S135 H locs f135 hW hS => ?_)
                          obtain ⟨v136, e136⟩ : ∃ yQ : Int32, yQ = u + (-1) := ⟨_, rfl⟩
                          refine lv_iinc (v := v136) (lv' := [(5, .int v136), (4, .int v77), (3, .int m), (2, .int n), (0, .ref o), (1, .int s)]) hx hb dX5_capsule_136 hl (k := 0) rfl (by rw [e136]; rfl) (by decide) rfl (fun ls hl => ?_)
                          refine lv_goto (tgt := 85) hx hb dX5_capsule_139 (by decide) ?_
                          have tb : v136.toInt = u.toInt - 1 := by rw [e136]; exact ww_dec (by omega)
                          exact ih85 v136 S135 H locs (by omega) (by omega) (by omega) (by rw [f135, f119]; exact (iF85.wr (by decide)).wr (by decide)) (by rw [e136]; have z : S135 = ci_S S1 u := (by rw [f135, f119, e117, e133]; rfl); rw [z]; rw [ci_go, if_neg c87, if_neg nle] at hgo85; exact hgo85) hW hS ls (lv_sub hl [0, 1, 2, 3, 4, 5] rfl)
                  exact L85 122 n S77 H locs (by show n.toInt < (122 : Int); omega) (by omega) (by omega) (fr_.rf S77) (rfl) hW hS ls (lv_sub hl [0, 1, 2, 3, 4, 5] rfl)
                · skip
                  refine lv_goto (tgt := 162) hx hb dX5_capsule_70 (by decide) ?_
                  skip
                  first | (have hs : S158 = cp_S S0 n m := by rw [f158, f149, g1, g2, f77, e77]; rfl) | skip
                  obtain ⟨v162, e162⟩ : ∃ yQ : Int32, yQ = m + 1 := ⟨_, rfl⟩
                  refine lv_iinc (v := v162) (lv' := [(3, .int v162), (2, .int n), (0, .ref o), (1, .int s)]) hx hb dX5_capsule_162 hl (k := 0) rfl (by rw [e162]; rfl) (by decide) rfl (fun ls hl => ?_)
                  refine lv_goto (tgt := 53) hx hb dX5_capsule_165 (by decide) ?_
                  have tb : v162.toInt = m.toInt + 1 := by rw [e162]; exact ww_inc' (by omega)
                  have tn : (n + 1).toInt = n.toInt + 1 := ww_inc' (by omega)
                  exact ih53 n v162 S0 H locs (by omega) (by omega) (by omega) (by first | exact iF53 | (rw [hs]; exact iF53.tr (cpS_fr _ _ _))) (by first | omega | (rw [e159]; omega)) (by first | omega | (rw [e159]; omega)) (by rw [e162]; first | (rw [e159]; simp only [if_neg c58, if_pos c67] at i453; exact i453) | (simp only [if_neg c58, if_pos c67] at i453; have z : n + 0 = n := (ww_eq (by rw [ww_add] <;> rw [ww_z0] <;> omega)); first | exact i453 | (rw [z] at i453; exact i453))) (by first | (rw [hs, e162, e159]; rw [cp_go, if_neg c58, if_neg c67] at hgo53; exact hgo53) | (rw [e162]; rw [cp_go, if_neg c58, if_pos c67] at hgo53; exact hgo53)) hW hS ls (lv_sub hl [0, 1, 2, 3] rfl)
          exact L53 121 0 0 S H locs (by have := hB.2; show _ - 0 < _; omega) (by decide) hB.1 (fr_.rf S) (by decide) (by decide) rfl (rfl) hW hS ls (lv_sub hl [0, 1, 2, 3] rfl)
        · skip
          refine lv_bipush (v := (-2)) hx hb dX5_capsule_46 (by decide) ?_
          refine mm_iret hx hb hr hlocks hW hS ?_ dX5_capsule_48
          have hres : ff_capsule S s = (-2, S) := by subst e2 e40; simp only [ff_capsule, cc_fin, if_neg c5, if_pos c15, if_neg c36, if_pos c43]
          exact ⟨by rw [hres], by rw [hres], rfl⟩
    · skip
      refine lv_aload_n hx hb dX5_capsule_18 rfl (lv_at hl 0 rfl) ?_
      refine mm_geta hx hb hts hown hK hW 5 rfl q1690 dX5_capsule_19 ?_
      refine lv_iload_n hx hb dX5_capsule_22 rfl (lv_at hl 1 rfl) ?_
      refine mm_iald hx hb hK hW 5 rfl (ww_in (by omega) (by omega)) dX5_capsule_23 ?_
      refine lv_iconst (v := 5) hx hb dX5_capsule_24 (by decide) ?_
      refine lv_icmp_eq (tgt := 30) hx hb dX5_capsule_25 (by decide) (fun c25 => ?_) (fun c25 => ?_)
      · skip
        refine lv_aload_n hx hb dX5_capsule_30 rfl (lv_at hl 0 rfl) ?_
        refine mm_geta hx hb hts hown hK hW 12 rfl q1697 dX5_capsule_31 ?_
        refine lv_iload_n hx hb dX5_capsule_34 rfl (lv_at hl 1 rfl) ?_
        refine mm_iald hx hb hK hW 12 rfl (ww_in (by omega) (by omega)) dX5_capsule_35 ?_
        refine lv_if_eq (tgt := 46) hx hb dX5_capsule_36 (by decide) (fun c36 => ?_) (fun c36 => ?_)
        · skip
          refine lv_bipush (v := (-2)) hx hb dX5_capsule_46 (by decide) ?_
          refine mm_iret hx hb hr hlocks hW hS ?_ dX5_capsule_48
          have hres : ff_capsule S s = (-2, S) := by subst e2; simp only [ff_capsule, cc_fin, if_neg c5, if_neg c15, if_pos c25, if_pos c36]
          exact ⟨by rw [hres], by rw [hres], rfl⟩
        · skip
          refine lv_aload_n hx hb dX5_capsule_39 rfl (lv_at hl 0 rfl) ?_
          refine mm_callp (As := []) (rest := []) (n := 0) ⟨hx, hb, hml, hown, hts⟩ hK (mc_menBelow lQ G o S E hB) (lw_V q2205 q2207 qs61 q92 q2208) (by decide +kernel) rfl ⟨Nat.le_of_ble_eq_true rfl, Nat.le_of_ble_eq_true rfl⟩ hW hS hl.1 rfl (Nat.le_of_ble_eq_true rfl) dX5_capsule_40 ⟨Nat.le_of_ble_eq_true rfl, Nat.le_of_ble_eq_true rfl⟩ (fun v40 H locs e40 hW hS => ?_)
          refine lv_if_ne (tgt := 49) hx hb dX5_capsule_43 (by decide) (fun c43 => ?_) (fun c43 => ?_)
          · skip
            have mb : ¬ ff_menBelow S = 0 := by rw [← e40]; exact c43
            have hb120 := hB.2
            refine lv_iconst (v := 0) hx hb dX5_capsule_49 (by decide) ?_
            refine lv_istore_n (lv' := [(2, .int 0), (0, .ref o), (1, .int s)]) hx hb dX5_capsule_50 rfl hl (by decide) rfl (fun ls hl => ?_)
            refine lv_iconst (v := 0) hx hb dX5_capsule_51 (by decide) ?_
            refine lv_istore_n (lv' := [(3, .int 0), (2, .int 0), (0, .ref o), (1, .int s)]) hx hb dX5_capsule_52 rfl hl (by decide) rfl (fun ls hl => ?_)
            have L53 : ∀ (fu53 : Nat) (n : Int32) (m : Int32) (S0 : mm_S) (H : Heap) (locs : List Loc), ((fd_ S 4).toInt - m.toInt < fu53) → (0 ≤ m.toInt) → (m.toInt ≤ (fd_ S 4).toInt) → (fr_ [52, 53, 84, 85] S S0) → (0 ≤ n.toInt) → (n.toInt ≤ m.toInt) → (ff_menBelow_go fu53 S n m = ff_menBelow S) → (cp_go fu53 S0 n m = cp_s S) → mm_W G o S0 E H → va_S (mm_F o) sQ.heap H locs → ∀ ls : Array Slot, lv_has ls 6 [(3, .int m), (2, .int n), (0, .ref o), (1, .int s)] → W pQ lQ eQ (wm_rm 4) sQ mQ (Value.ref o :: [.int s]).toArray belowQ methQ cQ H locs 0 0 (MQ belowQ (wm_Q (fun vQ HQ => vQ = some (.int (ff_capsule S s).1) ∧ mm_W G o (ff_capsule S s).2 E HQ) (mm_F o)) (Value.ref o :: [.int s]).toArray sQ 0 0 (mm_F o)) (F0 mQ 53 ls []) := by
              intro fu53
              induction fu53 with
              | zero =>
                intro n m S0 H locs hm53 i053 i153 iF53 i253 i353 i453 hgo53 hW hS ls hl
                exact absurd hm53 (by omega)
              | succ fu53 ih53 =>
                intro n m S0 H locs hm53 i053 i153 iF53 i253 i353 i453 hgo53 hW hS ls hl
                have e4 : (fd_ S0 4).toInt = (fd_ S 4).toInt := by rw [fd_of (iF53 4 (by decide))]
                have x20 : rd_ S0 20 m = rd_ S 20 m := rd_of (iF53 20 (by decide)) _
                rw [ff_menBelow_go, ← fd_of (iF53 4 (by decide)), ← x20] at i453
                refine lv_iload_n hx hb dX5_capsule_53 rfl (lv_at hl 0 rfl) ?_
                refine lv_aload_n hx hb dX5_capsule_54 rfl (lv_at hl 2 rfl) ?_
                refine mm_geti hx hb hts hown hK hW 4 rfl (by decide) q1689 dX5_capsule_55 ?_
                refine lv_icmp_ge (tgt := 168) hx hb dX5_capsule_58 (by decide) (fun c58 => ?_) (fun c58 => ?_)
                · have t58 : ((fd_ S0 4)).toInt ≤ (m).toInt := ww_le c58
                  rw [if_pos c58] at i453
                  have n1 : 1 ≤ n.toInt := by
                    have q : n.toInt ≠ (0 : Int32).toInt := ww_ne (by rw [i453]; exact mb)
                    rw [ww_z0] at q
                    omega
                  have g0 : (n, S0) = cp_s S := by simp only [cp_go, if_pos c58] at hgo53; exact hgo53
                  have g01 : n = (cp_s S).1 := congrArg (fun zQ => zQ.1) g0
                  have g02 : S0 = (cp_s S).2 := congrArg (fun zQ => zQ.2) g0
                  clear g0 hgo53
                  refine lv_iconst (v := 0) hx hb dX5_capsule_168 (by decide) ?_
                  refine lv_istore_n (lv' := [(3, .int 0), (2, .int n), (0, .ref o), (1, .int s)]) hx hb dX5_capsule_169 rfl hl (by decide) rfl (fun ls hl => ?_)
                  have L170 : ∀ (fu170 : Nat) (i : Int32) (S2 : mm_S) (H : Heap) (locs : List Loc), (n.toInt - i.toInt < fu170) → (0 ≤ i.toInt) → (i.toInt ≤ n.toInt) → (ch_go fu170 S2 s n i = ch_s S0 s n) → mm_W G o S2 E H → va_S (mm_F o) sQ.heap H locs → ∀ ls : Array Slot, lv_has ls 6 [(3, .int i), (2, .int n), (0, .ref o), (1, .int s)] → W pQ lQ eQ (wm_rm 4) sQ mQ (Value.ref o :: [.int s]).toArray belowQ methQ cQ H locs 0 0 (MQ belowQ (wm_Q (fun vQ HQ => vQ = some (.int (ff_capsule S s).1) ∧ mm_W G o (ff_capsule S s).2 E HQ) (mm_F o)) (Value.ref o :: [.int s]).toArray sQ 0 0 (mm_F o)) (F0 mQ 170 ls []) := by
                    intro fu170
                    induction fu170 with
                    | zero =>
                      intro i S2 H locs hm170 i0170 i1170 hgo170 hW hS ls hl
                      exact absurd hm170 (by omega)
                    | succ fu170 ih170 =>
                      intro i S2 H locs hm170 i0170 i1170 hgo170 hW hS ls hl
                      refine lv_iload_n hx hb dX5_capsule_170 rfl (lv_at hl 0 rfl) ?_
                      refine lv_iload_n hx hb dX5_capsule_171 rfl (lv_at hl 1 rfl) ?_
                      refine lv_icmp_ge (tgt := 207) hx hb dX5_capsule_172 (by decide) (fun c172 => ?_) (fun c172 => ?_)
                      · have t172 : (n).toInt ≤ (i).toInt := ww_le c172
                        have hs2 : S2 = ch_s S0 s n := by rw [ch_go, if_pos c172] at hgo170; exact hgo170
                        clear hgo170
                        refine lv_aload_n hx hb dX5_capsule_207 rfl (lv_at hl 2 rfl) ?_
                        refine lv_iload_n hx hb dX5_capsule_208 rfl (lv_at hl 1 rfl) ?_
                        refine mm_puti hx hb hts hown hK hW hS 82 rfl (by decide) rfl rfl rfl q1767 dX5_capsule_209 (fun S209 H locs f209 hW hS => ?_)
                        refine lv_aload_n hx hb dX5_capsule_212 rfl (lv_at hl 2 rfl) ?_
                        refine lv_aload_n hx hb dX5_capsule_213 rfl (lv_at hl 2 rfl) ?_
                        refine mm_geti hx hb hts hown hK hW 1 rfl (by decide) q1686 dX5_capsule_214 ?_
                        refine mm_puti hx hb hts hown hK hW hS 83 rfl (by decide) rfl rfl rfl q1768 dX5_capsule_217 (fun S217 H locs f217 hW hS => ?_)
                        have n217 : S217 = cf_S S2 n := by rw [f217, f209]; rfl
                        refine lv_aload_n hx hb dX5_capsule_220 rfl (lv_at hl 2 rfl) ?_
                        refine mm_geta hx hb hts hown hK hW 86 rfl q1771 dX5_capsule_221 ?_
                        refine lv_iload_n hx hb dX5_capsule_224 rfl (lv_at hl 1 rfl) ?_
                        refine lv_iconst (v := 1) hx hb dX5_capsule_225 (by decide) ?_
                        refine nv_isub hx hb dX5_capsule_226 (fun v226 e226 => ?_)
                        refine mm_iald hx hb hK hW 86 rfl (by rw [e226]; exact ww_in (by rw [ww_sub1 (by omega)]; omega) (by rw [ww_sub1 (by omega)]; omega)) dX5_capsule_227 ?_
                        refine mm_iret hx hb hr hlocks hW hS ?_ dX5_capsule_228
                        have hres : ff_capsule S s = (rd_ S217 86 v226, S217) := by
                          rw [n217, hs2, e226, g01, g02]; simp only [ff_capsule, cc_fin, if_neg (show ¬ ff_isBody S s = 0 from by rw [← e2]; exact c5), if_neg c36, if_neg mb]; first | (rw [if_pos c15]; rfl) | (rw [if_neg c15, if_pos c25]; rfl)
                        exact ⟨by rw [hres], by rw [hres], rfl⟩
                      · have t172 : (i).toInt < (n).toInt := ww_nle c172
                        refine lv_aload_n hx hb dX5_capsule_175 rfl (lv_at hl 2 rfl) ?_
                        refine mm_geta hx hb hts hown hK hW 86 rfl q1771 dX5_capsule_176 ?_
                        refine lv_iload_n hx hb dX5_capsule_179 rfl (lv_at hl 0 rfl) ?_
                        refine lv_aload_n hx hb dX5_capsule_180 rfl (lv_at hl 2 rfl) ?_
                        refine mm_geti hx hb hts hown hK hW 1 rfl (by decide) q1686 dX5_capsule_181 ?_
                        refine lv_iload_n hx hb dX5_capsule_184 rfl (lv_at hl 0 rfl) ?_
                        refine lv_iconst (v := 1) hx hb dX5_capsule_185 (by decide) ?_
                        refine nv_iadd hx hb dX5_capsule_186 (fun v186 e186 => ?_)
                        refine lv_iconst (v := 1) hx hb dX5_capsule_187 (by decide) ?_
                        refine lv_aload_n hx hb dX5_capsule_188 rfl (lv_at hl 2 rfl) ?_
                        refine mm_geta hx hb hts hown hK hW 10 rfl q1695 dX5_capsule_189 ?_
                        refine lv_iload_n hx hb dX5_capsule_192 rfl (lv_at hl 3 rfl) ?_
                        refine mm_iald hx hb hK hW 10 rfl (ww_in (by omega) (by omega)) dX5_capsule_193 ?_
                        refine lv_bipush (v := 20) hx hb dX5_capsule_194 (by decide) ?_
                        refine nv_idiv hx hb dX5_capsule_196 (by decide) (fun v196 e196 => ?_)
                        refine nv_iadd hx hb dX5_capsule_197 (fun v197 e197 => ?_)
                        refine nv_imul hx hb dX5_capsule_198 (fun v198 e198 => ?_)
                        refine nv_iadd hx hb dX5_capsule_199 (fun v199 e199 => ?_)
                        refine mm_iast hx hb hK hW hS 86 rfl (ww_in (by omega) (by omega)) dX5_capsule_200 (fun S200 H locs f200 hW hS => ?_)
                        obtain ⟨v201, e201⟩ : ∃ yQ : Int32, yQ = i + 1 := ⟨_, rfl⟩
                        refine lv_iinc (v := v201) (lv' := [(3, .int v201), (2, .int n), (0, .ref o), (1, .int s)]) hx hb dX5_capsule_201 hl (k := 0) rfl (by rw [e201]; rfl) (by decide) rfl (fun ls hl => ?_)
                        refine lv_goto (tgt := 170) hx hb dX5_capsule_204 (by decide) ?_
                        have tb : v201.toInt = i.toInt + 1 := by rw [e201]; exact ww_inc t172
                        exact ih170 v201 S200 H locs (by omega) (by omega) (by omega) (by subst e186 e196 e197 e198 e199 f200 e201; simp only [ch_go, if_neg c172] at hgo170; exact hgo170) hW hS ls (lv_sub hl [0, 1, 2, 3] rfl)
                  exact L170 121 0 S0 H locs (by show _ - 0 < _; omega) (by decide) (by show 0 ≤ _; omega) (rfl) hW hS ls (lv_sub hl [0, 1, 2, 3] rfl)
                · have t58 : (m).toInt < ((fd_ S0 4)).toInt := ww_nle c58
                  refine lv_aload_n hx hb dX5_capsule_61 rfl (lv_at hl 2 rfl) ?_
                  refine mm_geta hx hb hts hown hK hW 20 rfl q1705 dX5_capsule_62 ?_
                  refine lv_iload_n hx hb dX5_capsule_65 rfl (lv_at hl 0 rfl) ?_
                  refine mm_zald hx hb hK hW 20 rfl (ww_in (by omega) (by omega)) dX5_capsule_66 ?_
                  refine lv_if_ne (tgt := 73) hx hb dX5_capsule_67 (by decide) (fun c67 => ?_) (fun c67 => ?_)
                  · skip
                    refine lv_aload_n hx hb dX5_capsule_73 rfl (lv_at hl 2 rfl) ?_
                    refine lv_iconst (v := 1) hx hb dX5_capsule_74 (by decide) ?_
                    refine lv_iload_n hx hb dX5_capsule_75 rfl (lv_at hl 0 rfl) ?_
                    refine lv_iconst (v := 0) hx hb dX5_capsule_76 (by decide) ?_
                    refine mm_calli (As := [.int 1, .int m, .int 0]) (rest := []) (n := 3) ⟨hx, hb, hml, hown, hts⟩ hK (mc_saysNow lQ G o S0 E 1 m 0 (iv_B_of (iF53 4 (by decide)) hB) (iv_X_fr iF53 (by decide) hX) (by omega)) (lw_V q2201 q2203 qs60 q92 q2204) (by decide +kernel) rfl ⟨Nat.le_of_ble_eq_true rfl, Nat.le_of_ble_eq_true rfl⟩ hW hS hl.1 rfl (Nat.le_of_ble_eq_true rfl) dX5_capsule_77 ⟨Nat.le_of_ble_eq_true rfl, Nat.le_of_ble_eq_true rfl⟩ (fun v77 S77 H locs e77 f77 hW hS => ?_)
                    refine lv_istore (lv' := [(4, .int v77), (3, .int m), (2, .int n), (0, .ref o), (1, .int s)]) hx hb dX5_capsule_80 hl (by decide) rfl (fun ls hl => ?_)
                    refine lv_iload_n hx hb dX5_capsule_82 rfl (lv_at hl 2 rfl) ?_
                    refine lv_istore (lv' := [(5, .int n), (4, .int v77), (3, .int m), (2, .int n), (0, .ref o), (1, .int s)]) hx hb dX5_capsule_83 hl (by decide) rfl (fun ls hl => ?_)
                    have L85 : ∀ (fu85 : Nat) (u : Int32) (S1 : mm_S) (H : Heap) (locs : List Loc), (u.toInt < fu85) → (0 ≤ u.toInt) → (u.toInt ≤ n.toInt) → (fr_ [84, 85] S77 S1) → (ci_go fu85 S1 v77 u = ci_s S77 v77 n) → mm_W G o S1 E H → va_S (mm_F o) sQ.heap H locs → ∀ ls : Array Slot, lv_has ls 6 [(5, .int u), (4, .int v77), (3, .int m), (2, .int n), (0, .ref o), (1, .int s)] → W pQ lQ eQ (wm_rm 4) sQ mQ (Value.ref o :: [.int s]).toArray belowQ methQ cQ H locs 0 0 (MQ belowQ (wm_Q (fun vQ HQ => vQ = some (.int (ff_capsule S s).1) ∧ mm_W G o (ff_capsule S s).2 E HQ) (mm_F o)) (Value.ref o :: [.int s]).toArray sQ 0 0 (mm_F o)) (F0 mQ 85 ls []) := by
                      intro fu85
                      induction fu85 with
                      | zero =>
                        intro u S1 H locs hm85 u085 u185 iF85 hgo85 hW hS ls hl
                        exact absurd hm85 (by omega)
                      | succ fu85 ih85 =>
                        intro u S1 H locs hm85 u085 u185 iF85 hgo85 hW hS ls hl
                        refine lv_iload hx hb dX5_capsule_85 (lv_at hl 0 rfl) ?_
                        refine lv_if_le (tgt := 142) hx hb dX5_capsule_87 (by decide) (fun c87 => ?_) (fun c87 => ?_)
                        · have t87 : (u).toInt ≤ 0 := ww_le c87
                          have g : (u, S1) = ci_s S77 v77 n := by simp only [ci_go, if_pos c87] at hgo85; exact hgo85
                          have g1 : u = (ci_s S77 v77 n).1 := congrArg (fun zQ => zQ.1) g
                          have g2 : S1 = (ci_s S77 v77 n).2 := congrArg (fun zQ => zQ.2) g
                          clear g hgo85
                          have cin := cig_t 122 S77 v77 n (by omega) (by omega)
                          have cu : 0 ≤ u.toInt ∧ u.toInt ≤ n.toInt := by rw [g1]; exact cin
                          refine lv_aload_n hx hb dX5_capsule_142 rfl (lv_at hl 4 rfl) ?_
                          refine mm_geta hx hb hts hown hK hW 84 rfl q1769 dX5_capsule_143 ?_
                          refine lv_iload hx hb dX5_capsule_146 (lv_at hl 0 rfl) ?_
                          refine lv_iload_n hx hb dX5_capsule_148 rfl (lv_at hl 2 rfl) ?_
                          refine mm_iast hx hb hK hW hS 84 rfl (ww_in (by omega) (by omega)) dX5_capsule_149 (fun S149 H locs f149 hW hS => ?_)
                          refine lv_aload_n hx hb dX5_capsule_150 rfl (lv_at hl 4 rfl) ?_
                          refine mm_geta hx hb hts hown hK hW 85 rfl q1770 dX5_capsule_151 ?_
                          refine lv_iload hx hb dX5_capsule_154 (lv_at hl 0 rfl) ?_
                          refine lv_iload hx hb dX5_capsule_156 (lv_at hl 1 rfl) ?_
                          refine mm_iast hx hb hK hW hS 85 rfl (ww_in (by omega) (by omega)) dX5_capsule_158 (fun S158 H locs f158 hW hS => ?_)
                          obtain ⟨v159, e159⟩ : ∃ yQ : Int32, yQ = n + 1 := ⟨_, rfl⟩
                          refine lv_iinc (v := v159) (lv' := [(2, .int v159), (5, .int u), (4, .int v77), (3, .int m), (0, .ref o), (1, .int s)]) hx hb dX5_capsule_159 hl (k := 3) rfl (by rw [e159]; rfl) (by decide) rfl (fun ls hl => ?_)
                          skip
                          first | (have hs : S158 = cp_S S0 n m := by rw [f158, f149, g1, g2, f77, e77]; rfl) | skip
                          obtain ⟨v162, e162⟩ : ∃ yQ : Int32, yQ = m + 1 := ⟨_, rfl⟩
                          refine lv_iinc (v := v162) (lv' := [(3, .int v162), (2, .int v159), (5, .int u), (4, .int v77), (0, .ref o), (1, .int s)]) hx hb dX5_capsule_162 hl (k := 3) rfl (by rw [e162]; rfl) (by decide) rfl (fun ls hl => ?_)
                          refine lv_goto (tgt := 53) hx hb dX5_capsule_165 (by decide) ?_
                          have tb : v162.toInt = m.toInt + 1 := by rw [e162]; exact ww_inc' (by omega)
                          have tn : (n + 1).toInt = n.toInt + 1 := ww_inc' (by omega)
                          exact ih53 v159 v162 S158 H locs (by omega) (by omega) (by omega) (by first | exact iF53 | (rw [hs]; exact iF53.tr (cpS_fr _ _ _))) (by first | omega | (rw [e159]; omega)) (by first | omega | (rw [e159]; omega)) (by rw [e162]; first | (rw [e159]; simp only [if_neg c58, if_neg c67, if_pos c87] at i453; exact i453) | (simp only [if_neg c58, if_neg c67, if_pos c87] at i453; have z : n + 0 = n := (ww_eq (by rw [ww_add] <;> rw [ww_z0] <;> omega)); first | exact i453 | (rw [z] at i453; exact i453))) (by first | (rw [hs, e162, e159]; rw [cp_go, if_neg c58, if_neg c67] at hgo53; exact hgo53) | (rw [e162]; rw [cp_go, if_neg c58, if_pos c67] at hgo53; exact hgo53)) hW hS ls (lv_sub hl [0, 1, 4, 5] rfl)
                        · have t87 : 0 < (u).toInt := ww_nle c87
                          refine lv_aload_n hx hb dX5_capsule_90 rfl (lv_at hl 4 rfl) ?_
                          refine mm_geta hx hb hts hown hK hW 85 rfl q1770 dX5_capsule_91 ?_
                          refine lv_iload hx hb dX5_capsule_94 (lv_at hl 0 rfl) ?_
                          refine lv_iconst (v := 1) hx hb dX5_capsule_96 (by decide) ?_
                          refine nv_isub hx hb dX5_capsule_97 (fun v97 e97 => ?_)
                          refine mm_iald hx hb hK hW 85 rfl (by rw [e97]; exact ww_in (by rw [ww_sub1 (by omega)]; omega) (by rw [ww_sub1 (by omega)]; omega)) dX5_capsule_98 ?_
                          refine lv_iload hx hb dX5_capsule_99 (lv_at hl 1 rfl) ?_
                          refine lv_icmp_ge (tgt := 142) hx hb dX5_capsule_101 (by decide) (fun c101 => ?_) (fun c101 => ?_)
                          · have t101 : (v77).toInt ≤ ((rd_ S1 85 v97)).toInt := ww_le c101
                            have nle : v77 ≤ rd_ S1 85 (u - 1) := by rw [← e97]; exact c101
                            have g : (u, S1) = ci_s S77 v77 n := by rw [ci_go, if_neg c87, if_pos nle] at hgo85; exact hgo85
                            have g1 : u = (ci_s S77 v77 n).1 := congrArg (fun zQ => zQ.1) g
                            have g2 : S1 = (ci_s S77 v77 n).2 := congrArg (fun zQ => zQ.2) g
                            clear g hgo85
                            have cin := cig_t 122 S77 v77 n (by omega) (by omega)
                            have cu : 0 ≤ u.toInt ∧ u.toInt ≤ n.toInt := by rw [g1]; exact cin
                            refine lv_aload_n hx hb dX5_capsule_142 rfl (lv_at hl 4 rfl) ?_
                            refine mm_geta hx hb hts hown hK hW 84 rfl q1769 dX5_capsule_143 ?_
                            refine lv_iload hx hb dX5_capsule_146 (lv_at hl 0 rfl) ?_
                            refine lv_iload_n hx hb dX5_capsule_148 rfl (lv_at hl 2 rfl) ?_
                            refine mm_iast hx hb hK hW hS 84 rfl (ww_in (by omega) (by omega)) dX5_capsule_149 (fun S149 H locs f149 hW hS => ?_)
                            refine lv_aload_n hx hb dX5_capsule_150 rfl (lv_at hl 4 rfl) ?_
                            refine mm_geta hx hb hts hown hK hW 85 rfl q1770 dX5_capsule_151 ?_
                            refine lv_iload hx hb dX5_capsule_154 (lv_at hl 0 rfl) ?_
                            refine lv_iload hx hb dX5_capsule_156 (lv_at hl 1 rfl) ?_
                            refine mm_iast hx hb hK hW hS 85 rfl (ww_in (by omega) (by omega)) dX5_capsule_158 (fun S158 H locs f158 hW hS => ?_)
                            obtain ⟨v159, e159⟩ : ∃ yQ : Int32, yQ = n + 1 := ⟨_, rfl⟩
                            refine lv_iinc (v := v159) (lv' := [(2, .int v159), (5, .int u), (4, .int v77), (3, .int m), (0, .ref o), (1, .int s)]) hx hb dX5_capsule_159 hl (k := 3) rfl (by rw [e159]; rfl) (by decide) rfl (fun ls hl => ?_)
                            skip
                            first | (have hs : S158 = cp_S S0 n m := by rw [f158, f149, g1, g2, f77, e77]; rfl) | skip
                            obtain ⟨v162, e162⟩ : ∃ yQ : Int32, yQ = m + 1 := ⟨_, rfl⟩
                            refine lv_iinc (v := v162) (lv' := [(3, .int v162), (2, .int v159), (5, .int u), (4, .int v77), (0, .ref o), (1, .int s)]) hx hb dX5_capsule_162 hl (k := 3) rfl (by rw [e162]; rfl) (by decide) rfl (fun ls hl => ?_)
                            refine lv_goto (tgt := 53) hx hb dX5_capsule_165 (by decide) ?_
                            have tb : v162.toInt = m.toInt + 1 := by rw [e162]; exact ww_inc' (by omega)
                            have tn : (n + 1).toInt = n.toInt + 1 := ww_inc' (by omega)
                            exact ih53 v159 v162 S158 H locs (by omega) (by omega) (by omega) (by first | exact iF53 | (rw [hs]; exact iF53.tr (cpS_fr _ _ _))) (by first | omega | (rw [e159]; omega)) (by first | omega | (rw [e159]; omega)) (by rw [e162]; first | (rw [e159]; simp only [if_neg c58, if_neg c67, if_neg c87, if_pos c101] at i453; exact i453) | (simp only [if_neg c58, if_neg c67, if_neg c87, if_pos c101] at i453; have z : n + 0 = n := (ww_eq (by rw [ww_add] <;> rw [ww_z0] <;> omega)); first | exact i453 | (rw [z] at i453; exact i453))) (by first | (rw [hs, e162, e159]; rw [cp_go, if_neg c58, if_neg c67] at hgo53; exact hgo53) | (rw [e162]; rw [cp_go, if_neg c58, if_pos c67] at hgo53; exact hgo53)) hW hS ls (lv_sub hl [0, 1, 4, 5] rfl)
                          · have t101 : ((rd_ S1 85 v97)).toInt < (v77).toInt := ww_nle c101
                            have nle : ¬ v77 ≤ rd_ S1 85 (u - 1) := by rw [← e97]; exact c101
                            refine lv_aload_n hx hb dX5_capsule_104 rfl (lv_at hl 4 rfl) ?_
                            refine mm_geta hx hb hts hown hK hW 84 rfl q1769 dX5_capsule_105 ?_
                            refine lv_iload hx hb dX5_capsule_108 (lv_at hl 0 rfl) ?_
                            refine lv_aload_n hx hb dX5_capsule_110 rfl (lv_at hl 4 rfl) ?_
                            refine mm_geta hx hb hts hown hK hW 84 rfl q1769 dX5_capsule_111 ?_
                            refine lv_iload hx hb dX5_capsule_114 (lv_at hl 0 rfl) ?_
                            refine lv_iconst (v := 1) hx hb dX5_capsule_116 (by decide) ?_
                            refine nv_isub hx hb dX5_capsule_117 (fun v117 e117 => ?_)
                            refine mm_iald hx hb hK hW 84 rfl (by rw [e117]; exact ww_in (by rw [ww_sub1 (by omega)]; omega) (by rw [ww_sub1 (by omega)]; omega)) dX5_capsule_118 ?_
                            refine mm_iast hx hb hK hW hS 84 rfl (ww_in (by omega) (by omega)) dX5_capsule_119 (fun S119 H locs f119 hW hS => ?_)
                            refine lv_aload_n hx hb dX5_capsule_120 rfl (lv_at hl 4 rfl) ?_
                            refine mm_geta hx hb hts hown hK hW 85 rfl q1770 dX5_capsule_121 ?_
                            refine lv_iload hx hb dX5_capsule_124 (lv_at hl 0 rfl) ?_
                            refine lv_aload_n hx hb dX5_capsule_126 rfl (lv_at hl 4 rfl) ?_
                            refine mm_geta hx hb hts hown hK hW 85 rfl q1770 dX5_capsule_127 ?_
                            refine lv_iload hx hb dX5_capsule_130 (lv_at hl 0 rfl) ?_
                            refine lv_iconst (v := 1) hx hb dX5_capsule_132 (by decide) ?_
                            refine nv_isub hx hb dX5_capsule_133 (fun v133 e133 => ?_)
                            refine mm_iald hx hb hK hW 85 rfl (by rw [e133]; exact ww_in (by rw [ww_sub1 (by omega)]; omega) (by rw [ww_sub1 (by omega)]; omega)) dX5_capsule_134 ?_
                            refine mm_iast hx hb hK hW hS 85 rfl (ww_in (by omega) (by omega)) dX5_capsule_135 (fun S135 H locs f135 hW hS => ?_)
                            obtain ⟨v136, e136⟩ : ∃ yQ : Int32, yQ = u + (-1) := ⟨_, rfl⟩
                            refine lv_iinc (v := v136) (lv' := [(5, .int v136), (4, .int v77), (3, .int m), (2, .int n), (0, .ref o), (1, .int s)]) hx hb dX5_capsule_136 hl (k := 0) rfl (by rw [e136]; rfl) (by decide) rfl (fun ls hl => ?_)
                            refine lv_goto (tgt := 85) hx hb dX5_capsule_139 (by decide) ?_
                            have tb : v136.toInt = u.toInt - 1 := by rw [e136]; exact ww_dec (by omega)
                            exact ih85 v136 S135 H locs (by omega) (by omega) (by omega) (by rw [f135, f119]; exact (iF85.wr (by decide)).wr (by decide)) (by rw [e136]; have z : S135 = ci_S S1 u := (by rw [f135, f119, e117, e133]; rfl); rw [z]; rw [ci_go, if_neg c87, if_neg nle] at hgo85; exact hgo85) hW hS ls (lv_sub hl [0, 1, 2, 3, 4, 5] rfl)
                    exact L85 122 n S77 H locs (by show n.toInt < (122 : Int); omega) (by omega) (by omega) (fr_.rf S77) (rfl) hW hS ls (lv_sub hl [0, 1, 2, 3, 4, 5] rfl)
                  · skip
                    refine lv_goto (tgt := 162) hx hb dX5_capsule_70 (by decide) ?_
                    skip
                    first | (have hs : S158 = cp_S S0 n m := by rw [f158, f149, g1, g2, f77, e77]; rfl) | skip
                    obtain ⟨v162, e162⟩ : ∃ yQ : Int32, yQ = m + 1 := ⟨_, rfl⟩
                    refine lv_iinc (v := v162) (lv' := [(3, .int v162), (2, .int n), (0, .ref o), (1, .int s)]) hx hb dX5_capsule_162 hl (k := 0) rfl (by rw [e162]; rfl) (by decide) rfl (fun ls hl => ?_)
                    refine lv_goto (tgt := 53) hx hb dX5_capsule_165 (by decide) ?_
                    have tb : v162.toInt = m.toInt + 1 := by rw [e162]; exact ww_inc' (by omega)
                    have tn : (n + 1).toInt = n.toInt + 1 := ww_inc' (by omega)
                    exact ih53 n v162 S0 H locs (by omega) (by omega) (by omega) (by first | exact iF53 | (rw [hs]; exact iF53.tr (cpS_fr _ _ _))) (by first | omega | (rw [e159]; omega)) (by first | omega | (rw [e159]; omega)) (by rw [e162]; first | (rw [e159]; simp only [if_neg c58, if_pos c67] at i453; exact i453) | (simp only [if_neg c58, if_pos c67] at i453; have z : n + 0 = n := (ww_eq (by rw [ww_add] <;> rw [ww_z0] <;> omega)); first | exact i453 | (rw [z] at i453; exact i453))) (by first | (rw [hs, e162, e159]; rw [cp_go, if_neg c58, if_neg c67] at hgo53; exact hgo53) | (rw [e162]; rw [cp_go, if_neg c58, if_pos c67] at hgo53; exact hgo53)) hW hS ls (lv_sub hl [0, 1, 2, 3] rfl)
            exact L53 121 0 0 S H locs (by have := hB.2; show _ - 0 < _; omega) (by decide) hB.1 (fr_.rf S) (by decide) (by decide) rfl (rfl) hW hS ls (lv_sub hl [0, 1, 2, 3] rfl)
          · skip
            refine lv_bipush (v := (-2)) hx hb dX5_capsule_46 (by decide) ?_
            refine mm_iret hx hb hr hlocks hW hS ?_ dX5_capsule_48
            have hres : ff_capsule S s = (-2, S) := by subst e2 e40; simp only [ff_capsule, cc_fin, if_neg c5, if_neg c15, if_pos c25, if_neg c36, if_pos c43]
            exact ⟨by rw [hres], by rw [hres], rfl⟩
      · skip
        refine lv_iconst (v := (-1)) hx hb dX5_capsule_28 (by decide) ?_
        refine mm_iret hx hb hr hlocks hW hS ?_ dX5_capsule_29
        have hres : ff_capsule S s = ((-1), S) := by subst e2; simp only [ff_capsule, if_neg c5, if_neg c15, if_neg c25]
        exact ⟨by rw [hres], by rw [hres], rfl⟩

set_option maxHeartbeats 4000000 in
theorem mc_up (lQ : Launch) (G : wm_G) (o : Nat) (S : mm_S) (E : mm_E) (i : Int32) (w : Int32) (hU : iv_U S) : mm_Met lQ G o yX5_up (ws_ yX5_up cX5_up 3 (some .int)) 1 S E [.int i, .int w] (some (.int (ff_up S i w))) S E := by
  refine mm_start (by decide +kernel) (Nat.le_of_ble_eq_true rfl) rfl (fun pQ eQ sQ mQ belowQ methQ cQ hx hb hml hr hlocks hts hown hK H hW hS ls hl => ?_)
  have hl : lv_has ls 3 [(0, .ref o), (1, .int i), (2, .int w)] := hl
  generalize hlc : ([] : List Loc) = locs at hS ⊢
  have hm1 := hU.2.1
  have hm0 := hU.1
  refine lv_iload_n hx hb dX5_up_0 rfl (lv_at hl 1 rfl) ?_
  refine lv_iconst (v := 0) hx hb dX5_up_1 (by decide) ?_
  refine lv_aload_n hx hb dX5_up_2 rfl (lv_at hl 0 rfl) ?_
  refine mm_geti hx hb hts hown hK hW 82 rfl (by decide) q1767 dX5_up_3 ?_
  refine lv_iconst (v := 1) hx hb dX5_up_6 (by decide) ?_
  refine nv_isub hx hb dX5_up_7 (fun v7 e7 => ?_)
  refine pp_calli (As := [.int i, .int 0, .int v7]) (rest := []) (n := 3) ⟨hx, hb, hml, hown, hts⟩ (mc_in lQ i 0 v7) (lw_S q1979 q1980 q92 q1981) (by decide +kernel) rfl ⟨Nat.le_of_ble_eq_true rfl, Nat.le_of_ble_eq_true rfl⟩ hl.1 rfl (Nat.le_of_ble_eq_true rfl) dX5_up_8 ⟨Nat.le_of_ble_eq_true rfl, Nat.le_of_ble_eq_true rfl⟩ (fun v8 e8 => ?_)
  refine lv_if_eq (tgt := 23) hx hb dX5_up_11 (by decide) (fun c11 => ?_) (fun c11 => ?_)
  · skip
    refine lv_iconst (v := (-1)) hx hb dX5_up_23 (by decide) ?_
    refine lv_goto (tgt := 46) hx hb dX5_up_24 (by decide) ?_
    refine mm_iret hx hb hr hlocks hW hS ?_ dX5_up_46
    have hres : ff_up S i w = (-1) := by subst e7 e8; simp only [ff_up, if_pos c11]
    exact ⟨by rw [hres], rfl, rfl⟩
  · skip
    obtain ⟨i0, i1⟩ := ff_in_t (v := i) (a := 0) (b := fd_ S 82 - 1) (by rw [← e7, ← e8]; exact c11)
    have i0 : 0 ≤ i.toInt := i0
    rw [ww_sub1 (by omega)] at i1
    refine lv_iload_n hx hb dX5_up_14 rfl (lv_at hl 2 rfl) ?_
    refine lv_iconst (v := 0) hx hb dX5_up_15 (by decide) ?_
    refine lv_iconst (v := 1) hx hb dX5_up_16 (by decide) ?_
    refine pp_calli (As := [.int w, .int 0, .int 1]) (rest := []) (n := 3) ⟨hx, hb, hml, hown, hts⟩ (mc_in lQ w 0 1) (lw_S q1979 q1980 q92 q1981) (by decide +kernel) rfl ⟨Nat.le_of_ble_eq_true rfl, Nat.le_of_ble_eq_true rfl⟩ hl.1 rfl (Nat.le_of_ble_eq_true rfl) dX5_up_17 ⟨Nat.le_of_ble_eq_true rfl, Nat.le_of_ble_eq_true rfl⟩ (fun v17 e17 => ?_)
    refine lv_if_ne (tgt := 27) hx hb dX5_up_20 (by decide) (fun c20 => ?_) (fun c20 => ?_)
    · skip
      refine lv_iload_n hx hb dX5_up_27 rfl (lv_at hl 2 rfl) ?_
      refine lv_if_ne (tgt := 40) hx hb dX5_up_28 (by decide) (fun c28 => ?_) (fun c28 => ?_)
      · skip
        refine lv_aload_n hx hb dX5_up_40 rfl (lv_at hl 0 rfl) ?_
        refine mm_geta hx hb hts hown hK hW 86 rfl q1771 dX5_up_41 ?_
        refine lv_iload_n hx hb dX5_up_44 rfl (lv_at hl 1 rfl) ?_
        refine mm_iald hx hb hK hW 86 rfl (ww_in (by omega) (by omega)) dX5_up_45 ?_
        refine mm_iret hx hb hr hlocks hW hS ?_ dX5_up_46
        have hres : ff_up S i w = (rd_ S 86 i) := by subst e7 e8 e17; simp only [ff_up, if_neg c11, if_neg c20, if_neg c28]
        exact ⟨by rw [hres], rfl, rfl⟩
      · skip
        refine lv_aload_n hx hb dX5_up_31 rfl (lv_at hl 0 rfl) ?_
        refine mm_geta hx hb hts hown hK hW 84 rfl q1769 dX5_up_32 ?_
        refine lv_iload_n hx hb dX5_up_35 rfl (lv_at hl 1 rfl) ?_
        refine mm_iald hx hb hK hW 84 rfl (ww_in (by omega) (by omega)) dX5_up_36 ?_
        refine lv_goto (tgt := 46) hx hb dX5_up_37 (by decide) ?_
        refine mm_iret hx hb hr hlocks hW hS ?_ dX5_up_46
        have hres : ff_up S i w = (rd_ S 84 i) := by subst e7 e8 e17; simp only [ff_up, if_neg c11, if_neg c20, if_pos c28]
        exact ⟨by rw [hres], rfl, rfl⟩
    · skip
      refine lv_iconst (v := (-1)) hx hb dX5_up_23 (by decide) ?_
      refine lv_goto (tgt := 46) hx hb dX5_up_24 (by decide) ?_
      refine mm_iret hx hb hr hlocks hW hS ?_ dX5_up_46
      have hres : ff_up S i w = (-1) := by subst e7 e8 e17; simp only [ff_up, if_neg c11, if_pos c20]
      exact ⟨by rw [hres], rfl, rfl⟩

set_option maxHeartbeats 4000000 in
theorem mc_raise (lQ : Launch) (G : wm_G) (o : Nat) (S : mm_S) (E : mm_E) (n : Int32) (hU : iv_U S) : mm_Met lQ G o yX5_raise (ws_ yX5_raise cX5_raise 4 (some .int)) 1 S E [.int n] (some (.int (ff_raise S n).1)) (ff_raise S n).2 E := by
  refine mm_start (by decide +kernel) (Nat.le_of_ble_eq_true rfl) rfl (fun pQ eQ sQ mQ belowQ methQ cQ hx hb hml hr hlocks hts hown hK H hW hS ls hl => ?_)
  have hl : lv_has ls 4 [(0, .ref o), (1, .int n)] := hl
  generalize hlc : ([] : List Loc) = locs at hS ⊢
  have hm1 := hU.2.1
  refine lv_iload_n hx hb dX5_raise_0 rfl (lv_at hl 1 rfl) ?_
  refine lv_iconst (v := 0) hx hb dX5_raise_1 (by decide) ?_
  refine lv_sipush (v := 199) hx hb dX5_raise_2 (by decide) ?_
  refine pp_calli (As := [.int n, .int 0, .int 199]) (rest := []) (n := 3) ⟨hx, hb, hml, hown, hts⟩ (mc_in lQ n 0 199) (lw_S q1979 q1980 q92 q1981) (by decide +kernel) rfl ⟨Nat.le_of_ble_eq_true rfl, Nat.le_of_ble_eq_true rfl⟩ hl.1 rfl (Nat.le_of_ble_eq_true rfl) dX5_raise_5 ⟨Nat.le_of_ble_eq_true rfl, Nat.le_of_ble_eq_true rfl⟩ (fun v5 e5 => ?_)
  refine lv_if_ne (tgt := 13) hx hb dX5_raise_8 (by decide) (fun c8 => ?_) (fun c8 => ?_)
  · skip
    refine lv_aload_n hx hb dX5_raise_13 rfl (lv_at hl 0 rfl) ?_
    refine mm_geti hx hb hts hown hK hW 82 rfl (by decide) q1767 dX5_raise_14 ?_
    refine lv_if_ge (tgt := 23) hx hb dX5_raise_17 (by decide) (fun c17 => ?_) (fun c17 => ?_)
    · have t17 : 0 ≤ ((fd_ S 82)).toInt := ww_le c17
      refine lv_iconst (v := 0) hx hb dX5_raise_23 (by decide) ?_
      refine lv_istore_n (lv' := [(2, .int 0), (0, .ref o), (1, .int n)]) hx hb dX5_raise_24 rfl hl (by decide) rfl (fun ls hl => ?_)
      refine lv_iconst (v := 0) hx hb dX5_raise_25 (by decide) ?_
      refine lv_istore_n (lv' := [(3, .int 0), (2, .int 0), (0, .ref o), (1, .int n)]) hx hb dX5_raise_26 rfl hl (by decide) rfl (fun ls hl => ?_)
      have L27 : ∀ (fu27 : Nat) (u : Int32) (i : Int32) (S0 : mm_S) (H : Heap) (locs : List Loc), ((fd_ S 82).toInt - i.toInt < fu27) → (0 ≤ i.toInt) → (i.toInt ≤ (fd_ S 82).toInt) → (fr_ [20] S S0) → (rs_go fu27 S0 n u i = ff_raise S n) → mm_W G o S0 E H → va_S (mm_F o) sQ.heap H locs → ∀ ls : Array Slot, lv_has ls 4 [(3, .int i), (2, .int u), (0, .ref o), (1, .int n)] → W pQ lQ eQ (wm_rm 1) sQ mQ (Value.ref o :: [.int n]).toArray belowQ methQ cQ H locs 0 0 (MQ belowQ (wm_Q (fun vQ HQ => vQ = some (.int (ff_raise S n).1) ∧ mm_W G o (ff_raise S n).2 E HQ) (mm_F o)) (Value.ref o :: [.int n]).toArray sQ 0 0 (mm_F o)) (F0 mQ 27 ls []) := by
        intro fu27
        induction fu27 with
        | zero =>
          intro u i S0 H locs hm27 i027 i127 iF27 hgo27 hW hS ls hl
          exact absurd hm27 (by omega)
        | succ fu27 ih27 =>
          intro u i S0 H locs hm27 i027 i127 iF27 hgo27 hW hS ls hl
          have e4 : (fd_ S0 82).toInt = (fd_ S 82).toInt := by rw [fd_of (iF27 82 (by decide))]
          refine lv_iload_n hx hb dX5_raise_27 rfl (lv_at hl 0 rfl) ?_
          refine lv_aload_n hx hb dX5_raise_28 rfl (lv_at hl 2 rfl) ?_
          refine mm_geti hx hb hts hown hK hW 82 rfl (by decide) q1767 dX5_raise_29 ?_
          refine lv_icmp_ge (tgt := 88) hx hb dX5_raise_32 (by decide) (fun c32 => ?_) (fun c32 => ?_)
          · have t32 : ((fd_ S0 82)).toInt ≤ (i).toInt := ww_le c32
            refine lv_iload_n hx hb dX5_raise_88 rfl (lv_at hl 1 rfl) ?_
            refine mm_iret hx hb hr hlocks hW hS ?_ dX5_raise_89
            have hres : ff_raise S n = (u, S0) := by rw [← hgo27]; simp only [rs_go, if_pos c32]
            exact ⟨by rw [hres], by rw [hres], rfl⟩
          · have t32 : (i).toInt < ((fd_ S0 82)).toInt := ww_nle c32
            obtain ⟨a0, a1⟩ := hU.2.2 i i027 (by omega)
            rw [← rd_of (iF27 84 (by decide))] at a0 a1
            refine lv_aload_n hx hb dX5_raise_35 rfl (lv_at hl 2 rfl) ?_
            refine mm_geta hx hb hts hown hK hW 86 rfl q1771 dX5_raise_36 ?_
            refine lv_iload_n hx hb dX5_raise_39 rfl (lv_at hl 0 rfl) ?_
            refine mm_iald hx hb hK hW 86 rfl (ww_in (by omega) (by omega)) dX5_raise_40 ?_
            refine lv_aload_n hx hb dX5_raise_41 rfl (lv_at hl 2 rfl) ?_
            refine mm_geti hx hb hts hown hK hW 83 rfl (by decide) q1768 dX5_raise_42 ?_
            refine lv_iload_n hx hb dX5_raise_45 rfl (lv_at hl 3 rfl) ?_
            refine nv_iadd hx hb dX5_raise_46 (fun v46 e46 => ?_)
            refine lv_icmp_gt (tgt := 82) hx hb dX5_raise_47 (by decide) (fun c47 => ?_) (fun c47 => ?_)
            · have t47 : (v46).toInt < ((rd_ S0 86 i)).toInt := ww_lt c47
              obtain ⟨v82, e82⟩ : ∃ yQ : Int32, yQ = i + 1 := ⟨_, rfl⟩
              refine lv_iinc (v := v82) (lv' := [(3, .int v82), (2, .int u), (0, .ref o), (1, .int n)]) hx hb dX5_raise_82 hl (k := 0) rfl (by rw [e82]; rfl) (by decide) rfl (fun ls hl => ?_)
              refine lv_goto (tgt := 27) hx hb dX5_raise_85 (by decide) ?_
              have tb : v82.toInt = i.toInt + 1 := by rw [e82]; exact ww_inc' (by omega)
              exact ih27 u v82 S0 H locs (by omega) (by omega) (by omega) (by first | exact iF27 | (rw [f78]; exact iF27.wr (by decide))) (by subst e46 e82; simp only [rs_go, if_neg c32, if_pos c47] at hgo27; exact hgo27) hW hS ls (lv_sub hl [0, 1, 2, 3] rfl)
            · have t47 : ((rd_ S0 86 i)).toInt ≤ (v46).toInt := ww_nlt c47
              refine lv_aload_n hx hb dX5_raise_50 rfl (lv_at hl 2 rfl) ?_
              refine mm_geta hx hb hts hown hK hW 20 rfl q1705 dX5_raise_51 ?_
              refine lv_aload_n hx hb dX5_raise_54 rfl (lv_at hl 2 rfl) ?_
              refine mm_geta hx hb hts hown hK hW 84 rfl q1769 dX5_raise_55 ?_
              refine lv_iload_n hx hb dX5_raise_58 rfl (lv_at hl 0 rfl) ?_
              refine mm_iald hx hb hK hW 84 rfl (ww_in (by omega) (by omega)) dX5_raise_59 ?_
              refine mm_zald hx hb hK hW 20 rfl (ww_in (by omega) (by omega)) dX5_raise_60 ?_
              refine lv_if_ne (tgt := 67) hx hb dX5_raise_61 (by decide) (fun c61 => ?_) (fun c61 => ?_)
              · skip
                refine lv_aload_n hx hb dX5_raise_67 rfl (lv_at hl 2 rfl) ?_
                refine mm_geta hx hb hts hown hK hW 20 rfl q1705 dX5_raise_68 ?_
                refine lv_aload_n hx hb dX5_raise_71 rfl (lv_at hl 2 rfl) ?_
                refine mm_geta hx hb hts hown hK hW 84 rfl q1769 dX5_raise_72 ?_
                refine lv_iload_n hx hb dX5_raise_75 rfl (lv_at hl 0 rfl) ?_
                refine mm_iald hx hb hK hW 84 rfl (ww_in (by omega) (by omega)) dX5_raise_76 ?_
                refine lv_iconst (v := 0) hx hb dX5_raise_77 (by decide) ?_
                refine mm_zast hx hb hK hW hS 20 rfl rfl (ww_in (by omega) (by omega)) dX5_raise_78 (fun S78 H locs f78 hW hS => ?_)
                obtain ⟨v79, e79⟩ : ∃ yQ : Int32, yQ = u + 1 := ⟨_, rfl⟩
                refine lv_iinc (v := v79) (lv' := [(2, .int v79), (3, .int i), (0, .ref o), (1, .int n)]) hx hb dX5_raise_79 hl (k := 1) rfl (by rw [e79]; rfl) (by decide) rfl (fun ls hl => ?_)
                obtain ⟨v82, e82⟩ : ∃ yQ : Int32, yQ = i + 1 := ⟨_, rfl⟩
                refine lv_iinc (v := v82) (lv' := [(3, .int v82), (2, .int v79), (0, .ref o), (1, .int n)]) hx hb dX5_raise_82 hl (k := 1) rfl (by rw [e82]; rfl) (by decide) rfl (fun ls hl => ?_)
                refine lv_goto (tgt := 27) hx hb dX5_raise_85 (by decide) ?_
                have tb : v82.toInt = i.toInt + 1 := by rw [e82]; exact ww_inc' (by omega)
                exact ih27 v79 v82 S78 H locs (by omega) (by omega) (by omega) (by first | exact iF27 | (rw [f78]; exact iF27.wr (by decide))) (by subst e46 f78 e79 e82; simp only [rs_go, if_neg c32, if_neg c47, if_neg c61] at hgo27; exact hgo27) hW hS ls (lv_sub hl [0, 1, 2, 3] rfl)
              · skip
                refine lv_goto (tgt := 82) hx hb dX5_raise_64 (by decide) ?_
                obtain ⟨v82, e82⟩ : ∃ yQ : Int32, yQ = i + 1 := ⟨_, rfl⟩
                refine lv_iinc (v := v82) (lv' := [(3, .int v82), (2, .int u), (0, .ref o), (1, .int n)]) hx hb dX5_raise_82 hl (k := 0) rfl (by rw [e82]; rfl) (by decide) rfl (fun ls hl => ?_)
                refine lv_goto (tgt := 27) hx hb dX5_raise_85 (by decide) ?_
                have tb : v82.toInt = i.toInt + 1 := by rw [e82]; exact ww_inc' (by omega)
                exact ih27 u v82 S0 H locs (by omega) (by omega) (by omega) (by first | exact iF27 | (rw [f78]; exact iF27.wr (by decide))) (by subst e46 e82; simp only [rs_go, if_neg c32, if_neg c47, if_pos c61] at hgo27; exact hgo27) hW hS ls (lv_sub hl [0, 1, 2, 3] rfl)
      exact L27 121 0 0 S H locs (by show _ - 0 < _; omega) (by decide) t17 (fr_.rf S) (by subst e5; simp only [ff_raise, if_neg c8, if_pos c17]) hW hS ls (lv_sub hl [0, 1, 2, 3] rfl)
    · have t17 : ((fd_ S 82)).toInt < 0 := ww_nle c17
      refine lv_bipush (v := (-2)) hx hb dX5_raise_20 (by decide) ?_
      refine mm_iret hx hb hr hlocks hW hS ?_ dX5_raise_22
      have hres : ff_raise S n = ((-2), S) := by subst e5; simp only [ff_raise, if_neg c8, if_neg c17]
      exact ⟨by rw [hres], by rw [hres], rfl⟩
  · skip
    refine lv_iconst (v := (-1)) hx hb dX5_raise_11 (by decide) ?_
    refine mm_iret hx hb hr hlocks hW hS ?_ dX5_raise_12
    have hres : ff_raise S n = ((-1), S) := by subst e5; simp only [ff_raise, if_pos c8]
    exact ⟨by rw [hres], by rw [hres], rfl⟩
