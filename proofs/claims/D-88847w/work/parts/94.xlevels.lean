/-! READING: the levels -/
set_option maxRecDepth 100000
theorem xt_K {G : wm_G} {o d0 : Nat} {X : mm_S} {E : mm_E} {D D1 : xg} {H H1 : Heap} (w : xx_W G o d0 X E D H) (hk : xq_K o H H1) (hD : xq_D H D D1) {h : Nat} {t : xt} {a : Nat} (ht : xt_at G o D H h t a) : xt_at G o D1 H1 h t a := by
  refine xt_kept (fun q hq => ?_) (fun q hq => ?_) h t a ht
  · have h1 := w.dlt (q := q) (by rw [hq]; exact nofun)
    exact hk.2 q h1 (fun z => by rw [z, w.dfx 16 (by omega)] at hq; cases hq)
  · have h1 := w.dlt (q := q) (by rw [hq]; exact nofun)
    rw [hD.2.2.2 q h1]
    exact hq
theorem xq_D.up {H H1 : Heap} {D D1 : xg} (h : xq_D H1 D D1) (hs : H.size ≤ H1.size) : xq_D H D D1 := ⟨h.1, h.2.1, h.2.2.1, fun q hq => h.2.2.2 q (Nat.lt_of_lt_of_le hq hs)⟩
theorem xq_k1_sg {c : Int32} (h : xq_k1 c = true) : c ∈ xt_sg := by
  rcases xq_k1_i.mp h with rfl | rfl | rfl <;> decide
theorem xq_k2_sg {c : Int32} (h : xq_k2 c = true) : c ∈ xt_sg := by
  rcases xq_k2_i.mp h with rfl | rfl <;> decide
theorem xq_k3_sg {c : Int32} (h : xq_k3 c = true) : c ∈ xt_sg := by
  rcases xq_k3_i.mp h with rfl | rfl | rfl <;> decide
set_option maxHeartbeats 4000000 in
theorem xl_any (lQ : Launch) (G : wm_G) (o d0 z : Nat) (X : mm_S) (E : mm_E) (hz : z ≤ o) (hL : xv_L X) (d : Nat) (hd : 3 ≤ d) (f : xq_f) (Bf : Int32 → Prop) (hf : xq_gof (fd_ X 22).toInt f) (hC : xq_Con lQ G o d0 z X E yX2_all (ws_ yX2_all cX2_all 2 (some (.object "ThirtyThreeBelow$Term"))) d f Bf) : xq_Con lQ G o d0 z X E yX2_any (ws_ yX2_any cX2_any 2 (some (.object "ThirtyThreeBelow$Term"))) (d + 1) (xq_row (xq_nx X) xq_k5 f) (fun q => Bf q ∧ 0 ≤ q.toInt ∧ q.toInt ≤ 8) := by
  intro D0 Hz p0 q hWz p00 p01 hB
  have hn : (fd_ X 22).toInt ≤ 160 := hL.2
  have hnx : ∀ k : Int32, 0 ≤ k.toInt → ¬ xq_nx X k = -1 → k.toInt < (fd_ X 22).toInt := fun _ _ h => (xq_nx_lt h).1
  have hgo := hf p0 q p00 p01 hB.2.1 hB.2.2
  have hgr := xq_row_go hn hnx (ok := xq_k5) rfl hf p0 q p00 p01 hB.2.1 hB.2.2
  have hen := xq_row_end hn hnx (ok := xq_k5) rfl hf p00 p01 hB.2.1 hB.2.2
  generalize hr0 : (xq_row (xq_nx X) xq_k5 f) p0 q = r
  rw [hr0] at hgr
  refine xy_start (own := RX2) (by decide +kernel) (Nat.le_of_ble_eq_true rfl) rfl (fun pQ eQ sQ mQ belowQ methQ cQ hx hb hml hr hlocks htb hts hown hK hN hHz hA hS ls hl => ?_)
  have hl : lv_has ls 2 [(0, .ref (o + 16))] := hl
  subst hHz
  rw [hr0] at hen
  refine lv_aload_n hx hb dX2_any_0 rfl (lv_at hl 0 rfl) ?_
  refine xq_call (rest := []) ⟨hx, hb, hml, hown, hts⟩ hK hN hA hz hlocks htb hC (lw_V q932 q934 qs12 q89 q935) (by decide +kernel) ⟨Nat.le_refl _, by show _ ≤ 60 * (d + 1); omega⟩ hWz hS (xq_K.rf _ _) (xq_D.rf _ _) p00 (Int.le_refl _) p01 hB.1 hgo hen (fun h => by rw [← hr0]; exact xq_row_no h) (Nat.zero_le _) (Nat.zero_le _) hl.1 (Nat.le_of_ble_eq_true rfl) dX2_any_1 (fun t a D1 H1 locs1 ht hW hT hk hD hS => ?_)
  rw [xq_row_so ht] at hr0
  have g2 := hgo.2.2.2.2 t ht
  have g3 := hgo.2.1
  rw [g2.2] at hW hr0
  refine lv_astore_n (lv' := [(1, .ref a), (0, .ref (o + 16))]) hx hb dX2_any_4 rfl hl (by decide) rfl (fun ls hl => ?_)
  have L5 : ∀ (k : Nat) (t : xt) (a : Nat) (p : Int32) (D : xg) (H : Heap) (locs : List Loc), p0.toInt + 1 ≤ p.toInt → p.toInt ≤ (fd_ X 22).toInt → (fd_ X 22).toInt - p.toInt < k → xq_lp (xq_nx X) xq_k5 f k t p q = r → xx_W G o d0 (xq_st X p q) E D H → xt_at G o D H (xq_m p0 p) t a → xq_K o sQ.heap H → xq_D sQ.heap D0 D → va_S (xx_F o d0) sQ.heap H locs → ∀ ls : Array Slot, lv_has ls 2 [(1, .ref a), (0, .ref (o + 16))] → W pQ lQ eQ (wm_rc (d + 1) (xq_m p0 r.2.1) (5 * xq_m p0 r.2.1)) sQ mQ ([Value.ref (o + 16)] : List Value).toArray belowQ methQ cQ H locs (xq_m p0 p) (5 * xq_m p0 p) (xz_Q G o d0 (xq_P G o X E D0 sQ.heap p0 r) RX3 (xq_X o X E D0 sQ.heap r) belowQ ([Value.ref (o + 16)] : List Value).toArray sQ (xq_m p0 r.2.1) (5 * xq_m p0 r.2.1)) (F0 mQ 5 ls []) := by
    intro k
    induction k with
    | zero =>
      intro t a p D H locs b1 b2 b3
      exact absurd b3 (by omega)
    | succ k ih =>
      intro t a p D H locs b1 b2 b3 hlp hW hT hk hD hS ls hl
      have hd0 := hW.lim
      have p0p : 0 ≤ p.toInt := by omega
      refine lv_aload_n hx hb dX2_any_5 rfl (lv_at hl 1 rfl) ?_
      refine lv_bipush (v := 124) hx hb dX2_any_6 (by decide) ?_
      refine xq_take_ (rest := []) ⟨hx, hb, hml, hown, hts⟩ hK hN hL hW p0p hS ⟨by show 2 ≤ d + 1; omega, by show 81 ≤ 60 * (d + 1); omega⟩ hl.1 (Nat.le_of_ble_eq_true rfl) dX2_any_8 ⟨xq_mm (by omega) ?_, Nat.mul_le_mul_left 5 (xq_mm (by omega) ?_)⟩ (fun ct H1 locs1 hW1 z1 o1 hS1 => ?_) (fun ct H1 locs1 hW1 z1 o1 hS1 => ?_)
      · rw [← hlp]; exact (xq_lp_go hn hnx rfl hf (k + 1) t p q p0p b2 hB.2.1 hB.2.2).1
      · rw [← hlp]; exact (xq_lp_go hn hnx rfl hf (k + 1) t p q p0p b2 hB.2.1 hB.2.2).1
      · have hok : xq_k5 (xq_nx X p) = true := by rw [ct]; rfl
        refine lv_if_eq (tgt := 36) hx hb dX2_any_11 (by decide) (fun c => absurd c (by decide)) (fun _ => ?_)
        have hp := hnx p p0p (xq_ok_ne rfl hok)
        have e1 := ww_a1 (p := p) (by omega) p0p
        have m1 := xq_m1 p00 (show p0.toInt ≤ p.toInt by omega) (show p.toInt < 1000 by omega)
        have hge := xq_lp_end hn hnx (ok := xq_k5) rfl hf (k := k) (t := t) hok p0p hB.2.1 hB.2.2
        rw [hlp] at hge
        have hgo2 := hf (p + 1) q (by omega) (by omega) hB.2.1 hB.2.2
        have hgo3 := hgo2.1
        have m2 : xq_m p0 (p + 1) ≤ xq_m p0 r.2.1 := xq_mm (by omega) (by omega)
        refine wm_new (V := fun k => if k = 1 then .int 0 else .null) hx hb hts in_X18 tyX18 tyX18_ok hown q1101 q1102 q111 hK (ci := 15) rfl (fun j hj => by rcases (show j = 0 ∨ j = 1 ∨ j = 2 ∨ j = 3 ∨ j = 4 by omega) with rfl | rfl | rfl | rfl | rfl <;> rfl) hS1 (by show xq_m p0 p + 1 ≤ xq_m p0 r.2.1; omega) (by show 5 * xq_m p0 p + 5 ≤ 5 * xq_m p0 r.2.1; omega) dX2_any_14 (fun H2 hO z2 o2 hS2 => ?_)
        refine lv_dup hx hb dX2_any_17 rfl ?_
        refine lv_aload_n hx hb dX2_any_18 rfl (lv_at hl 1 rfl) ?_
        have hW2 := hW1.made (by omega) o2
        refine xq_get hx hb hts hown hK hW2 3 (by decide) (v := .ref o) rfl q218 rfl dX2_any_19 ?_
        refine lv_bipush (v := 124) hx hb dX2_any_22 (by decide) ?_
        refine lv_aload_n hx hb dX2_any_24 rfl (lv_at hl 0 rfl) ?_
        refine lv_aload_n hx hb dX2_any_25 rfl (lv_at hl 1 rfl) ?_
        have hk2 := (hk.tr (xq_K.same z1 o1)).tr (xq_K.made (o := o) z2 o2)
        have kk2 := (xq_K.same z1 o1).tr (xq_K.made (o := o) z2 o2)
        refine xq_call (rest := [.ref a, .int 124, .ref o, .ref H1.size, .ref H1.size]) ⟨hx, hb, hml, hown, hts⟩ hK hN hA hz hlocks htb hC (lw_V q932 q934 qs12 q89 q935) (by decide +kernel) ⟨Nat.le_refl _, by show _ ≤ 60 * (d + 1); omega⟩ hW2 hS2 hk2 hD p00 (by omega) (by omega) hB.1 hgo2 hge (fun h => by rw [← hlp]; exact xq_lp_no hok h) (Nat.le_of_eq m1.symm) (by omega) hl.1 (Nat.le_of_ble_eq_true rfl) dX2_any_26 (fun u a2 D3 H3 locs3 hu hW3 hT3 hk3 hD3 hS3 => ?_)
        rw [xq_lp_so hok hu] at hlp
        have g4 := hgo2.2.2.2.2 u hu
        have g5 := hgo2.2.1
        rw [g4.2] at hW3 hlp
        have hbz : xg_d D H1.size = (0, 0) := hW1.dnw _ (Nat.le_refl _)
        have hb3 : xg_d D3 H1.size = (0, 0) := (hD3.2.2.2 _ (by omega)).trans hbz
        have hl1 := hW1.lim
        have hO3 := hO.kept (hk3.2 _ (by omega) (by omega))
        have hT2 := xt_K hW (kk2.tr hk3) (hD3.up kk2.1) hT
        have hh : xq_m p0 (f (p + 1) q).2.1 = (xq_m p0 (f (p + 1) q).2.1 - 1) + 1 := by unfold xq_m; omega
        refine xq_both (g := 124) (h := xq_m p0 (f (p + 1) q).2.1 - 1) (rest := [.ref H1.size]) ⟨hx, hb, hml, hown, hts⟩ hK hN hW3 hO3 hb3 (by omega) (by decide) (xt_le (by unfold xq_m; omega) hT2) (xt_le (by unfold xq_m; omega) hT3) ⟨by show 3 ≤ d + 1; omega, by show 144 ≤ 60 * (d + 1); omega⟩ hl.1 (Nat.le_of_ble_eq_true rfl) dX2_any_29 ⟨xq_mm (by omega) hge, Nat.mul_le_mul_left 5 (xq_mm (by omega) hge)⟩ hS3 (fun H4 locs4 hW4 hT4 z4 o4 hS4 => ?_)
        rw [← hh] at hT4
        refine lv_astore_n (lv' := [(1, .ref H1.size), (0, .ref (o + 16))]) hx hb dX2_any_32 rfl hl (by decide) rfl (fun ls hl => ?_)
        refine lv_goto (tgt := 5) hx hb dX2_any_33 (by decide) ?_
        rw [ct] at hlp
        have hs0 := hk.1
        exact ih _ _ _ _ _ _ (by omega) g5 (by omega) hlp hW4 hT4 ((hk2.tr hk3).node (by omega) z4 o4) ((hD.tr hk2.1 hD3).node (by omega)) hS4 ls (lv_sub hl [0, 1] rfl)
      · have hok : ¬ xq_k5 (xq_nx X p) = true := fun h => ct (xq_k5_i.mp h)
        refine lv_if_eq (tgt := 36) hx hb dX2_any_11 (by decide) (fun _ => ?_) (fun c => absurd rfl c)
        rw [xq_lp_ok hok] at hlp
        subst hlp
        refine lv_aload_n hx hb dX2_any_36 rfl (lv_at hl 0 rfl) ?_
        exact xz_aret hx hb hr hlocks hW1 hS1 ⟨rfl, rfl, hk.tr (xq_K.same z1 o1), hD, t, a, rfl, rfl, xt_K hW (xq_K.same z1 o1) (xq_D.rf _ _) hT⟩ (Nat.le_refl _) (Nat.le_refl _) dX2_any_37
  exact L5 162 t a _ D1 H1 locs1 g2.1 g3 (by show _ - _ < (162 : Int); omega) hr0 hW hT hk hD hS ls hl

set_option maxHeartbeats 4000000 in
theorem xl_all (lQ : Launch) (G : wm_G) (o d0 z : Nat) (X : mm_S) (E : mm_E) (hz : z ≤ o) (hL : xv_L X) (d : Nat) (hd : 3 ≤ d) (f : xq_f) (Bf : Int32 → Prop) (hf : xq_gof (fd_ X 22).toInt f) (hC : xq_Con lQ G o d0 z X E yX2_compared (ws_ yX2_compared cX2_compared 3 (some (.object "ThirtyThreeBelow$Term"))) d f Bf) : xq_Con lQ G o d0 z X E yX2_all (ws_ yX2_all cX2_all 2 (some (.object "ThirtyThreeBelow$Term"))) (d + 1) (xq_row (xq_nx X) xq_k4 f) (fun q => Bf q ∧ 0 ≤ q.toInt ∧ q.toInt ≤ 8) := by
  intro D0 Hz p0 q hWz p00 p01 hB
  have hn : (fd_ X 22).toInt ≤ 160 := hL.2
  have hnx : ∀ k : Int32, 0 ≤ k.toInt → ¬ xq_nx X k = -1 → k.toInt < (fd_ X 22).toInt := fun _ _ h => (xq_nx_lt h).1
  have hgo := hf p0 q p00 p01 hB.2.1 hB.2.2
  have hgr := xq_row_go hn hnx (ok := xq_k4) rfl hf p0 q p00 p01 hB.2.1 hB.2.2
  have hen := xq_row_end hn hnx (ok := xq_k4) rfl hf p00 p01 hB.2.1 hB.2.2
  generalize hr0 : (xq_row (xq_nx X) xq_k4 f) p0 q = r
  rw [hr0] at hgr
  refine xy_start (own := RX2) (by decide +kernel) (Nat.le_of_ble_eq_true rfl) rfl (fun pQ eQ sQ mQ belowQ methQ cQ hx hb hml hr hlocks htb hts hown hK hN hHz hA hS ls hl => ?_)
  have hl : lv_has ls 2 [(0, .ref (o + 16))] := hl
  subst hHz
  rw [hr0] at hen
  refine lv_aload_n hx hb dX2_all_0 rfl (lv_at hl 0 rfl) ?_
  refine xq_call (rest := []) ⟨hx, hb, hml, hown, hts⟩ hK hN hA hz hlocks htb hC (lw_V q936 q938 qs13 q89 q939) (by decide +kernel) ⟨Nat.le_refl _, by show _ ≤ 60 * (d + 1); omega⟩ hWz hS (xq_K.rf _ _) (xq_D.rf _ _) p00 (Int.le_refl _) p01 hB.1 hgo hen (fun h => by rw [← hr0]; exact xq_row_no h) (Nat.zero_le _) (Nat.zero_le _) hl.1 (Nat.le_of_ble_eq_true rfl) dX2_all_1 (fun t a D1 H1 locs1 ht hW hT hk hD hS => ?_)
  rw [xq_row_so ht] at hr0
  have g2 := hgo.2.2.2.2 t ht
  have g3 := hgo.2.1
  rw [g2.2] at hW hr0
  refine lv_astore_n (lv' := [(1, .ref a), (0, .ref (o + 16))]) hx hb dX2_all_4 rfl hl (by decide) rfl (fun ls hl => ?_)
  have L5 : ∀ (k : Nat) (t : xt) (a : Nat) (p : Int32) (D : xg) (H : Heap) (locs : List Loc), p0.toInt + 1 ≤ p.toInt → p.toInt ≤ (fd_ X 22).toInt → (fd_ X 22).toInt - p.toInt < k → xq_lp (xq_nx X) xq_k4 f k t p q = r → xx_W G o d0 (xq_st X p q) E D H → xt_at G o D H (xq_m p0 p) t a → xq_K o sQ.heap H → xq_D sQ.heap D0 D → va_S (xx_F o d0) sQ.heap H locs → ∀ ls : Array Slot, lv_has ls 2 [(1, .ref a), (0, .ref (o + 16))] → W pQ lQ eQ (wm_rc (d + 1) (xq_m p0 r.2.1) (5 * xq_m p0 r.2.1)) sQ mQ ([Value.ref (o + 16)] : List Value).toArray belowQ methQ cQ H locs (xq_m p0 p) (5 * xq_m p0 p) (xz_Q G o d0 (xq_P G o X E D0 sQ.heap p0 r) RX3 (xq_X o X E D0 sQ.heap r) belowQ ([Value.ref (o + 16)] : List Value).toArray sQ (xq_m p0 r.2.1) (5 * xq_m p0 r.2.1)) (F0 mQ 5 ls []) := by
    intro k
    induction k with
    | zero =>
      intro t a p D H locs b1 b2 b3
      exact absurd b3 (by omega)
    | succ k ih =>
      intro t a p D H locs b1 b2 b3 hlp hW hT hk hD hS ls hl
      have hd0 := hW.lim
      have p0p : 0 ≤ p.toInt := by omega
      refine lv_aload_n hx hb dX2_all_5 rfl (lv_at hl 1 rfl) ?_
      refine lv_bipush (v := 38) hx hb dX2_all_6 (by decide) ?_
      refine xq_take_ (rest := []) ⟨hx, hb, hml, hown, hts⟩ hK hN hL hW p0p hS ⟨by show 2 ≤ d + 1; omega, by show 81 ≤ 60 * (d + 1); omega⟩ hl.1 (Nat.le_of_ble_eq_true rfl) dX2_all_8 ⟨xq_mm (by omega) ?_, Nat.mul_le_mul_left 5 (xq_mm (by omega) ?_)⟩ (fun ct H1 locs1 hW1 z1 o1 hS1 => ?_) (fun ct H1 locs1 hW1 z1 o1 hS1 => ?_)
      · rw [← hlp]; exact (xq_lp_go hn hnx rfl hf (k + 1) t p q p0p b2 hB.2.1 hB.2.2).1
      · rw [← hlp]; exact (xq_lp_go hn hnx rfl hf (k + 1) t p q p0p b2 hB.2.1 hB.2.2).1
      · have hok : xq_k4 (xq_nx X p) = true := by rw [ct]; rfl
        refine lv_if_eq (tgt := 36) hx hb dX2_all_11 (by decide) (fun c => absurd c (by decide)) (fun _ => ?_)
        have hp := hnx p p0p (xq_ok_ne rfl hok)
        have e1 := ww_a1 (p := p) (by omega) p0p
        have m1 := xq_m1 p00 (show p0.toInt ≤ p.toInt by omega) (show p.toInt < 1000 by omega)
        have hge := xq_lp_end hn hnx (ok := xq_k4) rfl hf (k := k) (t := t) hok p0p hB.2.1 hB.2.2
        rw [hlp] at hge
        have hgo2 := hf (p + 1) q (by omega) (by omega) hB.2.1 hB.2.2
        have hgo3 := hgo2.1
        have m2 : xq_m p0 (p + 1) ≤ xq_m p0 r.2.1 := xq_mm (by omega) (by omega)
        refine wm_new (V := fun k => if k = 1 then .int 0 else .null) hx hb hts in_X18 tyX18 tyX18_ok hown q1101 q1102 q111 hK (ci := 15) rfl (fun j hj => by rcases (show j = 0 ∨ j = 1 ∨ j = 2 ∨ j = 3 ∨ j = 4 by omega) with rfl | rfl | rfl | rfl | rfl <;> rfl) hS1 (by show xq_m p0 p + 1 ≤ xq_m p0 r.2.1; omega) (by show 5 * xq_m p0 p + 5 ≤ 5 * xq_m p0 r.2.1; omega) dX2_all_14 (fun H2 hO z2 o2 hS2 => ?_)
        refine lv_dup hx hb dX2_all_17 rfl ?_
        refine lv_aload_n hx hb dX2_all_18 rfl (lv_at hl 1 rfl) ?_
        have hW2 := hW1.made (by omega) o2
        refine xq_get hx hb hts hown hK hW2 3 (by decide) (v := .ref o) rfl q218 rfl dX2_all_19 ?_
        refine lv_bipush (v := 38) hx hb dX2_all_22 (by decide) ?_
        refine lv_aload_n hx hb dX2_all_24 rfl (lv_at hl 0 rfl) ?_
        refine lv_aload_n hx hb dX2_all_25 rfl (lv_at hl 1 rfl) ?_
        have hk2 := (hk.tr (xq_K.same z1 o1)).tr (xq_K.made (o := o) z2 o2)
        have kk2 := (xq_K.same z1 o1).tr (xq_K.made (o := o) z2 o2)
        refine xq_call (rest := [.ref a, .int 38, .ref o, .ref H1.size, .ref H1.size]) ⟨hx, hb, hml, hown, hts⟩ hK hN hA hz hlocks htb hC (lw_V q936 q938 qs13 q89 q939) (by decide +kernel) ⟨Nat.le_refl _, by show _ ≤ 60 * (d + 1); omega⟩ hW2 hS2 hk2 hD p00 (by omega) (by omega) hB.1 hgo2 hge (fun h => by rw [← hlp]; exact xq_lp_no hok h) (Nat.le_of_eq m1.symm) (by omega) hl.1 (Nat.le_of_ble_eq_true rfl) dX2_all_26 (fun u a2 D3 H3 locs3 hu hW3 hT3 hk3 hD3 hS3 => ?_)
        rw [xq_lp_so hok hu] at hlp
        have g4 := hgo2.2.2.2.2 u hu
        have g5 := hgo2.2.1
        rw [g4.2] at hW3 hlp
        have hbz : xg_d D H1.size = (0, 0) := hW1.dnw _ (Nat.le_refl _)
        have hb3 : xg_d D3 H1.size = (0, 0) := (hD3.2.2.2 _ (by omega)).trans hbz
        have hl1 := hW1.lim
        have hO3 := hO.kept (hk3.2 _ (by omega) (by omega))
        have hT2 := xt_K hW (kk2.tr hk3) (hD3.up kk2.1) hT
        have hh : xq_m p0 (f (p + 1) q).2.1 = (xq_m p0 (f (p + 1) q).2.1 - 1) + 1 := by unfold xq_m; omega
        refine xq_both (g := 38) (h := xq_m p0 (f (p + 1) q).2.1 - 1) (rest := [.ref H1.size]) ⟨hx, hb, hml, hown, hts⟩ hK hN hW3 hO3 hb3 (by omega) (by decide) (xt_le (by unfold xq_m; omega) hT2) (xt_le (by unfold xq_m; omega) hT3) ⟨by show 3 ≤ d + 1; omega, by show 144 ≤ 60 * (d + 1); omega⟩ hl.1 (Nat.le_of_ble_eq_true rfl) dX2_all_29 ⟨xq_mm (by omega) hge, Nat.mul_le_mul_left 5 (xq_mm (by omega) hge)⟩ hS3 (fun H4 locs4 hW4 hT4 z4 o4 hS4 => ?_)
        rw [← hh] at hT4
        refine lv_astore_n (lv' := [(1, .ref H1.size), (0, .ref (o + 16))]) hx hb dX2_all_32 rfl hl (by decide) rfl (fun ls hl => ?_)
        refine lv_goto (tgt := 5) hx hb dX2_all_33 (by decide) ?_
        rw [ct] at hlp
        have hs0 := hk.1
        exact ih _ _ _ _ _ _ (by omega) g5 (by omega) hlp hW4 hT4 ((hk2.tr hk3).node (by omega) z4 o4) ((hD.tr hk2.1 hD3).node (by omega)) hS4 ls (lv_sub hl [0, 1] rfl)
      · have hok : ¬ xq_k4 (xq_nx X p) = true := fun h => ct (xq_k4_i.mp h)
        refine lv_if_eq (tgt := 36) hx hb dX2_all_11 (by decide) (fun _ => ?_) (fun c => absurd rfl c)
        rw [xq_lp_ok hok] at hlp
        subst hlp
        refine lv_aload_n hx hb dX2_all_36 rfl (lv_at hl 0 rfl) ?_
        exact xz_aret hx hb hr hlocks hW1 hS1 ⟨rfl, rfl, hk.tr (xq_K.same z1 o1), hD, t, a, rfl, rfl, xt_K hW (xq_K.same z1 o1) (xq_D.rf _ _) hT⟩ (Nat.le_refl _) (Nat.le_refl _) dX2_all_37
  exact L5 162 t a _ D1 H1 locs1 g2.1 g3 (by show _ - _ < (162 : Int); omega) hr0 hW hT hk hD hS ls hl

set_option maxHeartbeats 4000000 in
theorem xl_sum (lQ : Launch) (G : wm_G) (o d0 z : Nat) (X : mm_S) (E : mm_E) (hz : z ≤ o) (hL : xv_L X) (d : Nat) (hd : 3 ≤ d) (f : xq_f) (Bf : Int32 → Prop) (hf : xq_gof (fd_ X 22).toInt f) (hC : xq_Con lQ G o d0 z X E yX2_product (ws_ yX2_product cX2_product 3 (some (.object "ThirtyThreeBelow$Term"))) d f Bf) : xq_Con lQ G o d0 z X E yX2_sum (ws_ yX2_sum cX2_sum 3 (some (.object "ThirtyThreeBelow$Term"))) (d + 1) (xq_row (xq_nx X) xq_k2 f) (fun q => Bf q ∧ 0 ≤ q.toInt ∧ q.toInt ≤ 8) := by
  intro D0 Hz p0 q hWz p00 p01 hB
  have hn : (fd_ X 22).toInt ≤ 160 := hL.2
  have hnx : ∀ k : Int32, 0 ≤ k.toInt → ¬ xq_nx X k = -1 → k.toInt < (fd_ X 22).toInt := fun _ _ h => (xq_nx_lt h).1
  have hgo := hf p0 q p00 p01 hB.2.1 hB.2.2
  have hgr := xq_row_go hn hnx (ok := xq_k2) rfl hf p0 q p00 p01 hB.2.1 hB.2.2
  have hen := xq_row_end hn hnx (ok := xq_k2) rfl hf p00 p01 hB.2.1 hB.2.2
  generalize hr0 : (xq_row (xq_nx X) xq_k2 f) p0 q = r
  rw [hr0] at hgr
  refine xy_start (own := RX2) (by decide +kernel) (Nat.le_of_ble_eq_true rfl) rfl (fun pQ eQ sQ mQ belowQ methQ cQ hx hb hml hr hlocks htb hts hown hK hN hHz hA hS ls hl => ?_)
  have hl : lv_has ls 3 [(0, .ref (o + 16))] := hl
  subst hHz
  rw [hr0] at hen
  refine lv_aload_n hx hb dX2_sum_0 rfl (lv_at hl 0 rfl) ?_
  refine xq_call (rest := []) ⟨hx, hb, hml, hown, hts⟩ hK hN hA hz hlocks htb hC (lw_V q944 q946 qs15 q89 q947) (by decide +kernel) ⟨Nat.le_refl _, by show _ ≤ 60 * (d + 1); omega⟩ hWz hS (xq_K.rf _ _) (xq_D.rf _ _) p00 (Int.le_refl _) p01 hB.1 hgo hen (fun h => by rw [← hr0]; exact xq_row_no h) (Nat.zero_le _) (Nat.zero_le _) hl.1 (Nat.le_of_ble_eq_true rfl) dX2_sum_1 (fun t a D1 H1 locs1 ht hW hT hk hD hS => ?_)
  rw [xq_row_so ht] at hr0
  have g2 := hgo.2.2.2.2 t ht
  have g3 := hgo.2.1
  rw [g2.2] at hW hr0
  refine lv_astore_n (lv' := [(1, .ref a), (0, .ref (o + 16))]) hx hb dX2_sum_4 rfl hl (by decide) rfl (fun ls hl => ?_)
  have L5 : ∀ (k : Nat) (t : xt) (a : Nat) (p : Int32) (D : xg) (H : Heap) (locs : List Loc), p0.toInt + 1 ≤ p.toInt → p.toInt ≤ (fd_ X 22).toInt → (fd_ X 22).toInt - p.toInt < k → xq_lp (xq_nx X) xq_k2 f k t p q = r → xx_W G o d0 (xq_st X p q) E D H → xt_at G o D H (xq_m p0 p) t a → xq_K o sQ.heap H → xq_D sQ.heap D0 D → va_S (xx_F o d0) sQ.heap H locs → ∀ ls : Array Slot, lv_has ls 3 [(1, .ref a), (0, .ref (o + 16))] → W pQ lQ eQ (wm_rc (d + 1) (xq_m p0 r.2.1) (5 * xq_m p0 r.2.1)) sQ mQ ([Value.ref (o + 16)] : List Value).toArray belowQ methQ cQ H locs (xq_m p0 p) (5 * xq_m p0 p) (xz_Q G o d0 (xq_P G o X E D0 sQ.heap p0 r) RX3 (xq_X o X E D0 sQ.heap r) belowQ ([Value.ref (o + 16)] : List Value).toArray sQ (xq_m p0 r.2.1) (5 * xq_m p0 r.2.1)) (F0 mQ 5 ls []) := by
    intro k
    induction k with
    | zero =>
      intro t a p D H locs b1 b2 b3
      exact absurd b3 (by omega)
    | succ k ih =>
      intro t a p D H locs b1 b2 b3 hlp hW hT hk hD hS ls hl
      have hd0 := hW.lim
      have p0p : 0 ≤ p.toInt := by omega
      have hend : p.toInt ≤ r.2.1.toInt := by rw [← hlp]; exact (xq_lp_go hn hnx rfl hf (k + 1) t p q p0p b2 hB.2.1 hB.2.2).1
      have hroom : xq_m p0 p ≤ xq_m p0 r.2.1 ∧ 5 * xq_m p0 p ≤ 5 * xq_m p0 r.2.1 := ⟨xq_mm (by omega) hend, Nat.mul_le_mul_left 5 (xq_mm (by omega) hend)⟩
      by_cases hok : xq_k2 (xq_nx X p) = true
      · have KB : W pQ lQ eQ (wm_rc (d + 1) (xq_m p0 r.2.1) (5 * xq_m p0 r.2.1)) sQ mQ ([Value.ref (o + 16)] : List Value).toArray belowQ methQ cQ H locs (xq_m p0 p) (5 * xq_m p0 p) (xz_Q G o d0 (xq_P G o X E D0 sQ.heap p0 r) RX3 (xq_X o X E D0 sQ.heap r) belowQ ([Value.ref (o + 16)] : List Value).toArray sQ (xq_m p0 r.2.1) (5 * xq_m p0 r.2.1)) (F0 mQ 23 ls []) := by
          have hp := hnx p p0p (xq_ok_ne rfl hok)
          refine lv_aload_n hx hb dX2_sum_23 rfl (lv_at hl 1 rfl) ?_
          refine xq_get hx hb hts hown hK hW 3 (by decide) (v := .ref o) rfl q218 rfl dX2_sum_24 ?_
          refine xx_getaN hx hb hts hown hK hW 21 rfl (hN.nf q292) dX2_sum_27 ?_
          refine lv_aload_n hx hb dX2_sum_30 rfl (lv_at hl 1 rfl) ?_
          refine lv_dup hx hb dX2_sum_31 rfl ?_
          refine xq_get hx hb hts hown hK hW 1 (by decide) (v := .int p) (by rw [fd_xq_a]; rfl) q216 rfl dX2_sum_32 ?_
          refine lv_dup_x1 hx hb dX2_sum_35 rfl rfl ?_
          refine lv_iconst (v := 1) hx hb dX2_sum_36 (by decide) ?_
          refine nv_iadd hx hb dX2_sum_37 (fun vA eA => ?_)
          refine xq_putaK hx hb hts hown hK hW hS q216 dX2_sum_38 (fun H1 locs1 hW1 z1 o1 hS1 => ?_)
          rw [xq_fa, eA] at hW1
          refine xx_iald hx hb hK hW1 21 rfl (ww_in (by omega) (by have := hL.2; omega)) dX2_sum_41 ?_
          rw [rd_xq (by decide) (by decide), ← (xq_nx_lt (xq_ok_ne rfl hok)).2]
          refine lv_istore_n (lv' := [(2, .int (xq_nx X p)), (1, .ref a), (0, .ref (o + 16))]) hx hb dX2_sum_42 rfl hl (by decide) rfl (fun ls hl => ?_)
          have e1 := ww_a1 (p := p) (by omega) p0p
          have m1 := xq_m1 p00 (show p0.toInt ≤ p.toInt by omega) (show p.toInt < 1000 by omega)
          have hge := xq_lp_end hn hnx (ok := xq_k2) rfl hf (k := k) (t := t) hok p0p hB.2.1 hB.2.2
          rw [hlp] at hge
          have hgo2 := hf (p + 1) q (by omega) (by omega) hB.2.1 hB.2.2
          have hgo3 := hgo2.1
          have m2 : xq_m p0 (p + 1) ≤ xq_m p0 r.2.1 := xq_mm (by omega) (by omega)
          refine wm_new (V := fun k => if k = 1 then .int 0 else .null) hx hb hts in_X18 tyX18 tyX18_ok hown q1101 q1102 q111 hK (ci := 15) rfl (fun j hj => by rcases (show j = 0 ∨ j = 1 ∨ j = 2 ∨ j = 3 ∨ j = 4 by omega) with rfl | rfl | rfl | rfl | rfl <;> rfl) hS1 (by show xq_m p0 p + 1 ≤ xq_m p0 r.2.1; omega) (by show 5 * xq_m p0 p + 5 ≤ 5 * xq_m p0 r.2.1; omega) dX2_sum_43 (fun H2 hO z2 o2 hS2 => ?_)
          refine lv_dup hx hb dX2_sum_46 rfl ?_
          refine lv_aload_n hx hb dX2_sum_47 rfl (lv_at hl 2 rfl) ?_
          have hW2 := hW1.made (by omega) o2
          refine xq_get hx hb hts hown hK hW2 3 (by decide) (v := .ref o) rfl q218 rfl dX2_sum_48 ?_
          refine lv_iload_n hx hb dX2_sum_51 rfl (lv_at hl 0 rfl) ?_
          refine lv_aload_n hx hb dX2_sum_52 rfl (lv_at hl 1 rfl) ?_
          refine lv_aload_n hx hb dX2_sum_53 rfl (lv_at hl 2 rfl) ?_
          have hk2 := (hk.tr (xq_K.same z1 o1)).tr (xq_K.made (o := o) z2 o2)
          have kk2 := (xq_K.same z1 o1).tr (xq_K.made (o := o) z2 o2)
          refine xq_call (rest := [.ref a, .int (xq_nx X p), .ref o, .ref H1.size, .ref H1.size]) ⟨hx, hb, hml, hown, hts⟩ hK hN hA hz hlocks htb hC (lw_V q944 q946 qs15 q89 q947) (by decide +kernel) ⟨Nat.le_refl _, by show _ ≤ 60 * (d + 1); omega⟩ hW2 hS2 hk2 hD p00 (by omega) (by omega) hB.1 hgo2 hge (fun h => by rw [← hlp]; exact xq_lp_no hok h) (Nat.le_of_eq m1.symm) (by omega) hl.1 (Nat.le_of_ble_eq_true rfl) dX2_sum_54 (fun u a2 D3 H3 locs3 hu hW3 hT3 hk3 hD3 hS3 => ?_)
          rw [xq_lp_so hok hu] at hlp
          have g4 := hgo2.2.2.2.2 u hu
          have g5 := hgo2.2.1
          rw [g4.2] at hW3 hlp
          have hbz : xg_d D H1.size = (0, 0) := hW1.dnw _ (Nat.le_refl _)
          have hb3 : xg_d D3 H1.size = (0, 0) := (hD3.2.2.2 _ (by omega)).trans hbz
          have hl1 := hW1.lim
          have hO3 := hO.kept (hk3.2 _ (by omega) (by omega))
          have hT2 := xt_K hW (kk2.tr hk3) (hD3.up kk2.1) hT
          have hh : xq_m p0 (f (p + 1) q).2.1 = (xq_m p0 (f (p + 1) q).2.1 - 1) + 1 := by unfold xq_m; omega
          refine xq_both (g := (xq_nx X p)) (h := xq_m p0 (f (p + 1) q).2.1 - 1) (rest := [.ref H1.size]) ⟨hx, hb, hml, hown, hts⟩ hK hN hW3 hO3 hb3 (by omega) (xq_k2_sg hok) (xt_le (by unfold xq_m; omega) hT2) (xt_le (by unfold xq_m; omega) hT3) ⟨by show 3 ≤ d + 1; omega, by show 144 ≤ 60 * (d + 1); omega⟩ hl.1 (Nat.le_of_ble_eq_true rfl) dX2_sum_57 ⟨xq_mm (by omega) hge, Nat.mul_le_mul_left 5 (xq_mm (by omega) hge)⟩ hS3 (fun H4 locs4 hW4 hT4 z4 o4 hS4 => ?_)
          rw [← hh] at hT4
          refine lv_astore_n (lv' := [(1, .ref H1.size), (2, .int (xq_nx X p)), (0, .ref (o + 16))]) hx hb dX2_sum_60 rfl hl (by decide) rfl (fun ls hl => ?_)
          refine lv_goto (tgt := 5) hx hb dX2_sum_61 (by decide) ?_
          have hs0 := hk.1
          exact ih _ _ _ _ _ _ (by omega) g5 (by omega) hlp hW4 hT4 ((hk2.tr hk3).node (by omega) z4 o4) ((hD.tr hk2.1 hD3).node (by omega)) hS4 ls (lv_sub hl [0, 2] rfl)
        refine lv_aload_n hx hb dX2_sum_5 rfl (lv_at hl 1 rfl) ?_
        refine xq_next (rest := []) ⟨hx, hb, hml, hown, hts⟩ hK hN hL hW p0p ⟨by show 1 ≤ d + 1; omega, by show 20 ≤ 60 * (d + 1); omega⟩ hl.1 (Nat.le_of_ble_eq_true rfl) dX2_sum_6 hroom ?_
        refine lv_bipush (v := 43) hx hb dX2_sum_9 (by decide) ?_
        refine lv_icmp_eq (tgt := 23) hx hb dX2_sum_11 (by decide) (fun c11 => KB) (fun c11 => ?_)
        refine lv_aload_n hx hb dX2_sum_14 rfl (lv_at hl 1 rfl) ?_
        refine xq_next (rest := []) ⟨hx, hb, hml, hown, hts⟩ hK hN hL hW p0p ⟨by show 1 ≤ d + 1; omega, by show 20 ≤ 60 * (d + 1); omega⟩ hl.1 (Nat.le_of_ble_eq_true rfl) dX2_sum_15 hroom ?_
        refine lv_bipush (v := 45) hx hb dX2_sum_18 (by decide) ?_
        refine lv_icmp_ne (tgt := 64) hx hb dX2_sum_20 (by decide) (fun c20 => absurd hok (fun h => (xq_k2_i.mp h).elim c11 c20)) (fun c20 => KB)
      · skip
        refine lv_aload_n hx hb dX2_sum_5 rfl (lv_at hl 1 rfl) ?_
        refine xq_next (rest := []) ⟨hx, hb, hml, hown, hts⟩ hK hN hL hW p0p ⟨by show 1 ≤ d + 1; omega, by show 20 ≤ 60 * (d + 1); omega⟩ hl.1 (Nat.le_of_ble_eq_true rfl) dX2_sum_6 hroom ?_
        refine lv_bipush (v := 43) hx hb dX2_sum_9 (by decide) ?_
        refine lv_icmp_eq (tgt := 23) hx hb dX2_sum_11 (by decide) (fun c11 => absurd (xq_k2_i.mpr (Or.inl c11)) hok) (fun c11 => ?_)
        refine lv_aload_n hx hb dX2_sum_14 rfl (lv_at hl 1 rfl) ?_
        refine xq_next (rest := []) ⟨hx, hb, hml, hown, hts⟩ hK hN hL hW p0p ⟨by show 1 ≤ d + 1; omega, by show 20 ≤ 60 * (d + 1); omega⟩ hl.1 (Nat.le_of_ble_eq_true rfl) dX2_sum_15 hroom ?_
        refine lv_bipush (v := 45) hx hb dX2_sum_18 (by decide) ?_
        refine lv_icmp_ne (tgt := 64) hx hb dX2_sum_20 (by decide) (fun c20 => ?_) (fun c20 => absurd (xq_k2_i.mpr (Or.inr c20)) hok)
        rw [xq_lp_ok hok] at hlp
        subst hlp
        refine lv_aload_n hx hb dX2_sum_64 rfl (lv_at hl 0 rfl) ?_
        exact xz_aret hx hb hr hlocks hW hS ⟨rfl, rfl, hk, hD, t, a, rfl, rfl, hT⟩ (Nat.le_refl _) (Nat.le_refl _) dX2_sum_65
  exact L5 162 t a _ D1 H1 locs1 g2.1 g3 (by show _ - _ < (162 : Int); omega) hr0 hW hT hk hD hS ls hl

set_option maxHeartbeats 4000000 in
theorem xl_product (lQ : Launch) (G : wm_G) (o d0 z : Nat) (X : mm_S) (E : mm_E) (hz : z ≤ o) (hL : xv_L X) (d : Nat) (hd : 3 ≤ d) (f : xq_f) (Bf : Int32 → Prop) (hf : xq_gof (fd_ X 22).toInt f) (hC : xq_Con lQ G o d0 z X E yX2_one (ws_ yX2_one cX2_one 4 (some (.object "ThirtyThreeBelow$Term"))) d f Bf) : xq_Con lQ G o d0 z X E yX2_product (ws_ yX2_product cX2_product 3 (some (.object "ThirtyThreeBelow$Term"))) (d + 1) (xq_row (xq_nx X) xq_k1 f) (fun q => Bf q ∧ 0 ≤ q.toInt ∧ q.toInt ≤ 8) := by
  intro D0 Hz p0 q hWz p00 p01 hB
  have hn : (fd_ X 22).toInt ≤ 160 := hL.2
  have hnx : ∀ k : Int32, 0 ≤ k.toInt → ¬ xq_nx X k = -1 → k.toInt < (fd_ X 22).toInt := fun _ _ h => (xq_nx_lt h).1
  have hgo := hf p0 q p00 p01 hB.2.1 hB.2.2
  have hgr := xq_row_go hn hnx (ok := xq_k1) rfl hf p0 q p00 p01 hB.2.1 hB.2.2
  have hen := xq_row_end hn hnx (ok := xq_k1) rfl hf p00 p01 hB.2.1 hB.2.2
  generalize hr0 : (xq_row (xq_nx X) xq_k1 f) p0 q = r
  rw [hr0] at hgr
  refine xy_start (own := RX2) (by decide +kernel) (Nat.le_of_ble_eq_true rfl) rfl (fun pQ eQ sQ mQ belowQ methQ cQ hx hb hml hr hlocks htb hts hown hK hN hHz hA hS ls hl => ?_)
  have hl : lv_has ls 3 [(0, .ref (o + 16))] := hl
  subst hHz
  rw [hr0] at hen
  refine lv_aload_n hx hb dX2_product_0 rfl (lv_at hl 0 rfl) ?_
  refine xq_call (rest := []) ⟨hx, hb, hml, hown, hts⟩ hK hN hA hz hlocks htb hC (lw_V q948 q950 qs16 q89 q951) (by decide +kernel) ⟨Nat.le_refl _, by show _ ≤ 60 * (d + 1); omega⟩ hWz hS (xq_K.rf _ _) (xq_D.rf _ _) p00 (Int.le_refl _) p01 hB.1 hgo hen (fun h => by rw [← hr0]; exact xq_row_no h) (Nat.zero_le _) (Nat.zero_le _) hl.1 (Nat.le_of_ble_eq_true rfl) dX2_product_1 (fun t a D1 H1 locs1 ht hW hT hk hD hS => ?_)
  rw [xq_row_so ht] at hr0
  have g2 := hgo.2.2.2.2 t ht
  have g3 := hgo.2.1
  rw [g2.2] at hW hr0
  refine lv_astore_n (lv' := [(1, .ref a), (0, .ref (o + 16))]) hx hb dX2_product_4 rfl hl (by decide) rfl (fun ls hl => ?_)
  have L5 : ∀ (k : Nat) (t : xt) (a : Nat) (p : Int32) (D : xg) (H : Heap) (locs : List Loc), p0.toInt + 1 ≤ p.toInt → p.toInt ≤ (fd_ X 22).toInt → (fd_ X 22).toInt - p.toInt < k → xq_lp (xq_nx X) xq_k1 f k t p q = r → xx_W G o d0 (xq_st X p q) E D H → xt_at G o D H (xq_m p0 p) t a → xq_K o sQ.heap H → xq_D sQ.heap D0 D → va_S (xx_F o d0) sQ.heap H locs → ∀ ls : Array Slot, lv_has ls 3 [(1, .ref a), (0, .ref (o + 16))] → W pQ lQ eQ (wm_rc (d + 1) (xq_m p0 r.2.1) (5 * xq_m p0 r.2.1)) sQ mQ ([Value.ref (o + 16)] : List Value).toArray belowQ methQ cQ H locs (xq_m p0 p) (5 * xq_m p0 p) (xz_Q G o d0 (xq_P G o X E D0 sQ.heap p0 r) RX3 (xq_X o X E D0 sQ.heap r) belowQ ([Value.ref (o + 16)] : List Value).toArray sQ (xq_m p0 r.2.1) (5 * xq_m p0 r.2.1)) (F0 mQ 5 ls []) := by
    intro k
    induction k with
    | zero =>
      intro t a p D H locs b1 b2 b3
      exact absurd b3 (by omega)
    | succ k ih =>
      intro t a p D H locs b1 b2 b3 hlp hW hT hk hD hS ls hl
      have hd0 := hW.lim
      have p0p : 0 ≤ p.toInt := by omega
      have hend : p.toInt ≤ r.2.1.toInt := by rw [← hlp]; exact (xq_lp_go hn hnx rfl hf (k + 1) t p q p0p b2 hB.2.1 hB.2.2).1
      have hroom : xq_m p0 p ≤ xq_m p0 r.2.1 ∧ 5 * xq_m p0 p ≤ 5 * xq_m p0 r.2.1 := ⟨xq_mm (by omega) hend, Nat.mul_le_mul_left 5 (xq_mm (by omega) hend)⟩
      by_cases hok : xq_k1 (xq_nx X p) = true
      · have KB : W pQ lQ eQ (wm_rc (d + 1) (xq_m p0 r.2.1) (5 * xq_m p0 r.2.1)) sQ mQ ([Value.ref (o + 16)] : List Value).toArray belowQ methQ cQ H locs (xq_m p0 p) (5 * xq_m p0 p) (xz_Q G o d0 (xq_P G o X E D0 sQ.heap p0 r) RX3 (xq_X o X E D0 sQ.heap r) belowQ ([Value.ref (o + 16)] : List Value).toArray sQ (xq_m p0 r.2.1) (5 * xq_m p0 r.2.1)) (F0 mQ 32 ls []) := by
          have hp := hnx p p0p (xq_ok_ne rfl hok)
          refine lv_aload_n hx hb dX2_product_32 rfl (lv_at hl 1 rfl) ?_
          refine xq_get hx hb hts hown hK hW 3 (by decide) (v := .ref o) rfl q218 rfl dX2_product_33 ?_
          refine xx_getaN hx hb hts hown hK hW 21 rfl (hN.nf q292) dX2_product_36 ?_
          refine lv_aload_n hx hb dX2_product_39 rfl (lv_at hl 1 rfl) ?_
          refine lv_dup hx hb dX2_product_40 rfl ?_
          refine xq_get hx hb hts hown hK hW 1 (by decide) (v := .int p) (by rw [fd_xq_a]; rfl) q216 rfl dX2_product_41 ?_
          refine lv_dup_x1 hx hb dX2_product_44 rfl rfl ?_
          refine lv_iconst (v := 1) hx hb dX2_product_45 (by decide) ?_
          refine nv_iadd hx hb dX2_product_46 (fun vA eA => ?_)
          refine xq_putaK hx hb hts hown hK hW hS q216 dX2_product_47 (fun H1 locs1 hW1 z1 o1 hS1 => ?_)
          rw [xq_fa, eA] at hW1
          refine xx_iald hx hb hK hW1 21 rfl (ww_in (by omega) (by have := hL.2; omega)) dX2_product_50 ?_
          rw [rd_xq (by decide) (by decide), ← (xq_nx_lt (xq_ok_ne rfl hok)).2]
          refine lv_istore_n (lv' := [(2, .int (xq_nx X p)), (1, .ref a), (0, .ref (o + 16))]) hx hb dX2_product_51 rfl hl (by decide) rfl (fun ls hl => ?_)
          have e1 := ww_a1 (p := p) (by omega) p0p
          have m1 := xq_m1 p00 (show p0.toInt ≤ p.toInt by omega) (show p.toInt < 1000 by omega)
          have hge := xq_lp_end hn hnx (ok := xq_k1) rfl hf (k := k) (t := t) hok p0p hB.2.1 hB.2.2
          rw [hlp] at hge
          have hgo2 := hf (p + 1) q (by omega) (by omega) hB.2.1 hB.2.2
          have hgo3 := hgo2.1
          have m2 : xq_m p0 (p + 1) ≤ xq_m p0 r.2.1 := xq_mm (by omega) (by omega)
          refine wm_new (V := fun k => if k = 1 then .int 0 else .null) hx hb hts in_X18 tyX18 tyX18_ok hown q1101 q1102 q111 hK (ci := 15) rfl (fun j hj => by rcases (show j = 0 ∨ j = 1 ∨ j = 2 ∨ j = 3 ∨ j = 4 by omega) with rfl | rfl | rfl | rfl | rfl <;> rfl) hS1 (by show xq_m p0 p + 1 ≤ xq_m p0 r.2.1; omega) (by show 5 * xq_m p0 p + 5 ≤ 5 * xq_m p0 r.2.1; omega) dX2_product_52 (fun H2 hO z2 o2 hS2 => ?_)
          refine lv_dup hx hb dX2_product_55 rfl ?_
          refine lv_aload_n hx hb dX2_product_56 rfl (lv_at hl 2 rfl) ?_
          have hW2 := hW1.made (by omega) o2
          refine xq_get hx hb hts hown hK hW2 3 (by decide) (v := .ref o) rfl q218 rfl dX2_product_57 ?_
          refine lv_iload_n hx hb dX2_product_60 rfl (lv_at hl 0 rfl) ?_
          refine lv_aload_n hx hb dX2_product_61 rfl (lv_at hl 1 rfl) ?_
          refine lv_aload_n hx hb dX2_product_62 rfl (lv_at hl 2 rfl) ?_
          have hk2 := (hk.tr (xq_K.same z1 o1)).tr (xq_K.made (o := o) z2 o2)
          have kk2 := (xq_K.same z1 o1).tr (xq_K.made (o := o) z2 o2)
          refine xq_call (rest := [.ref a, .int (xq_nx X p), .ref o, .ref H1.size, .ref H1.size]) ⟨hx, hb, hml, hown, hts⟩ hK hN hA hz hlocks htb hC (lw_V q948 q950 qs16 q89 q951) (by decide +kernel) ⟨Nat.le_refl _, by show _ ≤ 60 * (d + 1); omega⟩ hW2 hS2 hk2 hD p00 (by omega) (by omega) hB.1 hgo2 hge (fun h => by rw [← hlp]; exact xq_lp_no hok h) (Nat.le_of_eq m1.symm) (by omega) hl.1 (Nat.le_of_ble_eq_true rfl) dX2_product_63 (fun u a2 D3 H3 locs3 hu hW3 hT3 hk3 hD3 hS3 => ?_)
          rw [xq_lp_so hok hu] at hlp
          have g4 := hgo2.2.2.2.2 u hu
          have g5 := hgo2.2.1
          rw [g4.2] at hW3 hlp
          have hbz : xg_d D H1.size = (0, 0) := hW1.dnw _ (Nat.le_refl _)
          have hb3 : xg_d D3 H1.size = (0, 0) := (hD3.2.2.2 _ (by omega)).trans hbz
          have hl1 := hW1.lim
          have hO3 := hO.kept (hk3.2 _ (by omega) (by omega))
          have hT2 := xt_K hW (kk2.tr hk3) (hD3.up kk2.1) hT
          have hh : xq_m p0 (f (p + 1) q).2.1 = (xq_m p0 (f (p + 1) q).2.1 - 1) + 1 := by unfold xq_m; omega
          refine xq_both (g := (xq_nx X p)) (h := xq_m p0 (f (p + 1) q).2.1 - 1) (rest := [.ref H1.size]) ⟨hx, hb, hml, hown, hts⟩ hK hN hW3 hO3 hb3 (by omega) (xq_k1_sg hok) (xt_le (by unfold xq_m; omega) hT2) (xt_le (by unfold xq_m; omega) hT3) ⟨by show 3 ≤ d + 1; omega, by show 144 ≤ 60 * (d + 1); omega⟩ hl.1 (Nat.le_of_ble_eq_true rfl) dX2_product_66 ⟨xq_mm (by omega) hge, Nat.mul_le_mul_left 5 (xq_mm (by omega) hge)⟩ hS3 (fun H4 locs4 hW4 hT4 z4 o4 hS4 => ?_)
          rw [← hh] at hT4
          refine lv_astore_n (lv' := [(1, .ref H1.size), (2, .int (xq_nx X p)), (0, .ref (o + 16))]) hx hb dX2_product_69 rfl hl (by decide) rfl (fun ls hl => ?_)
          refine lv_goto (tgt := 5) hx hb dX2_product_70 (by decide) ?_
          have hs0 := hk.1
          exact ih _ _ _ _ _ _ (by omega) g5 (by omega) hlp hW4 hT4 ((hk2.tr hk3).node (by omega) z4 o4) ((hD.tr hk2.1 hD3).node (by omega)) hS4 ls (lv_sub hl [0, 2] rfl)
        refine lv_aload_n hx hb dX2_product_5 rfl (lv_at hl 1 rfl) ?_
        refine xq_next (rest := []) ⟨hx, hb, hml, hown, hts⟩ hK hN hL hW p0p ⟨by show 1 ≤ d + 1; omega, by show 20 ≤ 60 * (d + 1); omega⟩ hl.1 (Nat.le_of_ble_eq_true rfl) dX2_product_6 hroom ?_
        refine lv_bipush (v := 42) hx hb dX2_product_9 (by decide) ?_
        refine lv_icmp_eq (tgt := 32) hx hb dX2_product_11 (by decide) (fun c11 => KB) (fun c11 => ?_)
        refine lv_aload_n hx hb dX2_product_14 rfl (lv_at hl 1 rfl) ?_
        refine xq_next (rest := []) ⟨hx, hb, hml, hown, hts⟩ hK hN hL hW p0p ⟨by show 1 ≤ d + 1; omega, by show 20 ≤ 60 * (d + 1); omega⟩ hl.1 (Nat.le_of_ble_eq_true rfl) dX2_product_15 hroom ?_
        refine lv_bipush (v := 47) hx hb dX2_product_18 (by decide) ?_
        refine lv_icmp_eq (tgt := 32) hx hb dX2_product_20 (by decide) (fun c20 => KB) (fun c20 => ?_)
        refine lv_aload_n hx hb dX2_product_23 rfl (lv_at hl 1 rfl) ?_
        refine xq_next (rest := []) ⟨hx, hb, hml, hown, hts⟩ hK hN hL hW p0p ⟨by show 1 ≤ d + 1; omega, by show 20 ≤ 60 * (d + 1); omega⟩ hl.1 (Nat.le_of_ble_eq_true rfl) dX2_product_24 hroom ?_
        refine lv_bipush (v := 37) hx hb dX2_product_27 (by decide) ?_
        refine lv_icmp_ne (tgt := 73) hx hb dX2_product_29 (by decide) (fun c29 => absurd hok (fun h => (xq_k1_i.mp h).elim c11 (fun h => h.elim c20 c29))) (fun c29 => KB)
      · skip
        refine lv_aload_n hx hb dX2_product_5 rfl (lv_at hl 1 rfl) ?_
        refine xq_next (rest := []) ⟨hx, hb, hml, hown, hts⟩ hK hN hL hW p0p ⟨by show 1 ≤ d + 1; omega, by show 20 ≤ 60 * (d + 1); omega⟩ hl.1 (Nat.le_of_ble_eq_true rfl) dX2_product_6 hroom ?_
        refine lv_bipush (v := 42) hx hb dX2_product_9 (by decide) ?_
        refine lv_icmp_eq (tgt := 32) hx hb dX2_product_11 (by decide) (fun c11 => absurd (xq_k1_i.mpr (Or.inl c11)) hok) (fun c11 => ?_)
        refine lv_aload_n hx hb dX2_product_14 rfl (lv_at hl 1 rfl) ?_
        refine xq_next (rest := []) ⟨hx, hb, hml, hown, hts⟩ hK hN hL hW p0p ⟨by show 1 ≤ d + 1; omega, by show 20 ≤ 60 * (d + 1); omega⟩ hl.1 (Nat.le_of_ble_eq_true rfl) dX2_product_15 hroom ?_
        refine lv_bipush (v := 47) hx hb dX2_product_18 (by decide) ?_
        refine lv_icmp_eq (tgt := 32) hx hb dX2_product_20 (by decide) (fun c20 => absurd (xq_k1_i.mpr (Or.inr (Or.inl c20))) hok) (fun c20 => ?_)
        refine lv_aload_n hx hb dX2_product_23 rfl (lv_at hl 1 rfl) ?_
        refine xq_next (rest := []) ⟨hx, hb, hml, hown, hts⟩ hK hN hL hW p0p ⟨by show 1 ≤ d + 1; omega, by show 20 ≤ 60 * (d + 1); omega⟩ hl.1 (Nat.le_of_ble_eq_true rfl) dX2_product_24 hroom ?_
        refine lv_bipush (v := 37) hx hb dX2_product_27 (by decide) ?_
        refine lv_icmp_ne (tgt := 73) hx hb dX2_product_29 (by decide) (fun c29 => ?_) (fun c29 => absurd (xq_k1_i.mpr (Or.inr (Or.inr c29))) hok)
        rw [xq_lp_ok hok] at hlp
        subst hlp
        refine lv_aload_n hx hb dX2_product_73 rfl (lv_at hl 0 rfl) ?_
        exact xz_aret hx hb hr hlocks hW hS ⟨rfl, rfl, hk, hD, t, a, rfl, rfl, hT⟩ (Nat.le_refl _) (Nat.le_refl _) dX2_product_74
  exact L5 162 t a _ D1 H1 locs1 g2.1 g3 (by show _ - _ < (162 : Int); omega) hr0 hW hT hk hD hS ls hl

set_option maxHeartbeats 4000000 in
theorem xl_compared (lQ : Launch) (G : wm_G) (o d0 z : Nat) (X : mm_S) (E : mm_E) (hz : z ≤ o) (hL : xv_L X) (d : Nat) (hd : 3 ≤ d) (f : xq_f) (Bf : Int32 → Prop) (hf : xq_gof (fd_ X 22).toInt f) (hC : xq_Con lQ G o d0 z X E yX2_sum (ws_ yX2_sum cX2_sum 3 (some (.object "ThirtyThreeBelow$Term"))) d f Bf) : xq_Con lQ G o d0 z X E yX2_compared (ws_ yX2_compared cX2_compared 3 (some (.object "ThirtyThreeBelow$Term"))) (d + 1) (xq_co (xq_nx X) f) (fun q => Bf q ∧ 0 ≤ q.toInt ∧ q.toInt ≤ 8) := by
  intro D0 Hz p0 q hWz p00 p01 hB
  have hn : (fd_ X 22).toInt ≤ 160 := hL.2
  have hnx : ∀ k : Int32, 0 ≤ k.toInt → ¬ xq_nx X k = -1 → k.toInt < (fd_ X 22).toInt := fun _ _ h => (xq_nx_lt h).1
  have hgo := hf p0 q p00 p01 hB.2.1 hB.2.2
  have hgr := xq_co_go hn hnx hf p0 q p00 p01 hB.2.1 hB.2.2
  have hen := xq_co_end hn hnx hf p00 p01 hB.2.1 hB.2.2
  generalize hr0 : (xq_co (xq_nx X) f) p0 q = r
  rw [hr0] at hgr
  refine xy_start (own := RX2) (by decide +kernel) (Nat.le_of_ble_eq_true rfl) rfl (fun pQ eQ sQ mQ belowQ methQ cQ hx hb hml hr hlocks htb hts hown hK hN hHz hA hS ls hl => ?_)
  have hl : lv_has ls 3 [(0, .ref (o + 16))] := hl
  subst hHz
  rw [hr0] at hen
  refine lv_aload_n hx hb dX2_compared_0 rfl (lv_at hl 0 rfl) ?_
  refine xq_call (rest := []) ⟨hx, hb, hml, hown, hts⟩ hK hN hA hz hlocks htb hC (lw_V q940 q942 qs14 q89 q943) (by decide +kernel) ⟨Nat.le_refl _, by show _ ≤ 60 * (d + 1); omega⟩ hWz hS (xq_K.rf _ _) (xq_D.rf _ _) p00 (Int.le_refl _) p01 hB.1 hgo hen (fun h => by rw [← hr0]; exact xq_co_no h) (Nat.zero_le _) (Nat.zero_le _) hl.1 (Nat.le_of_ble_eq_true rfl) dX2_compared_1 (fun t a D H locs ht hW hT hk hD hS => ?_)
  rw [xq_co_so ht] at hr0
  have g2 := hgo.2.2.2.2 t ht
  have b2 := hgo.2.1
  rw [g2.2] at hW hr0
  generalize hpc : (f p0 q).2.1 = p at hW hT hr0 hen g2 b2 ⊢
  refine lv_astore_n (lv' := [(1, .ref a), (0, .ref (o + 16))]) hx hb dX2_compared_4 rfl hl (by decide) rfl (fun ls hl => ?_)
  have p0p : 0 ≤ p.toInt := by omega
  have hroom : xq_m p0 p ≤ xq_m p0 r.2.1 ∧ 5 * xq_m p0 p ≤ 5 * xq_m p0 r.2.1 := ⟨xq_mm (by omega) hen, Nat.mul_le_mul_left 5 (xq_mm (by omega) hen)⟩
  refine lv_aload_n hx hb dX2_compared_5 rfl (lv_at hl 1 rfl) ?_
  refine xq_next (rest := []) ⟨hx, hb, hml, hown, hts⟩ hK hN hL hW p0p ⟨by show 1 ≤ d + 1; omega, by show 20 ≤ 60 * (d + 1); omega⟩ hl.1 (Nat.le_of_ble_eq_true rfl) dX2_compared_6 hroom ?_
  refine lv_istore_n (lv' := [(2, .int (xq_nx X p)), (1, .ref a), (0, .ref (o + 16))]) hx hb dX2_compared_9 rfl hl (by decide) rfl (fun ls hl => ?_)
  by_cases hok : xq_k3 (xq_nx X p) = true
  · have KB : W pQ lQ eQ (wm_rc (d + 1) (xq_m p0 r.2.1) (5 * xq_m p0 r.2.1)) sQ mQ ([Value.ref (o + 16)] : List Value).toArray belowQ methQ cQ H locs (xq_m p0 p) (5 * xq_m p0 p) (xz_Q G o d0 (xq_P G o X E D0 sQ.heap p0 r) RX3 (xq_X o X E D0 sQ.heap r) belowQ ([Value.ref (o + 16)] : List Value).toArray sQ (xq_m p0 r.2.1) (5 * xq_m p0 r.2.1)) (F0 mQ 30 ls []) := by
      rw [xq_co1_y hok] at hr0
      have hp := hnx p p0p (xq_ok_ne rfl hok)
      have e1 := ww_a1 (p := p) (by omega) p0p
      have m1 := xq_m1 p00 (show p0.toInt ≤ p.toInt by omega) (show p.toInt < 1000 by omega)
      have hgo2 := hf (p + 1) q (by omega) (by omega) hB.2.1 hB.2.2
      have hgo3 := hgo2.1
      have hge : (f (p + 1) q).2.1.toInt ≤ r.2.1.toInt := by
        rw [← hr0]
        rcases h : (f (p + 1) q).1 with _ | u
        · rw [xq_co2_no h]; exact Int.le_refl _
        · rw [xq_co2_so h]; exact Int.le_refl _
      have m2 : xq_m p0 (p + 1) ≤ xq_m p0 r.2.1 := xq_mm (by omega) (by omega)
      refine lv_aload_n hx hb dX2_compared_30 rfl (lv_at hl 2 rfl) ?_
      refine lv_dup hx hb dX2_compared_31 rfl ?_
      refine xq_get hx hb hts hown hK hW 1 (by decide) (v := .int p) (by rw [fd_xq_a]; rfl) q216 rfl dX2_compared_32 ?_
      refine lv_iconst (v := 1) hx hb dX2_compared_35 (by decide) ?_
      refine nv_iadd hx hb dX2_compared_36 (fun vA eA => ?_)
      refine xq_putaK hx hb hts hown hK hW hS q216 dX2_compared_37 (fun H1 locs1 hW1 z1 o1 hS1 => ?_)
      rw [xq_fa, eA] at hW1
      refine wm_new (V := fun k => if k = 1 then .int 0 else .null) hx hb hts in_X18 tyX18 tyX18_ok hown q1101 q1102 q111 hK (ci := 15) rfl (fun j hj => by rcases (show j = 0 ∨ j = 1 ∨ j = 2 ∨ j = 3 ∨ j = 4 by omega) with rfl | rfl | rfl | rfl | rfl <;> rfl) hS1 (by show xq_m p0 p + 1 ≤ xq_m p0 r.2.1; omega) (by show 5 * xq_m p0 p + 5 ≤ 5 * xq_m p0 r.2.1; omega) dX2_compared_40 (fun H2 hO z2 o2 hS2 => ?_)
      refine lv_dup hx hb dX2_compared_43 rfl ?_
      refine lv_aload_n hx hb dX2_compared_44 rfl (lv_at hl 2 rfl) ?_
      have hW2 := hW1.made (by omega) o2
      refine xq_get hx hb hts hown hK hW2 3 (by decide) (v := .ref o) rfl q218 rfl dX2_compared_45 ?_
      refine lv_iload_n hx hb dX2_compared_48 rfl (lv_at hl 0 rfl) ?_
      refine lv_aload_n hx hb dX2_compared_49 rfl (lv_at hl 1 rfl) ?_
      refine lv_aload_n hx hb dX2_compared_50 rfl (lv_at hl 2 rfl) ?_
      have kk2 := (xq_K.same z1 o1).tr (xq_K.made (o := o) z2 o2)
      have hk2 := hk.tr kk2
      refine xq_call (rest := [.ref a, .int (xq_nx X p), .ref o, .ref H1.size, .ref H1.size]) ⟨hx, hb, hml, hown, hts⟩ hK hN hA hz hlocks htb hC (lw_V q940 q942 qs14 q89 q943) (by decide +kernel) ⟨Nat.le_refl _, by show _ ≤ 60 * (d + 1); omega⟩ hW2 hS2 hk2 hD p00 (by omega) (by omega) hB.1 hgo2 hge (fun h => by rw [← hr0]; exact xq_co2_no h) (Nat.le_of_eq m1.symm) (by omega) hl.1 (Nat.le_of_ble_eq_true rfl) dX2_compared_51 (fun u a2 D3 H3 locs3 hu hW3 hT3 hk3 hD3 hS3 => ?_)
      rw [xq_co2_so hu] at hr0
      have g4 := hgo2.2.2.2.2 u hu
      have hbz : xg_d D H1.size = (0, 0) := hW1.dnw _ (Nat.le_refl _)
      have hb3 : xg_d D3 H1.size = (0, 0) := (hD3.2.2.2 _ (by omega)).trans hbz
      have hl1 := hW1.lim
      have hO3 := hO.kept (hk3.2 _ (by omega) (by omega))
      have hT2 := xt_K hW (kk2.tr hk3) (hD3.up kk2.1) hT
      have hh : xq_m p0 (f (p + 1) q).2.1 = (xq_m p0 (f (p + 1) q).2.1 - 1) + 1 := by unfold xq_m; omega
      refine xq_both (g := (xq_nx X p)) (h := xq_m p0 (f (p + 1) q).2.1 - 1) (rest := [.ref H1.size]) ⟨hx, hb, hml, hown, hts⟩ hK hN hW3 hO3 hb3 (by omega) (xq_k3_sg hok) (xt_le (by unfold xq_m; omega) hT2) (xt_le (by unfold xq_m; omega) hT3) ⟨by show 3 ≤ d + 1; omega, by show 144 ≤ 60 * (d + 1); omega⟩ hl.1 (Nat.le_of_ble_eq_true rfl) dX2_compared_54 ⟨xq_mm (by omega) hge, Nat.mul_le_mul_left 5 (xq_mm (by omega) hge)⟩ hS3 (fun H4 locs4 hW4 hT4 z4 o4 hS4 => ?_)
      rw [← hh] at hT4
      have hs0 := hk.1
      subst hr0
      exact xz_aret hx hb hr hlocks hW4 hS4 ⟨rfl, rfl, (hk2.tr hk3).node (by omega) z4 o4, (hD.tr hk2.1 hD3).node (by omega), _, _, rfl, rfl, hT4⟩ (Nat.le_refl _) (Nat.le_refl _) dX2_compared_57
    refine lv_iload_n hx hb dX2_compared_10 rfl (lv_at hl 0 rfl) ?_
    refine lv_bipush (v := 60) hx hb dX2_compared_11 (by decide) ?_
    refine lv_icmp_eq (tgt := 30) hx hb dX2_compared_13 (by decide) (fun c13 => KB) (fun c13 => ?_)
    refine lv_iload_n hx hb dX2_compared_16 rfl (lv_at hl 0 rfl) ?_
    refine lv_bipush (v := 61) hx hb dX2_compared_17 (by decide) ?_
    refine lv_icmp_eq (tgt := 30) hx hb dX2_compared_19 (by decide) (fun c19 => KB) (fun c19 => ?_)
    refine lv_iload_n hx hb dX2_compared_22 rfl (lv_at hl 0 rfl) ?_
    refine lv_bipush (v := 62) hx hb dX2_compared_23 (by decide) ?_
    refine lv_icmp_eq (tgt := 30) hx hb dX2_compared_25 (by decide) (fun c25 => KB) (fun c25 => absurd hok (fun h => (xq_k3_i.mp h).elim c13 (fun h => h.elim c19 c25)))
  · rw [xq_co1_n hok] at hr0
    refine lv_iload_n hx hb dX2_compared_10 rfl (lv_at hl 0 rfl) ?_
    refine lv_bipush (v := 60) hx hb dX2_compared_11 (by decide) ?_
    refine lv_icmp_eq (tgt := 30) hx hb dX2_compared_13 (by decide) (fun c => absurd (xq_k3_i.mpr (Or.inl c)) hok) (fun _ => ?_)
    refine lv_iload_n hx hb dX2_compared_16 rfl (lv_at hl 0 rfl) ?_
    refine lv_bipush (v := 61) hx hb dX2_compared_17 (by decide) ?_
    refine lv_icmp_eq (tgt := 30) hx hb dX2_compared_19 (by decide) (fun c => absurd (xq_k3_i.mpr (Or.inr (Or.inl c))) hok) (fun _ => ?_)
    refine lv_iload_n hx hb dX2_compared_22 rfl (lv_at hl 0 rfl) ?_
    refine lv_bipush (v := 62) hx hb dX2_compared_23 (by decide) ?_
    refine lv_icmp_eq (tgt := 30) hx hb dX2_compared_25 (by decide) (fun c => absurd (xq_k3_i.mpr (Or.inr (Or.inr c))) hok) (fun _ => ?_)
    refine lv_aload_n hx hb dX2_compared_28 rfl (lv_at hl 1 rfl) ?_
    subst hr0
    exact xz_aret hx hb hr hlocks hW hS ⟨rfl, rfl, hk, hD, t, a, rfl, rfl, hT⟩ (Nat.le_refl _) (Nat.le_refl _) dX2_compared_29

set_option maxHeartbeats 4000000 in
theorem xl_one (lQ : Launch) (G : wm_G) (o d0 z : Nat) (X : mm_S) (E : mm_E) (hz : z ≤ o) (hL : xv_L X) (d : Nat) (hd : 3 ≤ d) (f g : xq_f) (Bf Bg : Int32 → Prop) (hf : xq_gof (fd_ X 22).toInt f) (hg : xq_gof (fd_ X 22).toInt g) (hC : xq_Con lQ G o d0 z X E yX2_one (ws_ yX2_one cX2_one 4 (some (.object "ThirtyThreeBelow$Term"))) d f Bf) (hCg : xq_Con lQ G o d0 z X E yX2_any (ws_ yX2_any cX2_any 2 (some (.object "ThirtyThreeBelow$Term"))) d g Bg) : xq_Con lQ G o d0 z X E yX2_one (ws_ yX2_one cX2_one 4 (some (.object "ThirtyThreeBelow$Term"))) (d + 1) (xq_on (xq_nx X) f g) (fun q => (¬ q = 8 → Bf (q + 1) ∧ Bg (q + 1)) ∧ 0 ≤ q.toInt ∧ q.toInt ≤ 8) := by
  intro D0 Hz p0 q hWz p00 p01 hB
  have hn : (fd_ X 22).toInt ≤ 160 := hL.2
  have hnx : ∀ k : Int32, 0 ≤ k.toInt → ¬ xq_nx X k = -1 → k.toInt < (fd_ X 22).toInt := fun _ _ h => (xq_nx_lt h).1
  have hgr := xq_on_go hn hnx hf hg p0 q p00 p01 hB.2.1 hB.2.2
  generalize hr0 : (xq_on (xq_nx X) f g) p0 q = r
  rw [hr0] at hgr
  refine xy_start (own := RX2) (by decide +kernel) (Nat.le_of_ble_eq_true rfl) rfl (fun pQ eQ sQ mQ belowQ methQ cQ hx hb hml hr hlocks htb hts hown hK hN hHz hA hS ls hl => ?_)
  have hl : lv_has ls 4 [(0, .ref (o + 16))] := hl
  subst hHz
  have hW := hWz
  have hro : (0 : Nat) ≤ xq_m p0 r.2.1 ∧ 0 ≤ 5 * xq_m p0 r.2.1 := ⟨Nat.zero_le _, Nat.zero_le _⟩
  by_cases h18 : xq_nx X p0 = 33 ∨ xq_nx X p0 = 45
  · have KT : ∀ b : Int32, (b = 0 ∨ b = 1) → xq_tn f b p0 q = r → ∀ ls : Array Slot, lv_has ls 4 [(1, .int b), (0, .ref (o + 16))] → W pQ lQ eQ (wm_rc (d + 1) (xq_m p0 r.2.1) (5 * xq_m p0 r.2.1)) sQ mQ ([Value.ref (o + 16)] : List Value).toArray belowQ methQ cQ sQ.heap [] 0 0 (xz_Q G o d0 (xq_P G o X E D0 sQ.heap p0 r) RX3 (xq_X o X E D0 sQ.heap r) belowQ ([Value.ref (o + 16)] : List Value).toArray sQ (xq_m p0 r.2.1) (5 * xq_m p0 r.2.1)) (F0 mQ 33 ls []) := by
      intro b hb01 hr1 ls hl
      have hp := hnx p0 p00 (fun y => by rcases h18 with h | h <;> rw [h] at y <;> exact absurd y (by decide))
      have e1 := ww_a1 (p := p0) (by omega) p00
      refine lv_aload_n hx hb dX2_one_33 rfl (lv_at hl 1 rfl) ?_
      refine xz_call (xz_rV (As := []) (rest := []) (n := 0) (d := 0) (mc := 0) (ms := 0) ⟨hx, hb, hml, hown, hts⟩ hK hN (xn_deeper lQ G o d0 X E D0 sQ.heap p0 q hW) (lw_V q956 q958 qs18 q89 q959) (xr_rdr hK hW) (by decide +kernel) rfl ⟨by show 1 ≤ d + 1; omega, by show 8 + (1 + 11) + 60 * 0 ≤ 60 * (d + 1); omega⟩ hl.1 rfl (Nat.le_of_ble_eq_true rfl) dX2_one_34 ⟨Nat.zero_le _, Nat.zero_le _⟩) hS (fun q9 ce Xx Ex Dx Hx locsx hPx hWx hSx w1 w2 w3 => ?_) (fun vx Xx Ex Dx H1 locs1 hPx hW1 hS1 => ?_)
      rotate_left
      obtain ⟨eE, eD, c8, eV, eX, z1, o1⟩ := hPx
      rw [eE, eD, eX] at hW1
      rw [eV]
      clear eE eD eX eV
      rotate_left
      obtain ⟨eX, eE, eD, c8, eH⟩ := hPx
      rw [eX, eE, eD] at hWx
      · have hr2 : r = (none, p0, q) := by rw [← hr1]; unfold xq_tn; rw [if_pos c8]
        exact xz_on (fun x h => (htb x h).elim) hlocks hWx hSx ⟨rfl, by rw [hr2], by rw [eH]; exact xq_K.rf _ _, xq_D.rf _ _, by rw [hr2]⟩ w1 w2 w3 (Nat.zero_le _) (Nat.zero_le _)
      have e8 : (8 : Int32).toInt = 8 := by decide
      have c8n := ww_ne c8
      have eq1 := ww_a1 (p := q) (by omega) hB.2.1
      have hgo := hf (p0 + 1) (q + 1) (by omega) (by omega) (by omega) (by omega)
      have hgo3 := hgo.1
      have hen : (f (p0 + 1) (q + 1)).2.1.toInt ≤ r.2.1.toInt := by
        rw [← hr1]
        rcases h : (f (p0 + 1) (q + 1)).1 with _ | u
        · rw [xq_tn_no c8 h]; exact Int.le_refl _
        · rw [xq_tn_so c8 h]; exact Int.le_refl _
      have m0 : xq_m p0 p0 = 0 := by unfold xq_m; omega
      have m1 := xq_m1 p00 (Int.le_refl p0.toInt) (show p0.toInt < 1000 by omega)
      have m2 : xq_m p0 (p0 + 1) ≤ xq_m p0 r.2.1 := xq_mm (by omega) (by omega)
      refine wm_new (V := fun k => if k = 1 then .int 0 else .null) hx hb hts in_X15 tyX15 tyX15_ok hown q960 q961 q103 hK (ci := 12) rfl (fun j hj => by rcases (show j = 0 ∨ j = 1 ∨ j = 2 ∨ j = 3 by omega) with rfl | rfl | rfl | rfl <;> rfl) hS1 (by show 0 + 0 + 1 ≤ xq_m p0 r.2.1; omega) (by show 0 + 0 + 4 ≤ 5 * xq_m p0 r.2.1; omega) dX2_one_37 (fun H2 hO z2 o2 hS2 => ?_)
      refine lv_dup hx hb dX2_one_40 rfl ?_
      refine lv_aload_n hx hb dX2_one_41 rfl (lv_at hl 1 rfl) ?_
      have hW2 := hW1.made (by omega) o2
      refine xq_get hx hb hts hown hK hW2 3 (by decide) (v := .ref o) rfl q218 rfl dX2_one_42 ?_
      refine lv_iload_n hx hb dX2_one_45 rfl (lv_at hl 0 rfl) ?_
      refine lv_aload_n hx hb dX2_one_46 rfl (lv_at hl 1 rfl) ?_
      have hk2 := (xq_K.same z1 o1).tr (xq_K.made (o := o) z2 o2)
      refine xq_call (rest := [.int b, .ref o, .ref H1.size, .ref H1.size]) ⟨hx, hb, hml, hown, hts⟩ hK hN hA hz hlocks htb hC (lw_V q948 q950 qs16 q89 q951) (by decide +kernel) ⟨Nat.le_refl _, by show _ ≤ 60 * (d + 1); omega⟩ hW2 hS2 hk2 (xq_D.rf _ _) p00 (by omega) (by omega) (hB.1 c8).1 hgo hen (fun h => by rw [← hr1]; exact xq_tn_no c8 h) (by omega) (by omega) hl.1 (Nat.le_of_ble_eq_true rfl) dX2_one_47 (fun u a2 D3 H3 locs3 hu hW3 hT3 hk3 hD3 hS3 => ?_)
      rw [xq_tn_so c8 hu] at hr1
      have g4 := hgo.2.2.2.2 u hu
      have hbz : xg_d D0 H1.size = (0, 0) := hW1.dnw _ (Nat.le_refl _)
      have hb3 : xg_d D3 H1.size = (0, 0) := (hD3.2.2.2 _ (by omega)).trans hbz
      have hl1 := hW1.lim
      have hO3 := hO.kept (hk3.2 _ (by omega) (by omega))
      have hh : xq_m p0 (f (p0 + 1) (q + 1)).2.1 = (xq_m p0 (f (p0 + 1) (q + 1)).2.1 - 1) + 1 := by unfold xq_m; omega
      refine xq_turned (g := b) (h := xq_m p0 (f (p0 + 1) (q + 1)).2.1 - 1) (rest := [.ref H1.size]) hb01 ⟨hx, hb, hml, hown, hts⟩ hK hN hW3 hO3 hb3 (by omega) (xt_le (by unfold xq_m; omega) hT3) ⟨by show 3 ≤ d + 1; omega, by show 144 ≤ 60 * (d + 1); omega⟩ hl.1 (Nat.le_of_ble_eq_true rfl) dX2_one_50 ⟨xq_mm (by omega) hen, Nat.mul_le_mul_left 5 (xq_mm (by omega) hen)⟩ hS3 (fun H4 locs4 hW4 hT4 z4 o4 hS4 => ?_)
      rw [← hh] at hT4
      refine lv_astore_n (lv' := [(2, .ref H1.size), (1, .int b), (0, .ref (o + 16))]) hx hb dX2_one_53 rfl hl (by decide) rfl (fun ls hl => ?_)
      refine lv_aload_n hx hb dX2_one_54 rfl (lv_at hl 2 rfl) ?_
      refine lv_dup hx hb dX2_one_55 rfl ?_
      refine xq_get hx hb hts hown hK hW4 2 (by decide) (v := .int (f (p0 + 1) (q + 1)).2.2) (by rw [fd_xq_o]; rfl) q217 rfl dX2_one_56 ?_
      refine lv_iconst (v := 1) hx hb dX2_one_59 (by decide) ?_
      refine nv_isub hx hb dX2_one_60 (fun vA eA => ?_)
      refine xq_putoK hx hb hts hown hK hW4 hS4 q217 dX2_one_61 (fun H5 locs5 hW5 z5 o5 hS5 => ?_)
      rw [xq_fo, eA] at hW5
      refine lv_aload_n hx hb dX2_one_64 rfl (lv_at hl 0 rfl) ?_
      subst hr1
      exact xz_aret hx hb hr hlocks hW5 hS5 ⟨rfl, rfl, ((hk2.tr hk3).node (by omega) z4 o4).tr (xq_K.same z5 o5), ((xq_D.rf _ _).tr hk2.1 hD3).node (by omega), _, _, rfl, rfl, xt_K hW4 (xq_K.same z5 o5) (xq_D.rf _ _) hT4⟩ (Nat.le_refl _) (Nat.le_refl _) dX2_one_65
    have K18 : W pQ lQ eQ (wm_rc (d + 1) (xq_m p0 r.2.1) (5 * xq_m p0 r.2.1)) sQ mQ ([Value.ref (o + 16)] : List Value).toArray belowQ methQ cQ sQ.heap [] 0 0 (xz_Q G o d0 (xq_P G o X E D0 sQ.heap p0 r) RX3 (xq_X o X E D0 sQ.heap r) belowQ ([Value.ref (o + 16)] : List Value).toArray sQ (xq_m p0 r.2.1) (5 * xq_m p0 r.2.1)) (F0 mQ 18 ls []) := by
      refine lv_aload_n hx hb dX2_one_18 rfl (lv_at hl 0 rfl) ?_
      refine xq_next (rest := []) ⟨hx, hb, hml, hown, hts⟩ hK hN hL hW p00 ⟨by show 1 ≤ d + 1; omega, by show 20 ≤ 60 * (d + 1); omega⟩ hl.1 (Nat.le_of_ble_eq_true rfl) dX2_one_19 hro ?_
      refine lv_bipush (v := 45) hx hb dX2_one_22 (by decide) ?_
      refine lv_icmp_ne (tgt := 31) hx hb dX2_one_24 (by decide) (fun c24 => ?_) (fun c24 => ?_)
      · refine lv_iconst (v := 0) hx hb dX2_one_31 (by decide) ?_
        refine lv_istore_n (lv' := [(1, .int 0), (0, .ref (o + 16))]) hx hb dX2_one_32 rfl hl (by decide) rfl (fun ls hl => ?_)
        have h33 : xq_nx X p0 = 33 := h18.resolve_right c24
        exact KT 0 (Or.inl rfl) (by rw [← hr0, xq_on, if_pos h33]) ls hl
      · refine lv_iconst (v := 1) hx hb dX2_one_27 (by decide) ?_
        refine lv_goto (tgt := 32) hx hb dX2_one_28 (by decide) ?_
        refine lv_istore_n (lv' := [(1, .int 1), (0, .ref (o + 16))]) hx hb dX2_one_32 rfl hl (by decide) rfl (fun ls hl => ?_)
        exact KT 1 (Or.inr rfl) (by rw [← hr0, xq_on, if_neg (by rw [c24]; decide), if_pos c24]) ls hl
    refine lv_aload_n hx hb dX2_one_0 rfl (lv_at hl 0 rfl) ?_
    refine xq_next (rest := []) ⟨hx, hb, hml, hown, hts⟩ hK hN hL hW p00 ⟨by show 1 ≤ d + 1; omega, by show 20 ≤ 60 * (d + 1); omega⟩ hl.1 (Nat.le_of_ble_eq_true rfl) dX2_one_1 hro ?_
    refine lv_bipush (v := 33) hx hb dX2_one_4 (by decide) ?_
    refine lv_icmp_eq (tgt := 18) hx hb dX2_one_6 (by decide) (fun _ => K18) (fun c6 => ?_)
    refine lv_aload_n hx hb dX2_one_9 rfl (lv_at hl 0 rfl) ?_
    refine xq_next (rest := []) ⟨hx, hb, hml, hown, hts⟩ hK hN hL hW p00 ⟨by show 1 ≤ d + 1; omega, by show 20 ≤ 60 * (d + 1); omega⟩ hl.1 (Nat.le_of_ble_eq_true rfl) dX2_one_10 hro ?_
    refine lv_bipush (v := 45) hx hb dX2_one_13 (by decide) ?_
    refine lv_icmp_ne (tgt := 66) hx hb dX2_one_15 (by decide) (fun c15 => absurd h18 (fun h => h.elim c6 c15)) (fun _ => K18)
  have n33 : ¬ xq_nx X p0 = 33 := fun h => h18 (Or.inl h)
  have n45 : ¬ xq_nx X p0 = 45 := fun h => h18 (Or.inr h)
  refine lv_aload_n hx hb dX2_one_0 rfl (lv_at hl 0 rfl) ?_
  refine xq_next (rest := []) ⟨hx, hb, hml, hown, hts⟩ hK hN hL hW p00 ⟨by show 1 ≤ d + 1; omega, by show 20 ≤ 60 * (d + 1); omega⟩ hl.1 (Nat.le_of_ble_eq_true rfl) dX2_one_1 hro ?_
  refine lv_bipush (v := 33) hx hb dX2_one_4 (by decide) ?_
  refine lv_icmp_eq (tgt := 18) hx hb dX2_one_6 (by decide) (fun c => absurd c n33) (fun _ => ?_)
  refine lv_aload_n hx hb dX2_one_9 rfl (lv_at hl 0 rfl) ?_
  refine xq_next (rest := []) ⟨hx, hb, hml, hown, hts⟩ hK hN hL hW p00 ⟨by show 1 ≤ d + 1; omega, by show 20 ≤ 60 * (d + 1); omega⟩ hl.1 (Nat.le_of_ble_eq_true rfl) dX2_one_10 hro ?_
  refine lv_bipush (v := 45) hx hb dX2_one_13 (by decide) ?_
  refine lv_icmp_ne (tgt := 66) hx hb dX2_one_15 (by decide) (fun _ => ?_) (fun c => absurd c n45)
  rw [xq_on, if_neg n33, if_neg n45] at hr0
  refine lv_aload_n hx hb dX2_one_66 rfl (lv_at hl 0 rfl) ?_
  refine xq_next (rest := []) ⟨hx, hb, hml, hown, hts⟩ hK hN hL hW p00 ⟨by show 1 ≤ d + 1; omega, by show 20 ≤ 60 * (d + 1); omega⟩ hl.1 (Nat.le_of_ble_eq_true rfl) dX2_one_67 hro ?_
  refine lv_bipush (v := 40) hx hb dX2_one_70 (by decide) ?_
  refine lv_icmp_ne (tgt := 110) hx hb dX2_one_72 (by decide) (fun c72 => ?_) (fun c72 => ?_)
  rotate_left
  · rw [if_pos c72] at hr0
    have hp := hnx p0 p00 (fun y => by rw [c72] at y; exact absurd y (by decide))
    have e1 := ww_a1 (p := p0) (by omega) p00
    refine lv_aload_n hx hb dX2_one_75 rfl (lv_at hl 0 rfl) ?_
    refine xz_call (xz_rV (As := []) (rest := []) (n := 0) (d := 0) (mc := 0) (ms := 0) ⟨hx, hb, hml, hown, hts⟩ hK hN (xn_deeper lQ G o d0 X E D0 sQ.heap p0 q hW) (lw_V q956 q958 qs18 q89 q959) (xr_rdr hK hW) (by decide +kernel) rfl ⟨by show 1 ≤ d + 1; omega, by show 8 + (1 + 11) + 60 * 0 ≤ 60 * (d + 1); omega⟩ hl.1 rfl (Nat.le_of_ble_eq_true rfl) dX2_one_76 ⟨Nat.zero_le _, Nat.zero_le _⟩) hS (fun q9 ce Xx Ex Dx Hx locsx hPx hWx hSx w1 w2 w3 => ?_) (fun vx Xx Ex Dx H1 locs1 hPx hW1 hS1 => ?_)
    rotate_left
    obtain ⟨eE, eD, c8, eV, eX, z1, o1⟩ := hPx
    rw [eE, eD, eX] at hW1
    rw [eV]
    clear eE eD eX eV
    rotate_left
    obtain ⟨eX, eE, eD, c8, eH⟩ := hPx
    rw [eX, eE, eD] at hWx
    · have hr2 : r = (none, p0, q) := by rw [← hr0]; unfold xq_pa; rw [if_pos c8]
      exact xz_on (fun x h => (htb x h).elim) hlocks hWx hSx ⟨rfl, by rw [hr2], by rw [eH]; exact xq_K.rf _ _, xq_D.rf _ _, by rw [hr2]⟩ w1 w2 w3 (Nat.zero_le _) (Nat.zero_le _)
    have e8 : (8 : Int32).toInt = 8 := by decide
    have c8n := ww_ne c8
    have eq1 := ww_a1 (p := q) (by omega) hB.2.1
    have hgo := hg (p0 + 1) (q + 1) (by omega) (by omega) (by omega) (by omega)
    have hgo3 := hgo.1
    have hgo5 := hgo.2.1
    have hen : (g (p0 + 1) (q + 1)).2.1.toInt ≤ r.2.1.toInt := by
      rw [← hr0]
      rcases h : (g (p0 + 1) (q + 1)).1 with _ | u
      · rw [xq_pa_no c8 h]; exact Int.le_refl _
      · rw [xq_pa_so c8 h]
        split
        · rename_i y
          have y2 := hnx _ (by omega) (xq_ne y (by decide))
          have y3 := ww_a1 (p := (g (p0 + 1) (q + 1)).2.1) (by omega) (by omega)
          show _ ≤ ((g (p0 + 1) (q + 1)).2.1 + 1).toInt
          omega
        · exact Int.le_refl _
    refine lv_aload_n hx hb dX2_one_79 rfl (lv_at hl 0 rfl) ?_
    have hk1 := xq_K.same z1 o1
    refine xq_call (rest := []) ⟨hx, hb, hml, hown, hts⟩ hK hN hA hz hlocks htb hCg (lw_V q928 q930 qs11 q89 q931) (by decide +kernel) ⟨Nat.le_refl _, by show _ ≤ 60 * (d + 1); omega⟩ hW1 hS1 hk1 (xq_D.rf _ _) p00 (by omega) (by omega) (hB.1 c8).2 hgo hen (fun h => by rw [← hr0]; exact xq_pa_no c8 h) (Nat.zero_le _) (Nat.zero_le _) hl.1 (Nat.le_of_ble_eq_true rfl) dX2_one_80 (fun u a2 D3 H3 locs3 hu hW3 hT3 hk3 hD3 hS3 => ?_)
    rw [xq_pa_so c8 hu] at hr0
    have g4 := hgo.2.2.2.2 u hu
    refine lv_astore_n (lv' := [(1, .ref a2), (0, .ref (o + 16))]) hx hb dX2_one_83 rfl hl (by decide) rfl (fun ls hl => ?_)
    refine lv_aload_n hx hb dX2_one_84 rfl (lv_at hl 1 rfl) ?_
    refine lv_bipush (v := 41) hx hb dX2_one_85 (by decide) ?_
    refine xq_take_ (rest := []) ⟨hx, hb, hml, hown, hts⟩ hK hN hL hW3 (by omega) hS3 ⟨by show 2 ≤ d + 1; omega, by show 81 ≤ 60 * (d + 1); omega⟩ hl.1 (Nat.le_of_ble_eq_true rfl) dX2_one_87 ⟨xq_mm (by omega) hen, Nat.mul_le_mul_left 5 (xq_mm (by omega) hen)⟩ (fun ct H4 locs4 hW4 z4 o4 hS4 => ?_) (fun ct H4 locs4 hW4 z4 o4 hS4 => ?_)
    · rw [if_pos ct] at hr0
      refine lv_if_ne (tgt := 98) hx hb dX2_one_90 (by decide) (fun _ => ?_) (fun c => absurd c (by decide))
      refine lv_aload_n hx hb dX2_one_98 rfl (lv_at hl 1 rfl) ?_
      refine lv_dup hx hb dX2_one_99 rfl ?_
      refine xq_get hx hb hts hown hK hW4 2 (by decide) (v := .int (g (p0 + 1) (q + 1)).2.2) (by rw [fd_xq_o]; rfl) q217 rfl dX2_one_100 ?_
      refine lv_iconst (v := 1) hx hb dX2_one_103 (by decide) ?_
      refine nv_isub hx hb dX2_one_104 (fun vA eA => ?_)
      refine xq_putoK hx hb hts hown hK hW4 hS4 q217 dX2_one_105 (fun H5 locs5 hW5 z5 o5 hS5 => ?_)
      rw [xq_fo, eA] at hW5
      refine lv_aload_n hx hb dX2_one_108 rfl (lv_at hl 0 rfl) ?_
      have y2 := hnx _ (by omega) (xq_ne ct (by decide))
      have y3 := ww_a1 (p := (g (p0 + 1) (q + 1)).2.1) (by omega) (by omega)
      have kk := (xq_K.same z4 o4).tr (xq_K.same z5 o5)
      subst hr0
      exact xz_aret hx hb hr hlocks hW5 hS5 ⟨rfl, rfl, (hk1.tr hk3).tr kk, hD3.up hk1.1, _, _, rfl, rfl, xt_le (by unfold xq_m; omega) (xt_K hW3 kk (xq_D.rf _ _) hT3)⟩ (xq_mm (by omega) hen) (Nat.mul_le_mul_left 5 (xq_mm (by omega) hen)) dX2_one_109
    · rw [if_neg ct] at hr0
      refine lv_if_ne (tgt := 98) hx hb dX2_one_90 (by decide) (fun c => absurd rfl c) (fun _ => ?_)
      refine lv_aload_n hx hb dX2_one_93 rfl (lv_at hl 1 rfl) ?_
      refine xq_get hx hb hts hown hK hW4 0 (by decide) (v := .ref (o + 17)) rfl q215 rfl dX2_one_94 ?_
      obtain ⟨ceT, wT1, wT2, wT3⟩ := xz_fault hK hW4
      refine vx_athrow hx hb dX2_one_97 (xz_on (fun x h => (htb x h).elim) hlocks hW4 hS4 ⟨rfl, by rw [← hr0], (hk1.tr hk3).tr (xq_K.same z4 o4), hD3.up hk1.1, by rw [← hr0]⟩ wT1 wT2 wT3 (xq_mm (by omega) hen) (Nat.mul_le_mul_left 5 (xq_mm (by omega) hen)))
  rw [if_neg c72] at hr0
  have K130 : ∀ v : Int32, v = ff_nameOf (xq_nx X p0) → W pQ lQ eQ (wm_rc (d + 1) (xq_m p0 r.2.1) (5 * xq_m p0 r.2.1)) sQ mQ ([Value.ref (o + 16)] : List Value).toArray belowQ methQ cQ sQ.heap [] 0 0 (xz_Q G o d0 (xq_P G o X E D0 sQ.heap p0 r) RX3 (xq_X o X E D0 sQ.heap r) belowQ ([Value.ref (o + 16)] : List Value).toArray sQ (xq_m p0 r.2.1) (5 * xq_m p0 r.2.1)) (F0 mQ 130 ls [.int v]) := by
    intro v hv
    refine lv_istore_n (lv' := [(1, .int v), (0, .ref (o + 16))]) hx hb dX2_one_130 rfl hl (by decide) rfl (fun ls hl => ?_)
    refine lv_iload_n hx hb dX2_one_131 rfl (lv_at hl 0 rfl) ?_
    refine lv_if_lt (tgt := 158) hx hb dX2_one_132 (by decide) (fun c132 => ?_) (fun c132 => ?_)
    rotate_left
    · rw [hv] at c132
      rw [if_neg c132] at hr0
      have nm := xq_nm_t c132
      have hp := hnx p0 p00 (fun y => by rw [y] at c132; exact absurd (by decide) c132)
      have e1 := ww_a1 (p := p0) (by omega) p00
      have m1 := xq_m1 p00 (Int.le_refl p0.toInt) (show p0.toInt < 1000 by omega)
      refine lv_aload_n hx hb dX2_one_135 rfl (lv_at hl 1 rfl) ?_
      refine lv_dup hx hb dX2_one_136 rfl ?_
      refine xq_get hx hb hts hown hK hW 1 (by decide) (v := .int p0) (by rw [fd_xq_a]; rfl) q216 rfl dX2_one_137 ?_
      refine lv_iconst (v := 1) hx hb dX2_one_140 (by decide) ?_
      refine nv_iadd hx hb dX2_one_141 (fun vA eA => ?_)
      refine xq_putaK hx hb hts hown hK hW hS q216 dX2_one_142 (fun H1 locs1 hW1 z1 o1 hS1 => ?_)
      rw [xq_fa, eA] at hW1
      have m2 : xq_m p0 (p0 + 1) ≤ xq_m p0 r.2.1 := by rw [← hr0]; exact Nat.le_refl _
      refine wm_new (V := fun k => if k = 1 then .int 0 else .null) hx hb hts in_X16 tyX16 tyX16_ok hown q1069 q1070 q109 hK (ci := 13) rfl (fun j hj => by rcases (show j = 0 ∨ j = 1 ∨ j = 2 by omega) with rfl | rfl | rfl <;> rfl) hS1 (by show 0 + 1 ≤ xq_m p0 r.2.1; omega) (by show 0 + 3 ≤ 5 * xq_m p0 r.2.1; omega) dX2_one_145 (fun H2 hO z2 o2 hS2 => ?_)
      refine lv_dup hx hb dX2_one_148 rfl ?_
      refine lv_aload_n hx hb dX2_one_149 rfl (lv_at hl 1 rfl) ?_
      have hW2 := hW1.made (by omega) o2
      refine xq_get hx hb hts hown hK hW2 3 (by decide) (v := .ref o) rfl q218 rfl dX2_one_150 ?_
      refine lv_iload_n hx hb dX2_one_153 rfl (lv_at hl 0 rfl) ?_
      have hbz : xg_d D0 H1.size = (0, 0) := hW1.dnw _ (Nat.le_refl _)
      have hl1 := hW1.lim
      have hk2 := (xq_K.same z1 o1).tr (xq_K.made (o := o) z2 o2)
      refine xq_named (g := v) (rest := [.ref H1.size]) (by rw [hv]; exact nm.1) (by rw [hv]; exact nm.2) ⟨hx, hb, hml, hown, hts⟩ hK hN hW2 hO hbz (by omega) ⟨by show 3 ≤ d + 1; omega, by show 144 ≤ 60 * (d + 1); omega⟩ hl.1 (Nat.le_of_ble_eq_true rfl) dX2_one_154 ⟨by show 0 + 1 ≤ xq_m p0 r.2.1; omega, by show 0 + 3 ≤ 5 * xq_m p0 r.2.1; omega⟩ hS2 (fun H4 locs4 hW4 hT4 z4 o4 hS4 => ?_)
      rw [hv] at hT4
      subst hr0
      have m3 : xq_m p0 (p0 + 1) = 1 := by rw [m1]; unfold xq_m; omega
      exact xz_aret hx hb hr hlocks hW4 hS4 ⟨rfl, rfl, hk2.node (by omega) z4 o4, (xq_D.rf _ _).node (by omega), _, _, rfl, rfl, by show xt_at G o _ _ (xq_m p0 (p0 + 1)) _ _; rw [m3]; exact hT4⟩ (by show 0 + 1 ≤ xq_m p0 (p0 + 1); omega) (by show 0 + 3 ≤ 5 * xq_m p0 (p0 + 1); omega) dX2_one_157
    rw [hv] at c132
    rw [if_pos c132] at hr0
    refine lv_iconst (v := 0) hx hb dX2_one_158 (by decide) ?_
    refine lv_istore_n (lv' := [(2, .int 0), (1, .int v), (0, .ref (o + 16))]) hx hb dX2_one_159 rfl hl (by decide) rfl (fun ls hl => ?_)
    refine lv_iconst (v := 0) hx hb dX2_one_160 (by decide) ?_
    refine lv_istore_n (lv' := [(3, .int 0), (2, .int 0), (1, .int v), (0, .ref (o + 16))]) hx hb dX2_one_161 rfl hl (by decide) rfl (fun ls hl => ?_)
    have LD : ∀ (k : Nat) (c w p : Int32) (H : Heap) (locs : List Loc), 0 ≤ c.toInt → 6 - c.toInt ≤ k → c.toInt ≤ 5 → p0.toInt ≤ p.toInt → p.toInt ≤ (fd_ X 22).toInt → (¬ c = 0 → p0.toInt + 1 ≤ p.toInt) → (c = 0 → p = p0) → xq_dg (xq_nx X) k c w p q = r → xx_W G o d0 (xq_st X p q) E D0 H → xq_K o sQ.heap H → va_S (xx_F o d0) sQ.heap H locs → ∀ ls : Array Slot, lv_has ls 4 [(3, .int c), (2, .int w), (1, .int v), (0, .ref (o + 16))] → W pQ lQ eQ (wm_rc (d + 1) (xq_m p0 r.2.1) (5 * xq_m p0 r.2.1)) sQ mQ ([Value.ref (o + 16)] : List Value).toArray belowQ methQ cQ H locs 0 0 (xz_Q G o d0 (xq_P G o X E D0 sQ.heap p0 r) RX3 (xq_X o X E D0 sQ.heap r) belowQ ([Value.ref (o + 16)] : List Value).toArray sQ (xq_m p0 r.2.1) (5 * xq_m p0 r.2.1)) (F0 mQ 162 ls []) := by
      intro k
      induction k with
      | zero =>
        intro c w p H locs c0 c1 c2
        exact absurd c1 (by show ¬ _ ≤ (0 : Int); omega)
      | succ k ih =>
        intro c w p H locs c0 c1 c2 b1 b2 b3 b4 hdg hW hk hS ls hl
        have KF : xq_fin c w p q = r → W pQ lQ eQ (wm_rc (d + 1) (xq_m p0 r.2.1) (5 * xq_m p0 r.2.1)) sQ mQ ([Value.ref (o + 16)] : List Value).toArray belowQ methQ cQ H locs 0 0 (xz_Q G o d0 (xq_P G o X E D0 sQ.heap p0 r) RX3 (xq_X o X E D0 sQ.heap r) belowQ ([Value.ref (o + 16)] : List Value).toArray sQ (xq_m p0 r.2.1) (5 * xq_m p0 r.2.1)) (F0 mQ 218 ls []) := by
          intro hfin
          refine lv_iload_n hx hb dX2_one_218 rfl (lv_at hl 0 rfl) ?_
          refine lv_if_ne (tgt := 227) hx hb dX2_one_219 (by decide) (fun c219 => ?_) (fun c219 => ?_)
          · rw [xq_fin, if_neg c219] at hfin
            have b3 := b3 c219
            have m2 : 1 ≤ xq_m p0 p := by unfold xq_m; omega
            have m4 : xq_m p0 p = xq_m p0 r.2.1 := by rw [← hfin]
            refine wm_new (V := fun k => if k = 1 then .int 0 else .null) hx hb hts in_X17 tyX17 tyX17_ok hown q1087 q1088 q110 hK (ci := 14) rfl (fun j hj => by rcases (show j = 0 ∨ j = 1 ∨ j = 2 by omega) with rfl | rfl | rfl <;> rfl) hS (by show 0 + 1 ≤ xq_m p0 r.2.1; omega) (by show 0 + 3 ≤ 5 * xq_m p0 r.2.1; omega) dX2_one_227 (fun H2 hO z2 o2 hS2 => ?_)
            refine lv_dup hx hb dX2_one_230 rfl ?_
            refine lv_aload_n hx hb dX2_one_231 rfl (lv_at hl 3 rfl) ?_
            have hW2 := hW.made (by omega) o2
            refine xq_get hx hb hts hown hK hW2 3 (by decide) (v := .ref o) rfl q218 rfl dX2_one_232 ?_
            refine lv_iload_n hx hb dX2_one_235 rfl (lv_at hl 1 rfl) ?_
            have hbz : xg_d D0 H.size = (0, 0) := hW.dnw _ (Nat.le_refl _)
            have hl1 := hW.lim
            have hs0 := hk.1
            have hk2 := hk.tr (xq_K.made (o := o) z2 o2)
            refine xq_figure (g := w) (rest := [.ref H.size]) ⟨hx, hb, hml, hown, hts⟩ hK hN hW2 hO hbz (by omega) ⟨by show 3 ≤ d + 1; omega, by show 144 ≤ 60 * (d + 1); omega⟩ hl.1 (Nat.le_of_ble_eq_true rfl) dX2_one_236 ⟨by show 0 + 1 ≤ xq_m p0 r.2.1; omega, by show 0 + 3 ≤ 5 * xq_m p0 r.2.1; omega⟩ hS2 (fun H4 locs4 hW4 hT4 z4 o4 hS4 => ?_)
            subst hfin
            exact xz_aret hx hb hr hlocks hW4 hS4 ⟨rfl, rfl, hk2.node (by omega) z4 o4, (xq_D.rf _ _).node (by omega), _, _, rfl, rfl, xt_le m2 hT4⟩ (by show 0 + 1 ≤ xq_m p0 p; omega) (by show 0 + 3 ≤ 5 * xq_m p0 p; omega) dX2_one_239
          · rw [xq_fin, if_pos c219] at hfin
            refine lv_aload_n hx hb dX2_one_222 rfl (lv_at hl 3 rfl) ?_
            refine xq_get hx hb hts hown hK hW 0 (by decide) (v := .ref (o + 17)) rfl q215 rfl dX2_one_223 ?_
            obtain ⟨ceT, wT1, wT2, wT3⟩ := xz_fault hK hW
            refine vx_athrow hx hb dX2_one_226 (xz_on (fun x h => (htb x h).elim) hlocks hW hS ⟨rfl, by rw [← hfin], hk, xq_D.rf _ _, by rw [← hfin]⟩ wT1 wT2 wT3 (Nat.zero_le _) (Nat.zero_le _))
        refine lv_iload_n hx hb dX2_one_162 rfl (lv_at hl 0 rfl) ?_
        refine lv_iconst (v := 5) hx hb dX2_one_163 (by decide) ?_
        refine lv_icmp_ge (tgt := 218) hx hb dX2_one_164 (by decide) (fun c164 => ?_) (fun c164 => ?_)
        · rw [xq_dg, if_pos c164] at hdg
          exact KF hdg
        rw [xq_dg, if_neg c164] at hdg
        have t164 : c.toInt < 5 := ww_nle c164
        have p0p : 0 ≤ p.toInt := by omega
        refine lv_aload_n hx hb dX2_one_167 rfl (lv_at hl 3 rfl) ?_
        refine xq_next (rest := []) ⟨hx, hb, hml, hown, hts⟩ hK hN hL hW p0p ⟨by show 1 ≤ d + 1; omega, by show 20 ≤ 60 * (d + 1); omega⟩ hl.1 (Nat.le_of_ble_eq_true rfl) dX2_one_168 hro ?_
        refine nv_i2l hx hb dX2_one_171 (fun vL eL => ?_)
        refine lv_ldc2 (v := 48) hx hb hown (hts _ q1084) dX2_one_172 ?_
        refine lv_ldc2 (v := 57) hx hb hown (hts _ q1085) dX2_one_175 ?_
        refine pp_calliN (As := [.long vL, .long 48, .long 57]) (rest := []) (n := 3) ⟨hx, hb, hml, hown, hts⟩ (xc_within lQ vL 48 57) (lw_meth q461) (hN.nm q1086) q84 q460 (by decide +kernel) rfl ⟨by show 1 ≤ d + 1; omega, by show 8 + (6 + 11) + 60 * 0 ≤ 60 * (d + 1); omega⟩ hl.1 rfl (Nat.le_of_ble_eq_true rfl) dX2_one_178 hro (fun v178 e178 => ?_)
        have e178 : v178 = ff_in (xq_nx X p) 48 57 := by rw [e178, eL]; exact xf_within_in (xq_nx X p) 48 57
        refine lv_if_eq (tgt := 218) hx hb dX2_one_181 (by decide) (fun c181 => ?_) (fun c181 => ?_)
        · rw [e178] at c181
          rw [if_pos c181] at hdg
          exact KF hdg
        rw [e178] at c181
        rw [if_neg c181] at hdg
        have hne : ¬ xq_nx X p = -1 := fun y => by rw [y] at c181; exact absurd (by decide) c181
        have hp := hnx p p0p hne
        have e1 := ww_a1 (p := p) (by omega) p0p
        refine lv_bipush (v := 10) hx hb dX2_one_184 (by decide) ?_
        refine lv_iload_n hx hb dX2_one_186 rfl (lv_at hl 1 rfl) ?_
        refine nv_imul hx hb dX2_one_187 (fun vM eM => ?_)
        refine lv_aload_n hx hb dX2_one_188 rfl (lv_at hl 3 rfl) ?_
        refine xq_get hx hb hts hown hK hW 3 (by decide) (v := .ref o) rfl q218 rfl dX2_one_189 ?_
        refine xx_getaN hx hb hts hown hK hW 21 rfl (hN.nf q292) dX2_one_192 ?_
        refine lv_aload_n hx hb dX2_one_195 rfl (lv_at hl 3 rfl) ?_
        refine lv_dup hx hb dX2_one_196 rfl ?_
        refine xq_get hx hb hts hown hK hW 1 (by decide) (v := .int p) (by rw [fd_xq_a]; rfl) q216 rfl dX2_one_197 ?_
        refine lv_dup_x1 hx hb dX2_one_200 rfl rfl ?_
        refine lv_iconst (v := 1) hx hb dX2_one_201 (by decide) ?_
        refine nv_iadd hx hb dX2_one_202 (fun vA eA => ?_)
        refine xq_putaK hx hb hts hown hK hW hS q216 dX2_one_203 (fun H1 locs1 hW1 z1 o1 hS1 => ?_)
        rw [xq_fa, eA] at hW1
        refine xx_iald hx hb hK hW1 21 rfl (ww_in (by omega) (by have := hL.2; omega)) dX2_one_206 ?_
        rw [rd_xq (by decide) (by decide), ← (xq_nx_lt hne).2]
        refine nv_iadd hx hb dX2_one_207 (fun vB eB => ?_)
        refine lv_bipush (v := 48) hx hb dX2_one_208 (by decide) ?_
        refine nv_isub hx hb dX2_one_210 (fun vC eC => ?_)
        refine lv_istore_n (i := 2) (lv' := [(2, .int vC), (3, .int c), (1, .int v), (0, .ref (o + 16))]) hx hb dX2_one_211 rfl hl (by decide) rfl (fun ls hl => ?_)
        obtain ⟨vD, eD⟩ : ∃ yQ : Int32, yQ = c + 1 := ⟨_, rfl⟩
        refine lv_iinc (v := vD) (lv' := [(3, .int vD), (2, .int vC), (1, .int v), (0, .ref (o + 16))]) hx hb dX2_one_212 hl (k := 1) rfl (by rw [eD]; rfl) (by decide) rfl (fun ls hl => ?_)
        refine lv_goto (tgt := 162) hx hb dX2_one_215 (by decide) ?_
        have e2 := ww_a1 (p := c) (by omega) c0
        rw [← eD] at e2 hdg
        have hz0 : ¬ vD = 0 := fun y => by rw [y] at e2; have : (0 : Int32).toInt = 0 := by decide
                                           omega
        exact ih _ _ _ _ _ (by omega) (by omega) (by omega) (by omega) (by omega) (fun _ => by omega) (fun y => absurd y hz0) (by rw [eC, eB, eM]; exact hdg) hW1 (hk.tr (xq_K.same z1 o1)) hS1 ls hl
    exact LD 6 0 0 p0 sQ.heap [] (by decide) (by decide) (by decide) (Int.le_refl _) p01 (fun y => absurd rfl y) (fun _ => rfl) hr0 hW (xq_K.rf _ _) hS ls hl
  refine lv_aload_n hx hb dX2_one_110 rfl (lv_at hl 0 rfl) ?_
  refine xq_next (rest := []) ⟨hx, hb, hml, hown, hts⟩ hK hN hL hW p00 ⟨by show 1 ≤ d + 1; omega, by show 20 ≤ 60 * (d + 1); omega⟩ hl.1 (Nat.le_of_ble_eq_true rfl) dX2_one_111 hro ?_
  refine lv_if_le (tgt := 129) hx hb dX2_one_114 (by decide) (fun c114 => ?_) (fun c114 => ?_)
  · refine lv_iconst (v := (-1)) hx hb dX2_one_129 (by decide) ?_
    refine K130 (-1) ?_
    have t114 : (xq_nx X p0).toInt ≤ 0 := ww_le c114
    have ne : ∀ b : Int32, 0 < b.toInt → ¬ xq_nx X p0 = b := fun b b0 y => by rw [y] at t114; omega
    unfold ff_nameOf
    rw [if_neg (ne 100 (by decide)), if_neg (ne 102 (by decide)), if_neg (ne 104 (by decide)), if_neg (ne 105 (by decide)), if_neg (ne 107 (by decide)), if_neg (ne 110 (by decide)), if_neg (ne 115 (by decide)), if_neg (ne 116 (by decide))]
  obtain ⟨-, aK, aV, hP, hV⟩ := hA
  refine va_ldcS hx hb hown hV dX2_one_117 ?_
  refine lv_aload_n hx hb dX2_one_119 rfl (lv_at hl 0 rfl) ?_
  refine xq_next (rest := [.ref aK]) ⟨hx, hb, hml, hown, hts⟩ hK hN hL hW p00 ⟨by show 1 ≤ d + 1; omega, by show 20 ≤ 60 * (d + 1); omega⟩ hl.1 (Nat.le_of_ble_eq_true rfl) dX2_one_120 hro ?_
  refine xs_callV (As := [.int (xq_nx X p0)]) (rest := []) (n := 1) ⟨hx, hb, hml, hown, hts⟩ hP (xc_indexOf lQ z aK aV (xq_nx X p0)) (lw_V q987 q988 q989 q104 q990) (xs_recv hP) (by decide +kernel) rfl ⟨by show 4 ≤ d + 1; omega, by show 8 + (2 + 11) + 60 * 3 ≤ 60 * (d + 1); omega⟩ hl.1 rfl (Nat.le_of_ble_eq_true rfl) dX2_one_123 hro (fun v123 e123 => ?_)
  refine lv_goto (tgt := 130) hx hb dX2_one_126 (by decide) ?_
  exact K130 v123 e123

theorem xq_Con.mono {l : Launch} {G : wm_G} {o d0 z : Nat} {X : mm_S} {E : mm_E} {y : MethodName} {ws : List Cond} {d : Nat} {f : xq_f} {B B2 : Int32 → Prop} (h : xq_Con l G o d0 z X E y ws d f B) (hB : ∀ q, B2 q → B q) : xq_Con l G o d0 z X E y ws d f B2 := fun D H0 p q hW h0 h1 hq => h D H0 p q hW h0 h1 (hB q hq)
def xq_B (fu lv : Nat) (q : Int32) : Prop := 0 ≤ q.toInt ∧ q.toInt ≤ 8 ∧ 6 * (8 - q.toInt) + lv < fu
theorem xl_levels (lQ : Launch) (G : wm_G) (o d0 z : Nat) (X : mm_S) (E : mm_E) (hz : z ≤ o) (hL : xv_L X) (fu : Nat) : (xq_Con lQ G o d0 z X E yX2_one (ws_ yX2_one cX2_one 4 (some (.object "ThirtyThreeBelow$Term"))) (3 + fu) (xq_ps (xq_nx X) fu 0) (xq_B fu 0)) ∧ (xq_Con lQ G o d0 z X E yX2_product (ws_ yX2_product cX2_product 3 (some (.object "ThirtyThreeBelow$Term"))) (3 + fu) (xq_ps (xq_nx X) fu 1) (xq_B fu 1)) ∧ (xq_Con lQ G o d0 z X E yX2_sum (ws_ yX2_sum cX2_sum 3 (some (.object "ThirtyThreeBelow$Term"))) (3 + fu) (xq_ps (xq_nx X) fu 2) (xq_B fu 2)) ∧ (xq_Con lQ G o d0 z X E yX2_compared (ws_ yX2_compared cX2_compared 3 (some (.object "ThirtyThreeBelow$Term"))) (3 + fu) (xq_ps (xq_nx X) fu 3) (xq_B fu 3)) ∧ (xq_Con lQ G o d0 z X E yX2_all (ws_ yX2_all cX2_all 2 (some (.object "ThirtyThreeBelow$Term"))) (3 + fu) (xq_ps (xq_nx X) fu 4) (xq_B fu 4)) ∧ (xq_Con lQ G o d0 z X E yX2_any (ws_ yX2_any cX2_any 2 (some (.object "ThirtyThreeBelow$Term"))) (3 + fu) (xq_ps (xq_nx X) fu 5) (xq_B fu 5)) := by
  have hn : (fd_ X 22).toInt ≤ 160 := hL.2
  have hnx : ∀ k : Int32, 0 ≤ k.toInt → ¬ xq_nx X k = -1 → k.toInt < (fd_ X 22).toInt := fun _ _ h => (xq_nx_lt h).1
  induction fu with
  | zero =>
    refine ⟨?_, ?_, ?_, ?_, ?_, ?_⟩ <;> exact fun D H0 p q _ _ _ hB => absurd hB.2.2 (by have := hB.2.1; show ¬ _ < (0 : Int); omega)
  | succ fu ih =>
    obtain ⟨h0, h1, h2, h3, h4, h5⟩ := ih
    have hg := xq_ps_go hn hnx fu
    refine ⟨?_, ?_, ?_, ?_, ?_, ?_⟩
    · refine (xl_one lQ G o d0 z X E hz hL (3 + fu) (by omega) _ _ _ _ (hg 0) (hg 5) h0 h5).mono fun q hq => ?_
      obtain ⟨q0, q1, q2⟩ := hq
      refine ⟨fun h8 => ?_, q0, q1⟩
      have h8 := ww_ne h8
      have e8 : (8 : Int32).toInt = 8 := by decide
      have e := ww_a1 (p := q) (by omega) q0
      exact ⟨⟨by omega, by omega, by rw [e]; omega⟩, ⟨by omega, by omega, by rw [e]; omega⟩⟩
    · exact (xl_product lQ G o d0 z X E hz hL (3 + fu) (by omega) _ _ (hg 0) h0).mono fun q hq => ⟨⟨hq.1, hq.2.1, by have := hq.2.2; omega⟩, hq.1, hq.2.1⟩
    · exact (xl_sum lQ G o d0 z X E hz hL (3 + fu) (by omega) _ _ (hg 1) h1).mono fun q hq => ⟨⟨hq.1, hq.2.1, by have := hq.2.2; omega⟩, hq.1, hq.2.1⟩
    · exact (xl_compared lQ G o d0 z X E hz hL (3 + fu) (by omega) _ _ (hg 2) h2).mono fun q hq => ⟨⟨hq.1, hq.2.1, by have := hq.2.2; omega⟩, hq.1, hq.2.1⟩
    · exact (xl_all lQ G o d0 z X E hz hL (3 + fu) (by omega) _ _ (hg 3) h3).mono fun q hq => ⟨⟨hq.1, hq.2.1, by have := hq.2.2; omega⟩, hq.1, hq.2.1⟩
    · exact (xl_any lQ G o d0 z X E hz hL (3 + fu) (by omega) _ _ (hg 4) h4).mono fun q hq => ⟨⟨hq.1, hq.2.1, by have := hq.2.2; omega⟩, hq.1, hq.2.1⟩
