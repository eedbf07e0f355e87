/-! A LINE, A TEXT READ -/
set_option maxRecDepth 100000
/-- a line of a text is entered -/
def xg_ln (D : xg) (i k : Nat) (c : xq_c) : xg := (D.1, D.2.1, D.2.2.1, fun i2 k2 => if i2 = i ∧ k2 = k then c else xg_l D i2 k2)
theorem xg_ln_le {X : mm_S} {D : xg} {i k : Nat} {c : xq_c} (h : (X 90 i).toInt.toNat ≤ k) : xg_le X D (xg_ln D i k c) := ⟨fun _ _ => rfl, fun _ _ _ => rfl, fun _ _ => rfl, fun i2 k2 hk => if_neg (fun z => by rw [z.1, z.2] at hk; omega)⟩
theorem xx_W.ln {G : wm_G} {o d0 : Nat} {X : mm_S} {E : mm_E} {D : xg} {H : Heap} (w : xx_W G o d0 X E D H) {i k : Nat} {c : xq_c} (h : (X 90 i).toInt.toNat ≤ k) : xx_W G o d0 X E (xg_ln D i k c) H :=
  w.grow2 (xg_ln_le h) (Nat.le_refl _) (fun _ _ => rfl) w.dnw w.din
theorem xt_lnk {G : wm_G} {o : Nat} {D : xg} {H : Heap} {i k : Nat} {c : xq_c} {h : Nat} {t : xt} {a : Nat} (ht : xt_at G o D H h t a) : xt_at G o (xg_ln D i k c) H h t a := xt_kept (D := D) (D' := xg_ln D i k c) (H := H) (H1 := H) (fun _ _ => rfl) (fun _ h => h) h t a ht
section XLN
variable {p : Program} {l : Launch} {e : Env} {R : Room} {s : State} {m : MethodId} {args : Array Value} {below : List Frame} {meth : Method} {c : Code} {H : Heap} {locs : List Loc} {cells slots : Nat} {Q : State → Prop}
variable {cc : ByteArray} {pc : Nat} {ls : Array Slot} {rest : List Value} {G : wm_G} {o d0 z : Nat} {H0 : Heap} {X : mm_S} {E : mm_E} {D : xg}
/-- a term's cell, as an element -/
theorem xt_recv (hK : wm_K G s) (hN : xn_T s) {h : Nat} {t : xt} {a : Nat} (ht : xt_at G o D H h t a) : ∃ C : String, xr_ s H C a ∧ xl_As C "ThirtyThreeBelow$Term" s := by
  cases h with
  | zero => exact ht.elim
  | succ h =>
    rcases xt_cases ht with ⟨v, -, hO⟩ | ⟨n, -, -, -, hO⟩ | ⟨b, c1, a1, -, hO, -⟩ | ⟨g, c1, c2, a1, a2, -, -, hO, -⟩
    · exact ⟨RX17, wm_O.recv (q := (RX17, TX17, 3)) hK rfl hO, xl_As.of (hN.ca q2473)⟩
    · exact ⟨RX16, wm_O.recv (q := (RX16, TX16, 3)) hK rfl hO, xl_As.of (hN.ca q2472)⟩
    · exact ⟨RX15, wm_O.recv (q := (RX15, TX15, 4)) hK rfl hO, xl_As.of (hN.ca q2471)⟩
    · exact ⟨RX18, wm_O.recv (q := (RX18, TX18, 5)) hK rfl hO, xl_As.of (hN.ca q2474)⟩
/-- a text's arrays, from the reader -/
theorem xt_getr {own host : String} (hx : p.tables.exec = Jvm.exec) (hb : c.code = cc) (hts : ∀ w ∈ lw_all, w.before args s = true) (hown : s.vm.findClass own = some m.cls) (hK : wm_K G s) (hW : xx_W G o d0 X E D H) {i : Int32} (hin : vp_in i 16) {index : Nat} (k : Nat) (h2 : k < 2) (hq : va_Nw (Cond.fieldLinkNest own index RX4 (TX4 k).2.1 (TX4 k).2.2.1 host) s) (hd : decode cc pc = .ok (.getfield index, 3))
    (kk : W p l e R s m args below meth c H locs cells slots Q (F0 m (pc + 3) ls (.ref (o + (42 + k + 3 * i.toNatClampNeg)) :: rest))) : W p l e R s m args below meth c H locs cells slots Q (F0 m pc ls (.ref (xt_ o i) :: rest)) := by
  have hi : i.toNatClampNeg < 16 := Nat.not_le.mp fun q => hin (Or.inr q)
  have hT : (TX4 k).1 = RX4 := by
    have : k = 0 ∨ k = 1 := by omega
    rcases this with z | z <;> subst z <;> rfl
  refine wm_getN hx hb hts in_X4 hown hK (ci := 3) rfl (hW.txt _ hi) k (by omega) hq (fun _ h => by rw [hT] at h; exact h) (v := .ref (o + (42 + k + 3 * i.toNatClampNeg))) ?_ hd kk
  have : k = 0 ∨ k = 1 := by omega
  rcases this with z | z <;> subst z <;> rfl
/-- a text's lines counted -/
theorem xt_putl {own host : String} (hx : p.tables.exec = Jvm.exec) (hb : c.code = cc) (hts : ∀ w ∈ lw_all, w.before args s = true) (hown : s.vm.findClass own = some m.cls) (hK : wm_K G s) (hW : xx_W G o d0 X E D H) (hS : va_S (xx_F o d0) H0 H locs) {i v : Int32} (hin : vp_in i 16) (hv0 : 0 ≤ v.toInt) (hv1 : v.toInt ≤ 160) (hv : ∃ f g : Nat → Value, wm_A G (o + (42 + 3 * i.toNatClampNeg)) 11 160 f H ∧ wm_A G (o + (43 + 3 * i.toNatClampNeg)) 11 160 g H ∧ ∀ k : Nat, k < v.toInt.toNat → xt_op G o D H (xg_l D i.toNatClampNeg k).1 (f k) ∧ xt_op G o D H (some (xg_l D i.toNatClampNeg k).2) (g k)) {index : Nat} (hq : va_Nw (Cond.fieldLinkNest own index RX4 (TX4 2).2.1 (TX4 2).2.2.1 host) s) (hd : decode cc pc = .ok (.putfield index, 3))
    (kk : ∀ (H1 : Heap) (locs1 : List Loc), xx_W G o d0 (wr_ X 90 i v) E D H1 → va_S (xx_F o d0) H0 H1 locs1 → W p l e R s m args below meth c H1 locs1 cells slots Q (F0 m (pc + 3) ls rest)) : W p l e R s m args below meth c H locs cells slots Q (F0 m pc ls (.int v :: .ref (xt_ o i) :: rest)) := by
  have hi : i.toNatClampNeg < 16 := Nat.not_le.mp fun q => hin (Or.inr q)
  exact wm_put1N hx hb hts in_X4 tyX4 tyX4_ok hown hK (ci := 3) rfl (hW.txt _ hi) hS (Or.inl ⟨by omega, by omega⟩) 2 (by decide) (by decide +kernel) hq (fun _ h => h) rfl rfl rfl hd (fun H1 locs1 hO hz oq hS1 => kk H1 locs1 (hW.lput hi hv0 hv1 hv hO hz oq) hS1)
/-- a text's other numbers -/
theorem xt_putn {own host : String} (hx : p.tables.exec = Jvm.exec) (hb : c.code = cc) (hts : ∀ w ∈ lw_all, w.before args s = true) (hown : s.vm.findClass own = some m.cls) (hK : wm_K G s) (hW : xx_W G o d0 X E D H) (hS : va_S (xx_F o d0) H0 H locs) {i v : Int32} (hin : vp_in i 16) {index : Nat} (k : Nat) (h3 : 3 ≤ k) (h6 : k < 6) (hnm : ∀ b, b < 7 → b ≠ k → (TX4 k).2.1 ≠ (TX4 b).2.1) (hfin : (TX4 k).2.2.2 = false) (hn : narrow (tyX4 k) (.int v) = .int v) (hfit : fits (tyX4 k) (.int v) = true) (hq : va_Nw (Cond.fieldLinkNest own index RX4 (TX4 k).2.1 (TX4 k).2.2.1 host) s) (hT : (TX4 k).1 = RX4) (hd : decode cc pc = .ok (.putfield index, 3))
    (kk : ∀ (H1 : Heap) (locs1 : List Loc), xx_W G o d0 (wr_ X (88 + k) i v) E D H1 → va_S (xx_F o d0) H0 H1 locs1 → W p l e R s m args below meth c H1 locs1 cells slots Q (F0 m (pc + 3) ls rest)) : W p l e R s m args below meth c H locs cells slots Q (F0 m pc ls (.int v :: .ref (xt_ o i) :: rest)) := by
  have hi : i.toNatClampNeg < 16 := Nat.not_le.mp fun q => hin (Or.inr q)
  exact wm_put1N hx hb hts in_X4 tyX4 tyX4_ok hown hK (ci := 3) rfl (hW.txt _ hi) hS (Or.inl ⟨by omega, by omega⟩) k (by omega) hnm hq (fun _ h => by rw [hT] at h; exact h) hfin hn hfit hd (fun H1 locs1 hO hz oq hS1 => kk H1 locs1 (hW.tput hi h3 h6 hO hz oq) hS1)
end XLN
/-- behind a line -/
theorem xx_W.lend {G : wm_G} {o d0 : Nat} {X : mm_S} {E : mm_E} {D : xg} {H : Heap} (w : xx_W G o d0 X E D H) {i K : Nat} (hi : i < 16) (hK : K = (X 90 i).toInt.toNat) (hK2 : K < 160) {c : xq_c} {F Gf : Nat → Value} (hF : wm_A G (o + (42 + 3 * i)) 11 160 F H) (hG : wm_A G (o + (43 + 3 * i)) 11 160 Gf H) (h1 : xt_op G o D H c.1 (F K)) (h2 : xt_op G o D H (some c.2) (Gf K)) :
    ∃ f g : Nat → Value, wm_A G (o + (42 + 3 * i)) 11 160 f H ∧ wm_A G (o + (43 + 3 * i)) 11 160 g H ∧ ∀ k : Nat, k < K + 1 → xt_op G o (xg_ln D i K c) H (xg_l (xg_ln D i K c) i k).1 (f k) ∧ xt_op G o (xg_ln D i K c) H (some (xg_l (xg_ln D i K c) i k).2) (g k) := by
  have up : ∀ (t : Option xt) (v : Value), xt_op G o D H t v → xt_op G o (xg_ln D i K c) H t v := fun t v h => xt_op_kept (D := D) (D' := xg_ln D i K c) (H := H) (H1 := H) (fun _ _ => rfl) (fun _ h => h) t v h
  refine ⟨F, Gf, hF, hG, fun k hk => ?_⟩
  by_cases e : k = K
  · rw [e, show xg_l (xg_ln D i K c) i K = c from if_pos ⟨rfl, rfl⟩]
    exact ⟨up _ _ h1, up _ _ h2⟩
  · rw [show xg_l (xg_ln D i K c) i k = xg_l D i k from if_neg (fun z => e z.2)]
    obtain ⟨f, g, hf, hg, hall⟩ := w.tst i hi
    have ha := hall k (by omega)
    rw [wm_A.uniq hF hf k (by omega), wm_A.uniq hG hg k (by omega)]
    exact ⟨up _ _ ha.1, up _ _ ha.2⟩
def xq_PL (G : wm_G) (o d0 : Nat) (X : mm_S) (E : mm_E) (D : xg) (i : Int32) (r : Option xq_c × Int32 × Int32) : xz_P := fun v X' E' D' _ => E' = E ∧ v = none ∧ ∃ c : xq_c, r.1 = some c ∧ X' = xq_st (wr_ X 90 i (rd_ X 90 i + 1)) r.2.1 r.2.2 ∧ D'.1 = D.1 ∧ D'.2.1 = D.2.1 ∧ D'.2.2.2 = (xg_ln D i.toNatClampNeg (rd_ X 90 i).toInt.toNat c).2.2.2
def xq_XL (X : mm_S) (E : mm_E) (D : xg) (r : Option xq_c × Int32 × Int32) : xz_T := fun X' E' D' _ => E' = E ∧ X' = xq_st X r.2.1 r.2.2 ∧ D'.1 = D.1 ∧ D'.2.1 = D.2.1 ∧ D'.2.2.2 = D.2.2.2 ∧ r.1 = none
theorem xq_st_wr {X : mm_S} {p q i v : Int32} {k : Nat} (h : k ≠ 95) (h2 : k ≠ 96) : wr_ (xq_st X p q) k i v = xq_st (wr_ X k i v) p q := by
  unfold xq_st wr_ fw_
  rw [mm_up_sw (k := 96) (l := k) (by omega), mm_up_sw (k := 95) (l := k) (by omega)]
theorem xq_nx_wr {X : mm_S} {k : Nat} {i v : Int32} (h : k ≠ 21) (h2 : k ≠ 22) : xq_nx (wr_ X k i v) = xq_nx X := by
  funext q
  unfold xq_nx
  rw [fd_wn (by omega), rd_wn (by omega)]
theorem xq_line_no {nx : Int32 → Int32} {p q : Int32} (h : (xq_any nx p q).1 = none) : xq_line nx p q = (none, (xq_any nx p q).2) := by
  unfold xq_line
  simp only [h]
theorem xq_line_1 {nx : Int32 → Int32} {p q : Int32} {t : xt} (h : (xq_any nx p q).1 = some t) (c : ¬ nx (xq_any nx p q).2.1 = 63) : xq_line nx p q = (some (none, t), (xq_any nx p q).2) := by
  unfold xq_line
  simp only [h, if_neg c]
theorem xq_line_2 {nx : Int32 → Int32} {p q : Int32} {t : xt} (h : (xq_any nx p q).1 = some t) (c : nx (xq_any nx p q).2.1 = 63) : xq_line nx p q = xq_li2 t (xq_any nx ((xq_any nx p q).2.1 + 1) (xq_any nx p q).2.2) := by
  unfold xq_line
  simp only [h, if_pos c]
theorem xq_li2_no {t : xt} {r : xq_r} (h : r.1 = none) : xq_li2 t r = (none, r.2) := by
  unfold xq_li2
  simp only [h]
theorem xq_li2_so {t u : xt} {r : xq_r} (h : r.1 = some u) : xq_li2 t r = (some (some t, u), r.2) := by
  unfold xq_li2
  simp only [h]
set_option maxHeartbeats 4000000 in
theorem xc_line (lQ : Launch) (G : wm_G) (o d0 z : Nat) (X : mm_S) (E : mm_E) (D : xg) (Hz : Heap) (p q i : Int32) (hz : z ≤ o) (hL : xv_L X) (hWz : xx_W G o d0 (xq_st X p q) E D Hz) (hin : vp_in i 16) (p0 : 0 ≤ p.toInt) (p1 : p.toInt ≤ (fd_ X 22).toInt) (q0 : q = 0) (n0 : 0 ≤ (rd_ X 90 i).toInt) (n1 : (rd_ X 90 i).toInt < 160) : xy_Met lQ G o d0 yX2_line (ws_ yX2_line cX2_line 5 none) 68 (xq_m p (xq_line (xq_nx X) p q).2.1) (5 * xq_m p (xq_line (xq_nx X) p q).2.1) Hz [Value.ref (o + 16), .ref (xt_ o i)] z (xq_PL G o d0 X E D i (xq_line (xq_nx X) p q)) RX3 (xq_XL X E D (xq_line (xq_nx X) p q)) := by
  have hn : (fd_ X 22).toInt ≤ 160 := hL.2
  have hnx : ∀ k : Int32, 0 ≤ k.toInt → ¬ xq_nx X k = -1 → k.toInt < (fd_ X 22).toInt := fun _ _ h => (xq_nx_lt h).1
  have hi : i.toNatClampNeg < 16 := Nat.not_le.mp fun q => hin (Or.inr q)
  have hga := xq_ps_go hn hnx 64 5
  have hCa := (xl_levels lQ G o d0 z X E hz hL 64).2.2.2.2.2
  subst q0
  have hgo := hga p 0 p0 p1 (by decide) (by decide)
  have hB0 : xq_B 64 5 0 := ⟨by decide, by decide, by decide⟩
  generalize hr0 : xq_line (xq_nx X) p 0 = r
  refine xy_start (own := RX2) (by decide +kernel) (Nat.le_of_ble_eq_true rfl) rfl (fun pQ eQ sQ mQ belowQ methQ cQ hx hb hml hr hlocks htb hts hown hK hN hHz hA hS ls hl => ?_)
  have hl : lv_has ls 5 [(0, .ref (o + 16)), (1, .ref (xt_ o i))] := hl
  subst hHz
  have hW := hWz
  have hd0 := hW.lim
  refine lv_aload_n hx hb dX2_line_0 rfl (lv_at hl 1 rfl) ?_
  refine xt_geti hx hb hts hown hK hW hin 2 (by decide) (by decide) (hN.nf q244) dX2_line_1 ?_
  rw [rd_xq (by decide) (by decide)]
  refine lv_istore_n (lv' := [(2, .int (rd_ X 90 i)), (0, .ref (o + 16)), (1, .ref (xt_ o i))]) hx hb dX2_line_4 rfl hl (by decide) rfl (fun ls hl => ?_)
  refine lv_aload_n hx hb dX2_line_5 rfl (lv_at hl 1 rfl) ?_
  have hen : (xq_any (xq_nx X) p 0).2.1.toInt ≤ r.2.1.toInt := by
    rw [← hr0]
    rcases h : (xq_any (xq_nx X) p 0).1 with _ | t
    · rw [xq_line_no h]; exact Int.le_refl _
    · by_cases c : xq_nx X (xq_any (xq_nx X) p 0).2.1 = 63
      · rw [xq_line_2 h c]
        have g2 := hgo.2.2.2.2 t h
        have g1 : p.toInt ≤ (xq_any (xq_nx X) p 0).2.1.toInt := hgo.1
        have y2 := hnx _ (by omega) (xq_ne c (by decide))
        have y3 := ww_a1 (p := (xq_any (xq_nx X) p 0).2.1) (by omega) (by omega)
        have g := hga ((xq_any (xq_nx X) p 0).2.1 + 1) (xq_any (xq_nx X) p 0).2.2 (by omega) (by omega) hgo.2.2.1 hgo.2.2.2.1
        have g5 := g.1
        have e : (xq_li2 t (xq_any (xq_nx X) ((xq_any (xq_nx X) p 0).2.1 + 1) (xq_any (xq_nx X) p 0).2.2)).2 = (xq_any (xq_nx X) ((xq_any (xq_nx X) p 0).2.1 + 1) (xq_any (xq_nx X) p 0).2.2).2 := by unfold xq_li2; split <;> rfl
        rw [e]
        show _ ≤ (xq_ps (xq_nx X) 64 5 _ _).2.1.toInt
        omega
      · rw [xq_line_1 h c]; exact Int.le_refl _
  refine xz_call (xy_rV (As := []) (rest := []) (n := 0) ⟨hx, hb, hml, hown, hts⟩ hK hN (hA.frame hz (by omega) hS) (hCa D _ p 0 hW p0 p1 hB0) (lw_V q928 q930 qs11 q89 q931) (xr_rdr hK hW) (by decide +kernel) rfl ⟨Nat.le_of_ble_eq_true rfl, Nat.le_of_ble_eq_true rfl⟩ hl.1 rfl (Nat.le_of_ble_eq_true rfl) dX2_line_6 ⟨by rw [Nat.zero_add]; exact xq_mm hgo.1 hen, by rw [Nat.zero_add]; exact Nat.mul_le_mul_left 5 (xq_mm hgo.1 hen)⟩) hS (fun q9 ce Xx Ex Dx Hx locsx hPx hWx hSx w1 w2 w3 => ?_) (fun vx Xx Ex D1 H1 locs1 hPx hW1 hS1 => ?_)
  · obtain ⟨eE, eX, hk1, hD1, hno⟩ := hPx
    rw [eE, eX] at hWx
    have hr2 : r = (none, (xq_any (xq_nx X) p 0).2) := by rw [← hr0]; exact xq_line_no hno
    exact xz_on (fun x h => (htb x h).elim) hlocks hWx hSx ⟨rfl, by rw [hr2]; rfl, hD1.1, hD1.2.1, hD1.2.2.1, by rw [hr2]⟩ w1 w2 w3 (by rw [Nat.zero_add]; exact xq_mm hgo.1 hen) (by rw [Nat.zero_add]; exact Nat.mul_le_mul_left 5 (xq_mm hgo.1 hen))
  obtain ⟨eE, eX, hk1, hD1, t, a, ht, ev, hT⟩ := hPx
  rw [eE, eX] at hW1
  rw [ev, Nat.zero_add, Nat.zero_add]
  clear eE eX ev
  have g2 := hgo.2.2.2.2 t ht
  rw [g2.2] at hW1
  have hgo1 := hgo.1; have hgo2 := hgo.2.1
  have hq2 : (xq_any (xq_nx X) p 0).2.2 = 0 := g2.2
  generalize hpc : (xq_ps (xq_nx X) 64 5 p 0).2.1 = p1 at hW1 hT g2 hgo1 hgo2 ⊢
  have hpa : (xq_any (xq_nx X) p 0).2.1 = p1 := hpc
  have hta : (xq_any (xq_nx X) p 0).1 = some t := ht
  rw [hpa] at hen
  refine lv_astore_n (lv' := [(3, .ref a), (2, .int (rd_ X 90 i)), (0, .ref (o + 16)), (1, .ref (xt_ o i))]) hx hb dX2_line_9 rfl hl (by decide) rfl (fun ls hl => ?_)
  refine lv_aload_n hx hb dX2_line_10 rfl (lv_at hl 2 rfl) ?_
  refine lv_bipush (v := 63) hx hb dX2_line_11 (by decide) ?_
  have hro : xq_m p p1 ≤ xq_m p r.2.1 ∧ 5 * xq_m p p1 ≤ 5 * xq_m p r.2.1 := ⟨xq_mm hgo1 hen, Nat.mul_le_mul_left 5 (xq_mm hgo1 hen)⟩
  have hkin : vp_in (rd_ X 90 i) 160 := ww_in n0 n1
  refine xq_take_ (rest := []) ⟨hx, hb, hml, hown, hts⟩ hK hN hL hW1 (by omega) hS1 ⟨Nat.le_of_ble_eq_true rfl, Nat.le_of_ble_eq_true rfl⟩ hl.1 (Nat.le_of_ble_eq_true rfl) dX2_line_13 hro (fun ct H2 locs2 hW2 z2 o2 hS2 => ?_) (fun ct H2 locs2 hW2 z2 o2 hS2 => ?_)
  · have hk2 := xq_K.same z2 o2
    have hT2 := xt_K hW1 hk2 (xq_D.rf _ _) hT
    have hpn := hnx p1 (by omega) (xq_ne ct (by decide))
    have e1 := ww_a1 (p := p1) (by omega) (by omega)
    refine lv_istore (lv' := [(4, .int 1), (3, .ref a), (2, .int (rd_ X 90 i)), (0, .ref (o + 16)), (1, .ref (xt_ o i))]) hx hb dX2_line_16 hl (by decide) rfl (fun ls hl => ?_)
    refine lv_aload_n hx hb dX2_line_18 rfl (lv_at hl 4 rfl) ?_
    refine xt_getr hx hb hts hown hK hW2 hin 0 (by decide) (hN.nf q240) dX2_line_19 ?_
    refine lv_iload_n hx hb dX2_line_22 rfl (lv_at hl 2 rfl) ?_
    refine lv_iload hx hb dX2_line_23 (lv_at hl 0 rfl) ?_
    refine lv_if_eq (tgt := 32) hx hb dX2_line_25 (by decide) (fun c => absurd c (by decide)) (fun _ => ?_)
    refine lv_aload_n hx hb dX2_line_28 rfl (lv_at hl 1 rfl) ?_
    refine lv_goto (tgt := 33) hx hb dX2_line_29 (by decide) ?_
    obtain ⟨F1, G1, hF1, hG1, -⟩ := hW2.tst _ hi
    obtain ⟨C, hrc, hca⟩ := xt_recv hK hN hT2
    have hln : (xq_st X (p1 + 1) 0 90 i.toNatClampNeg).toInt.toNat ≤ (rd_ X 90 i).toNatClampNeg := by rw [xq_st_k (by decide) (by decide)]; exact Nat.le_refl _
    refine wm_aast hx hb hK (t := 11) rfl hF1 hS2 (Or.inl ⟨by omega, by omega⟩) hrc hca hkin dX2_line_33 (fun H3 locs3 hF3 z3 o3 hS3 => ?_)
    have hW3 := hW2.tsp hi hln hF1 hF3 z3 o3
    have hT3 : xt_at G o D1 H3 _ t a := xt_kept (fun q hq => o3 q (fun y => by rw [y, hW2.dfx (42 + 3 * i.toNatClampNeg) (by omega)] at hq; cases hq)) (fun _ h => h) _ t a hT2
    refine lv_aload_n hx hb dX2_line_34 rfl (lv_at hl 4 rfl) ?_
    refine xt_getr hx hb hts hown hK hW3 hin 1 (by decide) (hN.nf q242) dX2_line_35 ?_
    refine lv_iload_n hx hb dX2_line_38 rfl (lv_at hl 2 rfl) ?_
    refine lv_iload hx hb dX2_line_39 (lv_at hl 0 rfl) ?_
    refine lv_if_eq (tgt := 51) hx hb dX2_line_41 (by decide) (fun c => absurd c (by decide)) (fun _ => ?_)
    refine lv_aload_n hx hb dX2_line_44 rfl (lv_at hl 3 rfl) ?_
    have hgb := hga (p1 + 1) 0 (by omega) (by omega) (by decide) (by decide)
    have hgb1 := hgb.1; have hgb2 := hgb.2.1
    have hr1 : xq_li2 t (xq_any (xq_nx X) (p1 + 1) 0) = r := by rw [← hr0, xq_line_2 hta (by rw [hpa]; exact ct), hpa, hq2]
    have hen2 : (xq_ps (xq_nx X) 64 5 (p1 + 1) 0).2.1.toInt ≤ r.2.1.toInt := by
      rw [← hr1]
      unfold xq_li2
      split <;> exact Int.le_refl _
    have hm2 : xq_m p p1 + xq_m (p1 + 1) (xq_ps (xq_nx X) 64 5 (p1 + 1) 0).2.1 ≤ xq_m p r.2.1 := by unfold xq_m; omega
    refine xz_call (xy_rV (As := []) (rest := [.int (rd_ X 90 i), .ref (o + (42 + 1 + 3 * i.toNatClampNeg))]) (n := 0) ⟨hx, hb, hml, hown, hts⟩ hK hN (hA.frame hz (by omega) hS3) (hCa D1 H3 (p1 + 1) 0 hW3 (by omega) (by omega) hB0) (lw_V q928 q930 qs11 q89 q931) (xr_rdr hK hW3) (by decide +kernel) rfl ⟨Nat.le_of_ble_eq_true rfl, Nat.le_of_ble_eq_true rfl⟩ hl.1 rfl (Nat.le_of_ble_eq_true rfl) dX2_line_45 ⟨hm2, by rw [← Nat.mul_add]; exact Nat.mul_le_mul_left 5 hm2⟩) hS3 (fun q9 ce Xx Ex Dx Hx locsx hPx hWx hSx w1 w2 w3 => ?_) (fun vx Xx Ex D4 H4 locs4 hPx hW4 hS4 => ?_)
    · obtain ⟨eE, eX, hk4, hD4, hno⟩ := hPx
      rw [eE, eX] at hWx
      have hr2 : r = (none, (xq_any (xq_nx X) (p1 + 1) 0).2) := by rw [← hr1]; exact xq_li2_no hno
      exact xz_on (fun x h => (htb x h).elim) hlocks hWx hSx ⟨rfl, by rw [hr2]; rfl, hD4.1.trans hD1.1, hD4.2.1.trans hD1.2.1, hD4.2.2.1.trans hD1.2.2.1, by rw [hr2]⟩ w1 w2 w3 hm2 (by rw [← Nat.mul_add]; exact Nat.mul_le_mul_left 5 hm2)
    obtain ⟨eE, eX, hk4, hD4, u, a2, hu, ev, hU⟩ := hPx
    rw [eE, eX] at hW4
    rw [ev, ← Nat.mul_add]
    clear eE eX ev
    have g4 := hgb.2.2.2.2 u hu
    rw [g4.2] at hW4
    rw [show xq_li2 t (xq_any (xq_nx X) (p1 + 1) 0) = _ from xq_li2_so hu] at hr1
    have hl3 := hW3.lim
    have hsz3 := (hW3.txt _ hi).lt
    have hF4 := hF3.kept (hk4.2 _ hF3.lt (by omega))
    have hT4 := xt_K hW3 hk4 hD4 hT3
    obtain ⟨F2, G2, hF2, hG2, -⟩ := hW4.tst _ hi
    obtain ⟨C2, hrc2, hca2⟩ := xt_recv hK hN hU
    have hln4 : (xq_st X (xq_ps (xq_nx X) 64 5 (p1 + 1) 0).2.1 0 90 i.toNatClampNeg).toInt.toNat ≤ (rd_ X 90 i).toNatClampNeg := by rw [xq_st_k (by decide) (by decide)]; exact Nat.le_refl _
    refine lv_goto (tgt := 52) hx hb dX2_line_48 (by decide) ?_
    refine wm_aast (a := o + (43 + 3 * i.toNatClampNeg)) hx hb hK (t := 11) rfl hG2 hS4 (Or.inl ⟨by omega, by omega⟩) hrc2 hca2 hkin dX2_line_52 (fun H5 locs5 hG5 z5 o5 hS5 => ?_)
    have hW5 := hW4.gvp hi hln4 hG2 hG5 z5 o5
    have kk5 : ∀ q : Nat, xg_d D4 q = (4, 0) → H5[q]? = H4[q]? := fun q hq => o5 q (fun y => by rw [y, hW4.dfx (43 + 3 * i.toNatClampNeg) (by omega)] at hq; cases hq)
    have hT5 : xt_at G o D4 H5 _ t a := xt_kept kk5 (fun _ h => h) _ t a hT4
    have hU5 : xt_at G o D4 H5 _ u a2 := xt_kept kk5 (fun _ h => h) _ u a2 hU
    have hF5 := hF4.kept (o5 _ (by omega))
    have hln9 : (xq_st X (xq_ps (xq_nx X) 64 5 (p1 + 1) 0).2.1 0 90 i.toNatClampNeg).toInt.toNat ≤ (rd_ X 90 i).toInt.toNat := by rw [xq_st_k (by decide) (by decide)]; exact Nat.le_refl _
    have hK9 : (rd_ X 90 i).toInt.toNat = (xq_st X (xq_ps (xq_nx X) 64 5 (p1 + 1) 0).2.1 0 90 i.toNatClampNeg).toInt.toNat := by rw [xq_st_k (by decide) (by decide)]; rfl
    have hv9 := hW5.lend hi hK9 (by omega) (c := (some t, u)) hF5 hG5 (by rw [show updV F1 (rd_ X 90 i).toNatClampNeg (.ref a) (rd_ X 90 i).toInt.toNat = .ref a from if_pos rfl]; exact ⟨a, rfl, xt_le (by unfold xq_m; omega) hT5⟩) (by rw [show updV G2 (rd_ X 90 i).toNatClampNeg (.ref a2) (rd_ X 90 i).toInt.toNat = .ref a2 from if_pos rfl]; exact ⟨a2, rfl, xt_le (by unfold xq_m; omega) hU5⟩)
    have hW9 := hW5.ln (c := (some t, u)) hln9
    refine lv_aload_n hx hb dX2_line_53 rfl (lv_at hl 4 rfl) ?_
    refine lv_dup hx hb dX2_line_54 rfl ?_
    refine xt_geti hx hb hts hown hK hW9 hin 2 (by decide) (by decide) (hN.nf q244) dX2_line_55 ?_
    rw [rd_xq (by decide) (by decide)]
    refine lv_iconst (v := 1) hx hb dX2_line_58 (by decide) ?_
    refine nv_iadd hx hb dX2_line_59 (fun vN eN => ?_)
    have eN : vN = rd_ X 90 i + 1 := eN
    have hvN : vN.toInt = (rd_ X 90 i).toInt + 1 := by rw [eN]; exact ww_a1 (p := rd_ X 90 i) (by omega) n0
    refine xt_putl hx hb hts hown hK hW9 hS5 hin (v := vN) (by omega) (by omega) (by rw [show vN.toInt.toNat = (rd_ X 90 i).toInt.toNat + 1 by omega]; exact hv9) (hN.nf q244) dX2_line_60 (fun HA locsA hWA hSA => ?_)
    rw [xq_st_wr (by decide) (by decide), eN] at hWA
    exact xz_vret hx hb hr hlocks hWA hSA ⟨rfl, rfl, (some t, u), by rw [← hr1], by rw [← hr1]; exact congrArg (fun y => xq_st _ _ y) g4.2.symm, (hD4.1.trans hD1.1), (hD4.2.1.trans hD1.2.1), by unfold xg_ln; dsimp only; rw [show xg_l D4 = xg_l D from (hD4.2.2.1.trans hD1.2.2.1)]⟩ hm2 (Nat.mul_le_mul_left 5 hm2) dX2_line_63
  · have hk2 := xq_K.same z2 o2
    have hT2 := xt_K hW1 hk2 (xq_D.rf _ _) hT
    refine lv_istore (lv' := [(4, .int 0), (3, .ref a), (2, .int (rd_ X 90 i)), (0, .ref (o + 16)), (1, .ref (xt_ o i))]) hx hb dX2_line_16 hl (by decide) rfl (fun ls hl => ?_)
    refine lv_aload_n hx hb dX2_line_18 rfl (lv_at hl 4 rfl) ?_
    refine xt_getr hx hb hts hown hK hW2 hin 0 (by decide) (hN.nf q240) dX2_line_19 ?_
    refine lv_iload_n hx hb dX2_line_22 rfl (lv_at hl 2 rfl) ?_
    refine lv_iload hx hb dX2_line_23 (lv_at hl 0 rfl) ?_
    refine lv_if_eq (tgt := 32) hx hb dX2_line_25 (by decide) (fun _ => ?_) (fun c => absurd rfl c)
    refine lv_null hx hb dX2_line_32 ?_
    obtain ⟨F1, G1, hF1, hG1, -⟩ := hW2.tst _ hi
    have hln : (xq_st X p1 0 90 i.toNatClampNeg).toInt.toNat ≤ (rd_ X 90 i).toNatClampNeg := by rw [xq_st_k (by decide) (by decide)]; exact Nat.le_refl _
    refine wm_aastN hx hb hK (t := 11) rfl hF1 hS2 (Or.inl ⟨by omega, by omega⟩) hkin dX2_line_33 (fun H3 locs3 hF3 z3 o3 hS3 => ?_)
    have hW3 := hW2.tsp hi hln hF1 hF3 z3 o3
    have hT3 : xt_at G o D1 H3 _ t a := xt_kept (fun q hq => o3 q (fun y => by rw [y, hW2.dfx (42 + 3 * i.toNatClampNeg) (by omega)] at hq; cases hq)) (fun _ h => h) _ t a hT2
    refine lv_aload_n hx hb dX2_line_34 rfl (lv_at hl 4 rfl) ?_
    refine xt_getr hx hb hts hown hK hW3 hin 1 (by decide) (hN.nf q242) dX2_line_35 ?_
    refine lv_iload_n hx hb dX2_line_38 rfl (lv_at hl 2 rfl) ?_
    refine lv_iload hx hb dX2_line_39 (lv_at hl 0 rfl) ?_
    refine lv_if_eq (tgt := 51) hx hb dX2_line_41 (by decide) (fun _ => ?_) (fun c => absurd rfl c)
    refine lv_aload_n hx hb dX2_line_51 rfl (lv_at hl 1 rfl) ?_
    have hr1 : (some (none, t), (p1, (0 : Int32))) = r := by rw [← hr0, xq_line_1 hta (by rw [hpa]; exact ct)]; exact congrArg (fun y => (some ((none : Option xt), t), y)) (Prod.ext hpa.symm hq2.symm)
    obtain ⟨F2, G2, hF2, hG2, -⟩ := hW3.tst _ hi
    obtain ⟨C2, hrc2, hca2⟩ := xt_recv hK hN hT3
    refine wm_aast (a := o + (43 + 3 * i.toNatClampNeg)) hx hb hK (t := 11) rfl hG2 hS3 (Or.inl ⟨by omega, by omega⟩) hrc2 hca2 hkin dX2_line_52 (fun H5 locs5 hG5 z5 o5 hS5 => ?_)
    have hW5 := hW3.gvp hi hln hG2 hG5 z5 o5
    have hT5 : xt_at G o D1 H5 _ t a := xt_kept (fun q hq => o5 q (fun y => by rw [y, hW3.dfx (43 + 3 * i.toNatClampNeg) (by omega)] at hq; cases hq)) (fun _ h => h) _ t a hT3
    have hF5 := hF3.kept (o5 _ (by omega))
    have hln9 : (xq_st X p1 0 90 i.toNatClampNeg).toInt.toNat ≤ (rd_ X 90 i).toInt.toNat := by rw [xq_st_k (by decide) (by decide)]; exact Nat.le_refl _
    have hK9 : (rd_ X 90 i).toInt.toNat = (xq_st X p1 0 90 i.toNatClampNeg).toInt.toNat := by rw [xq_st_k (by decide) (by decide)]; rfl
    have hv9 := hW5.lend hi hK9 (by omega) (c := (none, t)) hF5 hG5 (by rw [show updV F1 (rd_ X 90 i).toNatClampNeg .null (rd_ X 90 i).toInt.toNat = .null from if_pos rfl]; exact rfl) (by rw [show updV G2 (rd_ X 90 i).toNatClampNeg (.ref a) (rd_ X 90 i).toInt.toNat = .ref a from if_pos rfl]; exact ⟨a, rfl, xt_le (by unfold xq_m; omega) hT5⟩)
    have hW9 := hW5.ln (c := (none, t)) hln9
    refine lv_aload_n hx hb dX2_line_53 rfl (lv_at hl 4 rfl) ?_
    refine lv_dup hx hb dX2_line_54 rfl ?_
    refine xt_geti hx hb hts hown hK hW9 hin 2 (by decide) (by decide) (hN.nf q244) dX2_line_55 ?_
    rw [rd_xq (by decide) (by decide)]
    refine lv_iconst (v := 1) hx hb dX2_line_58 (by decide) ?_
    refine nv_iadd hx hb dX2_line_59 (fun vN eN => ?_)
    have eN : vN = rd_ X 90 i + 1 := eN
    have hvN : vN.toInt = (rd_ X 90 i).toInt + 1 := by rw [eN]; exact ww_a1 (p := rd_ X 90 i) (by omega) n0
    refine xt_putl hx hb hts hown hK hW9 hS5 hin (v := vN) (by omega) (by omega) (by rw [show vN.toInt.toNat = (rd_ X 90 i).toInt.toNat + 1 by omega]; exact hv9) (hN.nf q244) dX2_line_60 (fun HA locsA hWA hSA => ?_)
    rw [xq_st_wr (by decide) (by decide), eN] at hWA
    exact xz_vret hx hb hr hlocks hWA hSA ⟨rfl, rfl, (none, t), by rw [← hr1], by rw [← hr1], hD1.1, hD1.2.1, by unfold xg_ln; dsimp only; rw [show xg_l D1 = xg_l D from hD1.2.2.1]⟩ hro.1 (Nat.mul_le_mul_left 5 hro.1) dX2_line_63

/-- behind a reading: how many lines, which -/
def xq_PR (X : mm_S) (E : mm_E) (D : xg) (i : Int32) (r : List xq_c × Bool × Int32 × Int32) : xz_P := fun v X' E' D' _ => E' = E ∧ v = some (.int (if r.2.1 = true then (if r.2.2.1 < fd_ X 22 then r.2.2.1 else -1) else r.2.2.1)) ∧ X' = xq_st (wr_ X 90 i (Int32.ofNat r.1.length)) r.2.2.1 r.2.2.2 ∧ D'.1 = D.1 ∧ D'.2.1 = D.2.1 ∧ (∀ (i2 k : Nat), i2 ≠ i.toNatClampNeg → xg_l D' i2 k = xg_l D i2 k) ∧ ∀ k : Nat, k < r.1.length → r.1[k]? = some (xg_l D' i.toNatClampNeg k)
theorem xq_lns_no {nx : Int32 → Int32} {k : Nat} {l : List xq_c} {p q : Int32} (h : (xq_line nx p q).1 = none) : xq_lns nx (k + 1) l p q = (l, false, (xq_line nx p q).2) := by
  rw [xq_lns]
  simp only [h]
theorem xq_lns_so {nx : Int32 → Int32} {k : Nat} {l : List xq_c} {p q : Int32} {c : xq_c} (h : (xq_line nx p q).1 = some c) : xq_lns nx (k + 1) l p q = if nx (xq_line nx p q).2.1 = 59 then xq_lns nx k (l ++ [c]) ((xq_line nx p q).2.1 + 1) (xq_line nx p q).2.2 else (l ++ [c], true, (xq_line nx p q).2) := by
  rw [xq_lns]
  simp only [h]
def xq_gol (n : Int) (p : Int32) (r : Option xq_c × Int32 × Int32) : Prop := p.toInt ≤ r.2.1.toInt ∧ r.2.1.toInt ≤ n ∧ ∀ c, r.1 = some c → p.toInt + 1 ≤ r.2.1.toInt ∧ r.2.2 = 0
theorem xq_line_go {nx : Int32 → Int32} {n : Int} (hn : n ≤ 160) (hx : ∀ p : Int32, 0 ≤ p.toInt → ¬ nx p = -1 → p.toInt < n) {p : Int32} (p0 : 0 ≤ p.toInt) (p1 : p.toInt ≤ n) : xq_gol n p (xq_line nx p 0) := by
  have g := xq_ps_go hn hx 64 5 p 0 p0 p1 (by decide) (by decide)
  have g1 := g.1
  rcases h : (xq_any nx p 0).1 with _ | t
  · rw [xq_line_no h]
    exact ⟨g.1, g.2.1, fun _ y => by cases y⟩
  · have g2 := g.2.2.2.2 t h
    by_cases c : nx (xq_any nx p 0).2.1 = 63
    · rw [xq_line_2 h c, show (xq_any nx p 0).2.2 = 0 from g2.2]
      have y2 := hx (xq_any nx p 0).2.1 (by show 0 ≤ (xq_ps nx 64 5 p 0).2.1.toInt; omega) (xq_ne c (by decide))
      have y3 := ww_a1 (p := (xq_any nx p 0).2.1) (by omega) (by show 0 ≤ (xq_ps nx 64 5 p 0).2.1.toInt; omega)
      have y4 : p.toInt + 1 ≤ (xq_any nx p 0).2.1.toInt := g2.1
      have k := xq_ps_go hn hx 64 5 ((xq_any nx p 0).2.1 + 1) 0 (by omega) (by omega) (by decide) (by decide)
      have k1 : ((xq_any nx p 0).2.1 + 1).toInt ≤ (xq_any nx ((xq_any nx p 0).2.1 + 1) 0).2.1.toInt := k.1
      have k2 : (xq_any nx ((xq_any nx p 0).2.1 + 1) 0).2.1.toInt ≤ n := k.2.1
      rcases hu : (xq_any nx ((xq_any nx p 0).2.1 + 1) 0).1 with _ | u
      · rw [xq_li2_no hu]
        exact ⟨by show p.toInt ≤ (xq_any nx ((xq_any nx p 0).2.1 + 1) 0).2.1.toInt; omega, k2, fun _ y => by cases y⟩
      · rw [xq_li2_so hu]
        exact ⟨by show p.toInt ≤ (xq_any nx ((xq_any nx p 0).2.1 + 1) 0).2.1.toInt; omega, k2, fun _ _ => ⟨by show p.toInt + 1 ≤ (xq_any nx ((xq_any nx p 0).2.1 + 1) 0).2.1.toInt; omega, (k.2.2.2.2 u hu).2⟩⟩
    · rw [xq_line_1 h c]
      exact ⟨g.1, g.2.1, fun _ _ => g2⟩
def xq_goR (n : Int) (l : List xq_c) (p : Int32) (r : List xq_c × Bool × Int32 × Int32) : Prop := p.toInt ≤ r.2.2.1.toInt ∧ r.2.2.1.toInt ≤ n ∧ l.length ≤ r.1.length ∧ 2 * (r.1.length : Int) ≤ r.2.2.1.toInt + 1 
theorem xq_lns_go {nx : Int32 → Int32} {n : Int} (hn : n ≤ 160) (hx : ∀ p : Int32, 0 ≤ p.toInt → ¬ nx p = -1 → p.toInt < n) (k : Nat) : ∀ (l : List xq_c) (p : Int32), 0 ≤ p.toInt → p.toInt ≤ n → 2 * (l.length : Int) ≤ p.toInt → xq_goR n l p (xq_lns nx k l p 0) := by
  induction k with
  | zero => intro l p p0 p1 h; exact ⟨Int.le_refl _, p1, Nat.le_refl _, by show 2 * (l.length : Int) ≤ p.toInt + 1; omega⟩
  | succ k ih =>
    intro l p p0 p1 h
    have g := xq_line_go hn hx p0 p1
    have g1 := g.1
    rcases hc : (xq_line nx p 0).1 with _ | c
    · rw [xq_lns_no hc]
      exact ⟨g.1, g.2.1, Nat.le_refl _, by show 2 * (l.length : Int) ≤ (xq_line nx p 0).2.1.toInt + 1; omega⟩
    · rw [xq_lns_so hc]
      have g2 := g.2.2 c hc
      have e : ((l ++ [c]).length : Int) = l.length + 1 := by rw [List.length_append]; rfl
      by_cases s : nx (xq_line nx p 0).2.1 = 59
      · rw [if_pos s, g2.2]
        have y2 := hx (xq_line nx p 0).2.1 (by omega) (xq_ne s (by decide))
        have y3 := ww_a1 (p := (xq_line nx p 0).2.1) (by omega) (by omega)
        have z := ih (l ++ [c]) ((xq_line nx p 0).2.1 + 1) (by omega) (by omega) (by omega)
        have z1 := z.1
        have z3 := z.2.2.1
        exact ⟨by omega, z.2.1, by omega, z.2.2.2⟩
      · rw [if_neg s]
        exact ⟨g.1, g.2.1, by show l.length ≤ (l ++ [c]).length; omega, by show 2 * ((l ++ [c]).length : Int) ≤ (xq_line nx p 0).2.1.toInt + 1; omega⟩
theorem wr_wr {X : mm_S} {k : Nat} {i v w : Int32} : wr_ (wr_ X k i v) k i w = wr_ X k i w := mm_up_up
def hX2_read : List (Nat × Nat × Nat × Nat) := [((15 : Nat), (49 : Nat), (50 : Nat), (15 : Nat))]
set_option maxHeartbeats 4000000 in
theorem xc_read (lQ : Launch) (G : wm_G) (o d0 z : Nat) (X : mm_S) (E : mm_E) (D : xg) (Hz : Heap) (i : Int32) (hz : z ≤ o) (hL : xv_L X) (hWz : xx_W G o d0 X E D Hz) (hin : vp_in i 16) : xy_Met lQ G o d0 yX2_read (wsW_ yX2_read cX2_read 3 (some .int) hX2_read) 69 (xq_m 0 (xq_read (xq_nx X)).2.2.1) (5 * xq_m 0 (xq_read (xq_nx X)).2.2.1) Hz [Value.ref (o + 16), .ref (xt_ o i)] z (xq_PR X E D i (xq_read (xq_nx X))) RX3 (fun _ _ _ _ => False) := by
  have hn : (fd_ X 22).toInt ≤ 160 := hL.2
  have hnx : ∀ k : Int32, 0 ≤ k.toInt → ¬ xq_nx X k = -1 → k.toInt < (fd_ X 22).toInt := fun _ _ h => (xq_nx_lt h).1
  have hi : i.toNatClampNeg < 16 := Nat.not_le.mp fun q => hin (Or.inr q)
  have hgr := xq_lns_go hn hnx 162 [] 0 (by decide) hL.1 (by decide)
  have hr0 : xq_lns (xq_nx X) 162 [] 0 0 = xq_read (xq_nx X) := rfl
  rw [hr0] at hgr
  generalize hrd : xq_read (xq_nx X) = r at hr0 hgr ⊢
  refine xy_startH (own := RX2) (by decide +kernel) (Nat.le_of_ble_eq_true rfl) rfl (fun pQ eQ sQ mQ belowQ methQ cQ hx hb hml hr hlocks htb hts hown hK hN hHz hA hS ls hl => ?_)
  have hl : lv_has ls 3 [(0, .ref (o + 16)), (1, .ref (xt_ o i))] := hl
  subst hHz
  have hd0 := hWz.lim
  refine lv_aload_n hx hb dX2_read_0 rfl (lv_at hl 0 rfl) ?_
  refine lv_iconst (v := 0) hx hb dX2_read_1 (by decide) ?_
  refine xq_putaK hx hb hts hown hK hWz hS q216 dX2_read_2 (fun H1 locs1 hW1 z1 o1 hS1 => ?_)
  refine lv_aload_n hx hb dX2_read_5 rfl (lv_at hl 0 rfl) ?_
  refine lv_iconst (v := 0) hx hb dX2_read_6 (by decide) ?_
  refine xq_putoK hx hb hts hown hK hW1 hS1 q217 dX2_read_7 (fun H2 locs2 hW2 z2 o2 hS2 => ?_)
  have hW2 : xx_W G o d0 (xq_st X 0 0) E D H2 := hW2
  refine lv_aload_n hx hb dX2_read_10 rfl (lv_at hl 1 rfl) ?_
  refine lv_iconst (v := 0) hx hb dX2_read_11 (by decide) ?_
  obtain ⟨Fa, Ga, hFa, hGa, -⟩ := hW2.tst _ hi
  refine xt_putl hx hb hts hown hK hW2 hS2 hin (v := 0) (by decide) (by decide) ⟨Fa, Ga, hFa, hGa, fun k hk => absurd hk (Nat.not_lt_zero k)⟩ (hN.nf q244) dX2_read_12 (fun H locs hW hS => ?_)
  rw [xq_st_wr (by decide) (by decide)] at hW
  have hd0 := hW.lim
  have L15 : ∀ (k : Nat) (li : List xq_c) (p : Int32) (D2 : xg) (H : Heap) (locs : List Loc), 0 ≤ p.toInt → p.toInt ≤ (fd_ X 22).toInt → (fd_ X 22).toInt - p.toInt < k → 2 * (li.length : Int) ≤ p.toInt → xq_lns (xq_nx X) k li p 0 = r → xx_W G o d0 (xq_st (wr_ X 90 i (Int32.ofNat li.length)) p 0) E D2 H → D2.1 = D.1 → D2.2.1 = D.2.1 → (∀ i2 k : Nat, i2 ≠ i.toNatClampNeg → xg_l D2 i2 k = xg_l D i2 k) → (∀ k : Nat, k < li.length → li[k]? = some (xg_l D2 i.toNatClampNeg k)) → va_S (xx_F o d0) sQ.heap H locs → ∀ ls : Array Slot, lv_has ls 3 [(0, .ref (o + 16)), (1, .ref (xt_ o i))] → W pQ lQ eQ (wm_rc 69 (xq_m 0 r.2.2.1) (5 * xq_m 0 r.2.2.1)) sQ mQ ([Value.ref (o + 16), .ref (xt_ o i)] : List Value).toArray belowQ methQ cQ H locs (xq_m 0 p) (5 * xq_m 0 p) (xz_Q G o d0 (xq_PR X E D i r) RX3 (fun _ _ _ _ => False) belowQ ([Value.ref (o + 16), .ref (xt_ o i)] : List Value).toArray sQ (xq_m 0 r.2.2.1) (5 * xq_m 0 r.2.2.1)) (F0 mQ 15 ls []) := by
    intro k
    induction k with
    | zero =>
      intro li p D2 H locs p0 p1 p2
      exact absurd p2 (by show ¬ _ < (0 : Int); omega)
    | succ k ih =>
      intro li p D2 H locs p0 p1 p2 hli hlp hW e1 e2 e3 e4 hS ls hl
      have hgo := xq_line_go hn hnx p0 p1
      have hgo1 := hgo.1; have hgo2 := hgo.2.1
      have enx : xq_nx (wr_ X 90 i (Int32.ofNat li.length)) = xq_nx X := xq_nx_wr (by decide) (by decide)
      have e22 : fd_ (wr_ X 90 i (Int32.ofNat li.length)) 22 = fd_ X 22 := fd_wn (by decide)
      have e90 : rd_ (wr_ X 90 i (Int32.ofNat li.length)) 90 i = Int32.ofNat li.length := rd_ws X 90 i _
      have hll : (Int32.ofNat li.length).toInt = (li.length : Int) := nI_toInt (by omega)
      have hLw : xv_L (wr_ X 90 i (Int32.ofNat li.length)) := by unfold xv_L; rw [e22]; exact hL
      have hM := xc_line lQ G o d0 z (wr_ X 90 i (Int32.ofNat li.length)) E D2 H p 0 i hz hLw hW hin p0 (by rw [e22]; exact p1) rfl (by rw [e90, hll]; omega) (by rw [e90, hll]; omega)
      rw [enx] at hM
      have hen : (xq_line (xq_nx X) p 0).2.1.toInt ≤ r.2.2.1.toInt := by
        rw [← hlp]
        rcases hc : (xq_line (xq_nx X) p 0).1 with _ | c
        · rw [xq_lns_no hc]; exact Int.le_refl _
        · rw [xq_lns_so hc]
          have g2 := hgo.2.2 c hc
          split
          · rename_i sg
            have y2 := hnx _ (by omega) (xq_ne sg (by decide))
            have y3 := ww_a1 (p := (xq_line (xq_nx X) p 0).2.1) (by omega) (by omega)
            rw [g2.2]
            have z := (xq_lns_go hn hnx k (li ++ [c]) ((xq_line (xq_nx X) p 0).2.1 + 1) (by omega) (by omega) (by rw [List.length_append]; show 2 * ((li.length + 1 : Nat) : Int) ≤ _; omega)).1
            omega
          · exact Int.le_refl _
      have z00 : (0 : Int32).toInt = 0 := by decide
      have hm : xq_m 0 p + xq_m p (xq_line (xq_nx X) p 0).2.1 = xq_m 0 (xq_line (xq_nx X) p 0).2.1 := by unfold xq_m; omega
      have hm2 : xq_m 0 (xq_line (xq_nx X) p 0).2.1 ≤ xq_m 0 r.2.2.1 := xq_mm (by omega) hen
      have hro : xq_m 0 (xq_line (xq_nx X) p 0).2.1 ≤ xq_m 0 r.2.2.1 ∧ 5 * xq_m 0 (xq_line (xq_nx X) p 0).2.1 ≤ 5 * xq_m 0 r.2.2.1 := ⟨hm2, Nat.mul_le_mul_left 5 hm2⟩
      refine lv_aload_n hx hb dX2_read_15 rfl (lv_at hl 0 rfl) ?_
      refine lv_aload_n hx hb dX2_read_16 rfl (lv_at hl 1 rfl) ?_
      have KX : ∀ (li2 : List xq_c) (p3 q5 : Int32) (q9 : Nat) (D5 : xg) (H5 : Heap) (locs5 : List Loc) (cells5 : Nat), r = (li2, false, p3, q5) ∨ (r = (li2, true, p3, q5) ∧ p3 < fd_ X 22) → xx_W G o d0 (xq_st (wr_ X 90 i (Int32.ofNat li2.length)) p3 q5) E D5 H5 → D5.1 = D.1 → D5.2.1 = D.2.1 → (∀ i2 k : Nat, i2 ≠ i.toNatClampNeg → xg_l D5 i2 k = xg_l D i2 k) → (∀ k : Nat, k < li2.length → li2[k]? = some (xg_l D5 i.toNatClampNeg k)) → va_S (xx_F o d0) sQ.heap H5 locs5 → cells5 ≤ xq_m 0 r.2.2.1 → W pQ lQ eQ (wm_rc 69 (xq_m 0 r.2.2.1) (5 * xq_m 0 r.2.2.1)) sQ mQ ([Value.ref (o + 16), .ref (xt_ o i)] : List Value).toArray belowQ methQ cQ H5 locs5 cells5 (5 * cells5) (xz_Q G o d0 (xq_PR X E D i r) RX3 (fun _ _ _ _ => False) belowQ ([Value.ref (o + 16), .ref (xt_ o i)] : List Value).toArray sQ (xq_m 0 r.2.2.1) (5 * xq_m 0 r.2.2.1)) (F0 mQ 50 ls [.ref q9]) := by
        intro li2 p3 q5 q9 D5 H5 locs5 cells5 hr5 hW5 g1 g2 g3 g4 hS5 hc5
        refine lv_astore_n (lv' := [(2, .ref q9), (0, .ref (o + 16)), (1, .ref (xt_ o i))]) hx hb dX2_read_50 rfl hl (by decide) rfl (fun ls hl => ?_)
        refine lv_aload_n hx hb dX2_read_51 rfl (lv_at hl 1 rfl) ?_
        refine xq_get hx hb hts hown hK hW5 1 (by decide) (v := .int p3) (by rw [fd_xq_a]; rfl) q216 rfl dX2_read_52 ?_
        refine xz_iret hx hb hr hlocks hW5 hS5 ?_ hc5 (Nat.mul_le_mul_left 5 hc5) dX2_read_55
        rcases hr5 with e | ⟨e, lt⟩
        · rw [e]; exact ⟨rfl, by rw [if_neg (show ¬ (false = true) from Bool.false_ne_true)], rfl, g1, g2, g3, g4⟩
        · rw [e]; exact ⟨rfl, by rw [if_pos rfl, if_pos lt], rfl, g1, g2, g3, g4⟩
      refine xz_call (xy_rV (As := [.ref (xt_ o i)]) (rest := []) (n := 1) ⟨hx, hb, hml, hown, hts⟩ hK hN (hA.frame hz (by have := hW.lim.1; omega) hS) hM (lw_V q924 q926 qs10 q89 q927) (xr_rdr hK hW) (by decide +kernel) rfl ⟨Nat.le_of_ble_eq_true rfl, Nat.le_of_ble_eq_true rfl⟩ hl.1 rfl (Nat.le_of_ble_eq_true rfl) dX2_read_17 ⟨by rw [hm]; exact hro.1, by rw [← Nat.mul_add, hm]; exact hro.2⟩) hS (fun q9 ce Xx Ex Dx Hx locsx hPx hWx hSx w1 w2 w3 => ?_) (fun vx Xx Ex D3 H3 locs3 hPx hW3 hS3 => ?_)
      · obtain ⟨eE, eX, f1, f2, f3, hno⟩ := hPx
        rw [eE, eX] at hWx
        rw [xq_lns_no hno] at hlp
        refine vx_catch (name := RX3) hown [] ⟨15, 49, 50, 15⟩ _ (by rw [htb]; rfl) (fun z hz => absurd hz List.not_mem_nil) (by decide) (by decide) (hts _ q200) (va_Nw.use rfl (hN.ca q202)) w1 w2 w3 ?_
        rw [← Nat.mul_add, hm]
        exact KX li _ _ q9 Dx Hx locsx _ (Or.inl (by rw [← hlp])) hWx (f1.trans e1) (f2.trans e2) (fun i2 k h => by rw [show xg_l Dx = xg_l D2 from f3]; exact e3 i2 k h) (fun k h => by rw [show xg_l Dx = xg_l D2 from f3]; exact e4 k h) hSx hm2
      obtain ⟨eE, ev, c, hc, eX, f1, f2, f3⟩ := hPx
      rw [eE, eX] at hW3
      rw [ev, ← Nat.mul_add, hm]
      clear eE eX ev
      have g2 := hgo.2.2 c hc
      rw [xq_lns_so hc] at hlp
      rw [e90, wr_wr, g2.2] at hW3
      have el : (li ++ [c]).length = li.length + 1 := List.length_append
      have eoN : Int32.ofNat li.length + 1 = Int32.ofNat (li ++ [c]).length := by rw [el]; apply ww_eq; rw [ww_a1 (p := Int32.ofNat li.length) (by omega) (by omega), hll, show (Int32.ofNat (li.length + 1)).toInt = ((li.length + 1 : Nat) : Int) from nI_toInt (by omega)]; omega
      rw [eoN] at hW3
      have eK : (rd_ (wr_ X 90 i (Int32.ofNat li.length)) 90 i).toInt.toNat = li.length := by rw [e90, hll]; rfl
      rw [eK] at f3
      have e3b : ∀ i2 k : Nat, i2 ≠ i.toNatClampNeg → xg_l D3 i2 k = xg_l D i2 k := fun i2 k h => by rw [show xg_l D3 = xg_l (xg_ln D2 i.toNatClampNeg li.length c) from f3, show xg_l (xg_ln D2 i.toNatClampNeg li.length c) i2 k = xg_l D2 i2 k from if_neg (fun y => h y.1)]; exact e3 i2 k h
      have e4b : ∀ k : Nat, k < (li ++ [c]).length → (li ++ [c])[k]? = some (xg_l D3 i.toNatClampNeg k) := fun k h => by
        rw [show xg_l D3 = xg_l (xg_ln D2 i.toNatClampNeg li.length c) from f3]
        by_cases y : k = li.length
        · rw [y, List.getElem?_concat_length, show xg_l (xg_ln D2 i.toNatClampNeg li.length c) i.toNatClampNeg li.length = c from if_pos ⟨rfl, rfl⟩]
        · rw [List.getElem?_append_left (by omega), show xg_l (xg_ln D2 i.toNatClampNeg li.length c) i.toNatClampNeg k = xg_l D2 i.toNatClampNeg k from if_neg (fun z => y z.2)]
          exact e4 k (by omega)
      have enx3 : xq_nx (wr_ X 90 i (Int32.ofNat (li ++ [c]).length)) = xq_nx X := xq_nx_wr (by decide) (by decide)
      have hLw3 : xv_L (wr_ X 90 i (Int32.ofNat (li ++ [c]).length)) := by unfold xv_L; rw [fd_wn (by decide)]; exact hL
      refine lv_aload_n hx hb dX2_read_20 rfl (lv_at hl 0 rfl) ?_
      refine lv_bipush (v := 59) hx hb dX2_read_21 (by decide) ?_
      refine xq_take_ (rest := []) ⟨hx, hb, hml, hown, hts⟩ hK hN hLw3 hW3 (by omega) hS3 ⟨Nat.le_of_ble_eq_true rfl, Nat.le_of_ble_eq_true rfl⟩ hl.1 (Nat.le_of_ble_eq_true rfl) dX2_read_23 hro (fun ct H4 locs4 hW4 z4 o4 hS4 => ?_) (fun ct H4 locs4 hW4 z4 o4 hS4 => ?_)
      · rw [enx3] at ct
        rw [if_pos ct, g2.2] at hlp
        have y2 := hnx _ (by omega) (xq_ne ct (by decide))
        have y3 := ww_a1 (p := (xq_line (xq_nx X) p 0).2.1) (by omega) (by omega)
        have y4 : xq_m 0 ((xq_line (xq_nx X) p 0).2.1 + 1) = xq_m 0 (xq_line (xq_nx X) p 0).2.1 + 1 := xq_m1 (by decide) (by omega) (by omega)
        refine lv_if_ne (tgt := 15) hx hb dX2_read_26 (by decide) (fun _ => ?_) (fun c => absurd c (by decide))
        refine W.widen (k := xq_m 0 ((xq_line (xq_nx X) p 0).2.1 + 1)) (n := 5 * xq_m 0 ((xq_line (xq_nx X) p 0).2.1 + 1)) (by omega) (by omega) ?_
        exact ih _ _ _ _ _ (by omega) (by omega) (by omega) (by rw [el]; show 2 * ((li.length + 1 : Nat) : Int) ≤ _; omega) hlp hW4 (f1.trans e1) (f2.trans e2) e3b e4b hS4 ls hl
      · rw [enx3] at ct
        rw [if_neg ct] at hlp
        have hlp2 : r = (li ++ [c], true, (xq_line (xq_nx X) p 0).2.1, 0) := by rw [← hlp]; exact congrArg (fun y => (li ++ [c], true, (xq_line (xq_nx X) p 0).2.1, y)) g2.2
        refine lv_if_ne (tgt := 15) hx hb dX2_read_26 (by decide) (fun c => absurd rfl c) (fun _ => ?_)
        refine lv_aload_n hx hb dX2_read_29 rfl (lv_at hl 0 rfl) ?_
        refine xq_get hx hb hts hown hK hW4 1 (by decide) (v := .int (xq_line (xq_nx X) p 0).2.1) (by rw [fd_xq_a]; rfl) q216 rfl dX2_read_30 ?_
        refine lv_aload_n hx hb dX2_read_33 rfl (lv_at hl 0 rfl) ?_
        refine xq_get hx hb hts hown hK hW4 3 (by decide) (v := .ref o) rfl q218 rfl dX2_read_34 ?_
        refine xx_getiN hx hb hts hown hK hW4 22 rfl rfl (by decide) (by decide) (hN.nf q294) dX2_read_37 ?_
        rw [fd_xq (by decide) (by decide), fd_wn (by decide)]
        refine lv_icmp_ge (tgt := 48) hx hb dX2_read_40 (by decide) (fun c40 => ?_) (fun c40 => ?_)
        · refine lv_iconst (v := (-1)) hx hb dX2_read_48 (by decide) ?_
          refine xz_iret hx hb hr hlocks hW4 hS4 ?_ hro.1 hro.2 dX2_read_49
          rw [hlp2]
          exact ⟨rfl, by rw [if_pos rfl, if_neg (ww_nlt' (ww_le c40))], rfl, f1.trans e1, f2.trans e2, e3b, e4b⟩
        · refine lv_aload_n hx hb dX2_read_43 rfl (lv_at hl 0 rfl) ?_
          refine xq_get hx hb hts hown hK hW4 0 (by decide) (v := .ref (o + 17)) rfl q215 rfl dX2_read_44 ?_
          obtain ⟨ceT, wT1, wT2, wT3⟩ := xz_fault hK hW4
          refine vx_athrow hx hb dX2_read_47 ?_
          refine vx_catch (name := RX3) hown [] ⟨15, 49, 50, 15⟩ _ (by rw [htb]; rfl) (fun z hz => absurd hz List.not_mem_nil) (by decide) (by decide) (hts _ q200) (va_Nw.use rfl (hN.ca q202)) wT1 wT2 wT3 ?_
          exact KX (li ++ [c]) _ _ (o + 17) D3 H4 locs4 _ (Or.inr ⟨hlp2, ww_lt' (ww_nle c40)⟩) hW4 (f1.trans e1) (f2.trans e2) e3b e4b hS4 hro.1
  have m00 : xq_m 0 0 = 0 := by unfold xq_m; decide
  have hL0 := L15 162 [] 0 D H locs (by decide) hL.1 (by show _ - 0 < (162 : Int); omega) (by decide) hr0 hW rfl rfl (fun _ _ _ => rfl) (fun k h => absurd h (Nat.not_lt_zero k)) hS ls hl
  rw [m00] at hL0
  exact hL0

/-! text -/
def xf_tz0 (X : mm_S) (r : List xq_c × Bool × Int32 × Int32) : Int32 := if r.2.1 = true then (if r.2.2.1 < fd_ X 22 then r.2.2.1 else -1) else r.2.2.1
def xf_tx1 (X : mm_S) (r : List xq_c × Bool × Int32 × Int32) : mm_S := fw_ (xq_st (wr_ X 90 (fd_ X 25) (Int32.ofNat r.1.length)) r.2.2.1 r.2.2.2) 22 0
def xf_tx2 (X : mm_S) (w f : Int32) (r : List xq_c × Bool × Int32 × Int32) : mm_S := wr_ (wr_ (wr_ (xf_tx1 X r) 91 (fd_ X 25) w) 92 (fd_ X 25) f) 93 (fd_ X 25) (fd_ X 0)
def xf_tx (X : mm_S) (w f : Int32) (r : List xq_c × Bool × Int32 × Int32) : Int32 × mm_S := if xf_tz0 X r = -1 then (fd_ X 25, fw_ (xf_tx2 X w f r) 25 (fd_ X 25 + 1)) else (-100 - xf_tz0 X r, xf_tx1 X r)
def xf_text (X : mm_S) (w f : Int32) : Int32 × mm_S := if xf_isWhat w = 0 then (-1, X) else if ff_in f (fd_ X 0) 1699 = 0 then (-1, X) else if fd_ X 25 = 16 then (-3, X) else xf_tx X w f (xq_read (xq_nx X))
def xf_reads (X : mm_S) (w f : Int32) : Prop := ¬ xf_isWhat w = 0 ∧ ¬ ff_in f (fd_ X 0) 1699 = 0 ∧ ¬ fd_ X 25 = 16
def xq_PT (X : mm_S) (E : mm_E) (D : xg) (w f : Int32) : xz_P := fun v X' E' D' _ => E' = E ∧ v = some (.int (xf_text X w f).1) ∧ X' = (xf_text X w f).2 ∧ D'.1 = D.1 ∧ D'.2.1 = D.2.1 ∧ (∀ i2 k : Nat, i2 ≠ (fd_ X 25).toNatClampNeg → xg_l D' i2 k = xg_l D i2 k) ∧ (xf_reads X w f → ∀ k : Nat, k < (xq_read (xq_nx X)).1.length → (xq_read (xq_nx X)).1[k]? = some (xg_l D' (fd_ X 25).toNatClampNeg k))
set_option maxHeartbeats 4000000 in
theorem xc_text (lQ : Launch) (G : wm_G) (o d0 z : Nat) (X : mm_S) (E : mm_E) (D : xg) (Hz : Heap) (w f : Int32) (hz : z ≤ o) (hL : xv_L X) (hX : xv_X X) (hWz : xx_W G o d0 X E D Hz) : xy_Met lQ G o d0 yX0_text (ws_ yX0_text cX0_text 5 (some .int)) 70 (xq_m 0 (xq_read (xq_nx X)).2.2.1) (5 * xq_m 0 (xq_read (xq_nx X)).2.2.1) Hz [Value.ref o, .int w, .int f] z (xq_PT X E D w f) RX3 (fun _ _ _ _ => False) := by
  have hr0 : xq_read (xq_nx X) = xq_read (xq_nx X) := rfl
  refine xy_start (own := RX0) (by decide +kernel) (Nat.le_of_ble_eq_true rfl) rfl (fun pQ eQ sQ mQ belowQ methQ cQ hx hb hml hr hlocks htb hts hown hK hN hHz hA hS ls hl => ?_)
  have hl : lv_has ls 5 [(0, .ref o), (1, .int w), (2, .int f)] := hl
  subst hHz
  have hW := hWz
  have hd0 := hW.lim
  generalize hmc : xq_m 0 (xq_read (xq_nx X)).2.2.1 = mc
  have KB : (xf_isWhat w = 0 ∨ ff_in f (fd_ X 0) 1699 = 0) → W pQ lQ eQ (wm_rc 70 mc (5 * mc)) sQ mQ ([Value.ref o, .int w, .int f] : List Value).toArray belowQ methQ cQ sQ.heap [] 0 0 (xz_Q G o d0 (xq_PT X E D w f) RX3 (fun _ _ _ _ => False) belowQ ([Value.ref o, .int w, .int f] : List Value).toArray sQ mc (5 * mc)) (F0 mQ 23 ls []) := by
    intro h
    refine lv_iconst (v := (-1)) hx hb dX0_text_23 (by decide) ?_
    refine xz_iret hx hb hr hlocks hW hS ?_ (Nat.zero_le _) (Nat.zero_le _) dX0_text_24
    have e : xf_text X w f = (-1, X) := by
      unfold xf_text
      rcases h with h | h
      · rw [if_pos h]
      · by_cases h2 : xf_isWhat w = 0
        · rw [if_pos h2]
        · rw [if_neg h2, if_pos h]
    exact ⟨rfl, by rw [e], by rw [e], rfl, rfl, fun _ _ _ => rfl, fun y => absurd h (fun q => q.elim y.1 y.2.1)⟩
  refine lv_iload_n hx hb dX0_text_0 rfl (lv_at hl 1 rfl) ?_
  refine pp_calli (As := [.int w]) (rest := []) (n := 1) ⟨hx, hb, hml, hown, hts⟩ (xc_isWhat lQ w) (lw_S q917 q918 q84 q919) (by decide +kernel) rfl ⟨Nat.le_of_ble_eq_true rfl, Nat.le_of_ble_eq_true rfl⟩ hl.1 rfl (Nat.le_of_ble_eq_true rfl) dX0_text_1 ⟨Nat.zero_le _, Nat.zero_le _⟩ (fun v1 e1 => ?_)
  refine lv_if_eq (tgt := 23) hx hb dX0_text_4 (by decide) (fun c4 => KB (Or.inl (e1.symm.trans c4))) (fun c4 => ?_)
  refine lv_iload_n hx hb dX0_text_7 rfl (lv_at hl 2 rfl) ?_
  refine nv_i2l hx hb dX0_text_8 (fun vA eA => ?_)
  refine lv_aload_n hx hb dX0_text_9 rfl (lv_at hl 0 rfl) ?_
  refine xx_geti hx hb hts hown hK hW 0 rfl rfl (by decide) (by decide) q265 dX0_text_10 ?_
  refine nv_i2l hx hb dX0_text_13 (fun vB eB => ?_)
  refine lv_ldc2 (v := 1699) hx hb hown (hts _ q799) dX0_text_14 ?_
  refine pp_calli (As := [.long vA, .long vB, .long 1699]) (rest := []) (n := 3) ⟨hx, hb, hml, hown, hts⟩ (xc_within lQ vA vB 1699) (lw_S q459 q460 q84 q461) (by decide +kernel) rfl ⟨Nat.le_of_ble_eq_true rfl, Nat.le_of_ble_eq_true rfl⟩ hl.1 rfl (Nat.le_of_ble_eq_true rfl) dX0_text_17 ⟨Nat.zero_le _, Nat.zero_le _⟩ (fun v17 e17 => ?_)
  have e17 : v17 = ff_in f (fd_ X 0) 1699 := by rw [e17, eA, eB]; exact xf_within_in f (fd_ X 0) 1699
  refine lv_if_ne (tgt := 25) hx hb dX0_text_20 (by decide) (fun c20 => ?_) (fun c20 => KB (Or.inr (e17.symm.trans c20)))
  have c1 : ¬ xf_isWhat w = 0 := by rw [← e1]; exact c4
  have c2 : ¬ ff_in f (fd_ X 0) 1699 = 0 := by rw [← e17]; exact c20
  refine lv_aload_n hx hb dX0_text_25 rfl (lv_at hl 0 rfl) ?_
  refine xx_geti hx hb hts hown hK hW 25 rfl rfl (by decide) (by decide) q298 dX0_text_26 ?_
  refine lv_bipush (v := 16) hx hb dX0_text_29 (by decide) ?_
  refine lv_icmp_ne (tgt := 37) hx hb dX0_text_31 (by decide) (fun c31 => ?_) (fun c31 => ?_)
  rotate_left
  · refine lv_bipush (v := (-3)) hx hb dX0_text_34 (by decide) ?_
    refine xz_iret hx hb hr hlocks hW hS ?_ (Nat.zero_le _) (Nat.zero_le _) dX0_text_36
    have e : xf_text X w f = (-3, X) := by rw [xf_text, if_neg c1, if_neg c2, if_pos c31]
    exact ⟨rfl, by rw [e], by rw [e], rfl, rfl, fun _ _ _ => rfl, fun y => absurd c31 y.2.2⟩
  have eT : xf_text X w f = xf_tx X w f (xq_read (xq_nx X)) := by rw [xf_text, if_neg c1, if_neg c2, if_neg c31]
  have c16 := ww_ne c31
  have e16 : (16 : Int32).toInt = 16 := by decide
  have hin : vp_in (fd_ X 25) 16 := ww_in hX.1 (by have := hX.2; omega)
  refine lv_aload_n hx hb dX0_text_37 rfl (lv_at hl 0 rfl) ?_
  refine xx_getr hx hb hts hown hK hW 24 rfl rfl (by decide) (by decide) q297 dX0_text_38 ?_
  refine lv_aload_n hx hb dX0_text_41 rfl (lv_at hl 0 rfl) ?_
  refine xx_geti hx hb hts hown hK hW 25 rfl rfl (by decide) (by decide) q298 dX0_text_42 ?_
  refine xx_tald hx hb hK hW hin dX0_text_45 ?_
  refine lv_astore_n (lv' := [(3, .ref (xt_ o (fd_ X 25))), (0, .ref o), (1, .int w), (2, .int f)]) hx hb dX0_text_46 rfl hl (by decide) rfl (fun ls hl => ?_)
  refine lv_aload_n hx hb dX0_text_47 rfl (lv_at hl 1 rfl) ?_
  refine xx_getr hx hb hts hown hK hW 23 rfl rfl (by decide) (by decide) q296 dX0_text_48 ?_
  refine lv_aload_n hx hb dX0_text_51 rfl (lv_at hl 0 rfl) ?_
  have hM := xc_read lQ G o d0 z X E D sQ.heap (fd_ X 25) hz hL hW hin
  rw [hmc] at hM
  refine xz_call (xy_rVH (As := [.ref (xt_ o (fd_ X 25))]) (rest := []) (n := 1) ⟨hx, hb, hml, hown, hts⟩ hK hN hA hM (lw_VW q920 q921 q922 q89 q923) (xr_rdr hK hW) (by decide +kernel) rfl ⟨Nat.le_of_ble_eq_true rfl, Nat.le_of_ble_eq_true rfl⟩ hl.1 rfl (Nat.le_of_ble_eq_true rfl) dX0_text_52 ⟨by rw [Nat.zero_add]; exact Nat.le_refl _, by rw [Nat.zero_add]; exact Nat.le_refl _⟩) hS (fun q9 ce Xx Ex Dx Hx locsx hPx _ _ _ _ _ => hPx.elim) (fun vx Xx Ex D3 H3 locs3 hPx hW3 hS3 => ?_)
  obtain ⟨eE, ev, eX, f1, f2, f3, f4⟩ := hPx
  rw [eE, eX] at hW3
  rw [ev, Nat.zero_add, Nat.zero_add]
  clear eE eX ev
  generalize hrd : xq_read (xq_nx X) = r at hW3 f4 eT hmc ⊢
  refine lv_istore (lv' := [(4, .int (xf_tz0 X r)), (3, .ref (xt_ o (fd_ X 25))), (0, .ref o), (1, .int w), (2, .int f)]) hx hb dX0_text_55 hl (by decide) rfl (fun ls hl => ?_)
  refine lv_aload_n hx hb dX0_text_57 rfl (lv_at hl 2 rfl) ?_
  refine lv_iconst (v := 0) hx hb dX0_text_58 (by decide) ?_
  refine xx_puti hx hb hts hown hK hW3 hS3 22 rfl rfl (by decide) (by decide) (by decide) rfl rfl rfl q295 dX0_text_59 (fun X59 H4 locs4 f59 hW4 hS4 => ?_)
  have f59 : X59 = xf_tx1 X r := f59
  rw [f59] at hW4
  clear f59
  refine lv_iload hx hb dX0_text_62 (lv_at hl 0 rfl) ?_
  refine lv_iconst (v := (-1)) hx hb dX0_text_64 (by decide) ?_
  refine lv_icmp_eq (tgt := 74) hx hb dX0_text_65 (by decide) (fun c65 => ?_) (fun c65 => ?_)
  rotate_left
  · refine lv_bipush (v := (-100)) hx hb dX0_text_68 (by decide) ?_
    refine lv_iload hx hb dX0_text_70 (lv_at hl 0 rfl) ?_
    refine nv_isub hx hb dX0_text_72 (fun v72 e72 => ?_)
    refine xz_iret hx hb hr hlocks hW4 hS4 ?_ (Nat.le_refl _) (Nat.le_refl _) dX0_text_73
    have e : xf_text X w f = (-100 - xf_tz0 X r, xf_tx1 X r) := by rw [eT, xf_tx, if_neg c65]
    exact ⟨rfl, by rw [e, e72], by rw [e], f1, f2, f3, fun _ => by rw [hrd]; exact f4⟩
  refine lv_aload_n hx hb dX0_text_74 rfl (lv_at hl 1 rfl) ?_
  refine lv_iload_n hx hb dX0_text_75 rfl (lv_at hl 3 rfl) ?_
  refine xt_putn hx hb hts hown hK hW4 hS4 hin 3 (by decide) (by decide) (by decide +kernel) rfl rfl rfl (hN.nf q245) rfl dX0_text_76 (fun H5 locs5 hW5 hS5 => ?_)
  refine lv_aload_n hx hb dX0_text_79 rfl (lv_at hl 1 rfl) ?_
  refine lv_iload_n hx hb dX0_text_80 rfl (lv_at hl 4 rfl) ?_
  refine xt_putn hx hb hts hown hK hW5 hS5 hin 4 (by decide) (by decide) (by decide +kernel) rfl rfl rfl (hN.nf q246) rfl dX0_text_81 (fun H6 locs6 hW6 hS6 => ?_)
  refine lv_aload_n hx hb dX0_text_84 rfl (lv_at hl 1 rfl) ?_
  refine lv_aload_n hx hb dX0_text_85 rfl (lv_at hl 2 rfl) ?_
  refine xx_geti hx hb hts hown hK hW6 0 rfl rfl (by decide) (by decide) q265 dX0_text_86 ?_
  have e0 : fd_ (wr_ (wr_ (xf_tx1 X r) (88 + 3) (fd_ X 25) w) (88 + 4) (fd_ X 25) f) 0 = fd_ X 0 := by rw [fd_wn (by decide), fd_wn (by decide), xf_tx1, fd_fn (by decide), fd_xq (by decide) (by decide), fd_wn (by decide)]
  rw [e0]
  refine xt_putn hx hb hts hown hK hW6 hS6 hin 5 (by decide) (by decide) (by decide +kernel) rfl rfl rfl (hN.nf q247) rfl dX0_text_89 (fun H7 locs7 hW7 hS7 => ?_)
  have hW7 : xx_W G o d0 (xf_tx2 X w f r) E D3 H7 := hW7
  have e25 : fd_ (xf_tx2 X w f r) 25 = fd_ X 25 := by rw [xf_tx2, fd_wn (by decide), fd_wn (by decide), fd_wn (by decide), xf_tx1, fd_fn (by decide), fd_xq (by decide) (by decide), fd_wn (by decide)]
  refine lv_aload_n hx hb dX0_text_92 rfl (lv_at hl 2 rfl) ?_
  refine lv_dup hx hb dX0_text_93 rfl ?_
  refine xx_geti hx hb hts hown hK hW7 25 rfl rfl (by decide) (by decide) q298 dX0_text_94 ?_
  rw [e25]
  refine lv_dup_x1 hx hb dX0_text_97 rfl rfl ?_
  refine lv_iconst (v := 1) hx hb dX0_text_98 (by decide) ?_
  refine nv_iadd hx hb dX0_text_99 (fun v99 e99 => ?_)
  refine xx_puti hx hb hts hown hK hW7 hS7 25 rfl rfl (by decide) (by decide) (by decide) rfl rfl rfl q298 dX0_text_100 (fun X100 H8 locs8 f100 hW8 hS8 => ?_)
  refine xz_iret hx hb hr hlocks hW8 hS8 ?_ (Nat.le_refl _) (Nat.le_refl _) dX0_text_103
  have e : xf_text X w f = (fd_ X 25, fw_ (xf_tx2 X w f r) 25 (fd_ X 25 + 1)) := by rw [eT, xf_tx, if_pos c65]
  exact ⟨rfl, by rw [e], by rw [e, f100, e99], f1, f2, f3, fun _ => by rw [hrd]; exact f4⟩

