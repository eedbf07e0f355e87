/-! READING: the methods, by levels -/
set_option maxRecDepth 100000
set_option maxHeartbeats 4000000 in
theorem xn_next (lQ : Launch) (G : wm_G) (o d0 : Nat) (X : mm_S) (E : mm_E) (D : xg) (hL : xv_L X) (hA : 0 ≤ (fd_ X 95).toInt) : xr_Met lQ G o d0 yX2_next (ws_ yX2_next cX2_next 1 (some .int)) 0 X E D (fun _ => True) [Value.ref (o + 16)] (some (.int (xq_nx X (fd_ X 95)))) := by
  refine xr_start (own := RX2) (by decide +kernel) (Nat.le_of_ble_eq_true rfl) rfl (fun pQ eQ sQ mQ belowQ methQ cQ hx hb hml hr hlocks hts hown hK hN hW _ ls hl => ?_)
  have hl : lv_has ls 1 [(0, .ref (o + 16))] := hl
  refine lv_aload_n hx hb dX2_next_0 rfl (lv_at hl 0 rfl) ?_
  refine xq_get hx hb hts hown hK hW 1 (by decide) (v := .int (fd_ X 95)) rfl q216 rfl dX2_next_1 ?_
  refine lv_aload_n hx hb dX2_next_4 rfl (lv_at hl 0 rfl) ?_
  refine xq_get hx hb hts hown hK hW 3 (by decide) (v := .ref o) rfl q218 rfl dX2_next_5 ?_
  refine xx_getiN hx hb hts hown hK hW 22 rfl rfl (by decide) (by decide) (hN.nf q294) dX2_next_8 ?_
  refine lv_icmp_ge (tgt := 29) hx hb dX2_next_11 (by decide) (fun c11 => ?_) (fun c11 => ?_)
  · refine lv_iconst (v := (-1)) hx hb dX2_next_29 (by decide) ?_
    refine pp_iret hx hb hr hlocks ?_ dX2_next_30
    rw [xq_nx, if_pos c11]
  · have t11 : ((fd_ X 95)).toInt < ((fd_ X 22)).toInt := ww_nle c11
    obtain ⟨l0, l1⟩ := hL
    refine lv_aload_n hx hb dX2_next_14 rfl (lv_at hl 0 rfl) ?_
    refine xq_get hx hb hts hown hK hW 3 (by decide) (v := .ref o) rfl q218 rfl dX2_next_15 ?_
    refine xx_getaN hx hb hts hown hK hW 21 rfl (hN.nf q292) dX2_next_18 ?_
    refine lv_aload_n hx hb dX2_next_21 rfl (lv_at hl 0 rfl) ?_
    refine xq_get hx hb hts hown hK hW 1 (by decide) (v := .int (fd_ X 95)) rfl q216 rfl dX2_next_22 ?_
    refine xx_iald hx hb hK hW 21 rfl (ww_in (by omega) (by omega)) dX2_next_25 ?_
    refine lv_goto (tgt := 30) hx hb dX2_next_26 (by decide) ?_
    refine pp_iret hx hb hr hlocks ?_ dX2_next_30
    rw [xq_nx, if_neg c11]
section XRN
variable {pm : Program} {l : Launch} {e : Env} {R : Room} {s : State} {m : MethodId} {args : Array Value} {below : List Frame} {meth : Method} {c : Code} {H : Heap} {locs : List Loc} {cells slots : Nat} {Q : State → Prop}
variable {cc : ByteArray} {pc : Nat} {ls : Array Slot} {rest : List Value} {G : wm_G} {o d0 z : Nat} {H0 : Heap} {X : mm_S} {E : mm_E} {D D0 : xg} {p q : Int32} {nL : Nat}
theorem xq_next (F : CallFix pm m c cc nL s args lw_all RX2) (hK : wm_K G s) (hN : xn_T s) (hL : xv_L X) (hW : xx_W G o d0 (xq_st X p q) E D H) (p0 : 0 ≤ p.toInt) (hR : 1 ≤ R.frames ∧ 20 ≤ R.locals) (hsz : ls.size = nL) (hrest : (rest.map fun v => v.category).sum ≤ 8) (hd : decode cc pc = .ok (.invokevirtual 33, 3)) (hroom : cells ≤ R.cells ∧ slots ≤ R.slots)
    (kk : W pm l e R s m args below meth c H locs cells slots Q (F0 m (pc + 3) ls (.int (xq_nx X p) :: rest))) : W pm l e R s m args below meth c H locs cells slots Q (F0 m pc ls (.ref (o + 16) :: rest)) := by
  have hM := xn_next l G o d0 (xq_st X p q) E D (xv_L_st hL) (by rw [fd_xq_a]; exact p0)
  rw [xq_nx_st, fd_xq_a] at hM
  exact xr_callV (As := []) (rest := rest) (n := 0) F hK hN hW hM (lw_V q952 q954 qs17 q89 q955) (xr_rdr hK hW) (by decide +kernel) rfl ⟨hR.1, hR.2⟩ hsz rfl hrest hd hroom (fun v e => by rw [e]; exact kk)
end XRN
set_option maxHeartbeats 4000000 in
theorem xn_take (lQ : Launch) (G : wm_G) (o d0 : Nat) (X : mm_S) (E : mm_E) (D : xg) (Hz : Heap) (p q c : Int32) (hL : xv_L X) (p0 : 0 ≤ p.toInt) (hWz : xx_W G o d0 (xq_st X p q) E D Hz) : xk_Met lQ G o d0 yX2_take (ws_ yX2_take cX2_take 2 (some .boolean)) 1 (if xq_nx X p = c then xq_st X (p + 1) q else xq_st X p q) E D Hz [Value.ref (o + 16), .int c] (some (.int (if xq_nx X p = c then 1 else 0))) := by
  refine xk_start (own := RX2) (by decide +kernel) (Nat.le_of_ble_eq_true rfl) rfl (fun pQ eQ sQ mQ belowQ methQ cQ hx hb hml hr hlocks hts hown hK hN hHz hS ls hl => ?_)
  have hl : lv_has ls 2 [(0, .ref (o + 16)), (1, .int c)] := hl
  have hW := hWz
  refine lv_aload_n hx hb dX2_take_0 rfl (lv_at hl 0 rfl) ?_
  refine xq_next ⟨hx, hb, hml, hown, hts⟩ hK hN hL hW p0 ⟨Nat.le_of_ble_eq_true rfl, Nat.le_of_ble_eq_true rfl⟩ hl.1 (Nat.le_of_ble_eq_true rfl) dX2_take_1 ⟨Nat.le_of_ble_eq_true rfl, Nat.le_of_ble_eq_true rfl⟩ ?_
  refine lv_iload_n hx hb dX2_take_4 rfl (lv_at hl 1 rfl) ?_
  refine lv_icmp_eq (tgt := 10) hx hb dX2_take_5 (by decide) (fun c5 => ?_) (fun c5 => ?_)
  · refine lv_aload_n hx hb dX2_take_10 rfl (lv_at hl 0 rfl) ?_
    refine lv_dup hx hb dX2_take_11 rfl ?_
    refine xq_get hx hb hts hown hK hW 1 (by decide) (v := .int p) (by rw [fd_xq_a]; rfl) q216 rfl dX2_take_12 ?_
    refine lv_iconst (v := 1) hx hb dX2_take_15 (by decide) ?_
    refine nv_iadd hx hb dX2_take_16 (fun v16 e16 => ?_)
    refine xq_putaK hx hb hts hown hK hW hS q216 dX2_take_17 (fun H1 locs1 hW1 z1 o1 hS1 => ?_)
    rw [xq_fa, e16] at hW1
    refine lv_iconst (v := 1) hx hb dX2_take_20 (by decide) ?_
    exact wm_zret hx hb hr hlocks hS1 (fun _ h => h) rfl ⟨by rw [if_pos c5], by rw [if_pos c5]; exact hW1, z1, o1⟩ dX2_take_21
  · refine lv_iconst (v := 0) hx hb dX2_take_8 (by decide) ?_
    exact wm_zret hx hb hr hlocks hS (fun _ h => h) rfl ⟨by rw [if_neg c5], by rw [if_neg c5]; exact hW, rfl, fun _ _ => rfl⟩ dX2_take_9
set_option maxHeartbeats 4000000 in
theorem xn_deeper (lQ : Launch) (G : wm_G) (o d0 : Nat) (X : mm_S) (E : mm_E) (D : xg) (Hz : Heap) (p q : Int32) (hWz : xx_W G o d0 (xq_st X p q) E D Hz) : xz_Met lQ G o d0 yX2_deeper (ws_ yX2_deeper cX2_deeper 1 none) 0 0 0 Hz [Value.ref (o + 16)] (fun v X1 E1 D1 H => E1 = E ∧ D1 = D ∧ ¬ q = 8 ∧ v = none ∧ X1 = xq_st X (p + 1) (q + 1) ∧ H.size = Hz.size ∧ ∀ a : Nat, a ≠ o + 16 → H[a]? = Hz[a]?) RX3 (fun X1 E1 D1 H => X1 = xq_st X p q ∧ E1 = E ∧ D1 = D ∧ q = 8 ∧ H = Hz) := by
  refine xz_start (own := RX2) (by decide +kernel) (Nat.le_of_ble_eq_true rfl) rfl (fun pQ eQ sQ mQ belowQ methQ cQ hx hb hml hr hlocks htb hts hown hK hN hHz hS ls hl => ?_)
  have hl : lv_has ls 1 [(0, .ref (o + 16))] := hl
  have hW := hWz
  refine lv_aload_n hx hb dX2_deeper_0 rfl (lv_at hl 0 rfl) ?_
  refine xq_get hx hb hts hown hK hW 2 (by decide) (v := .int q) (by rw [fd_xq_o]; rfl) q217 rfl dX2_deeper_1 ?_
  refine lv_bipush (v := 8) hx hb dX2_deeper_4 (by decide) ?_
  refine lv_icmp_ne (tgt := 14) hx hb dX2_deeper_6 (by decide) (fun c6 => ?_) (fun c6 => ?_)
  · refine lv_aload_n hx hb dX2_deeper_14 rfl (lv_at hl 0 rfl) ?_
    refine lv_dup hx hb dX2_deeper_15 rfl ?_
    refine xq_get hx hb hts hown hK hW 2 (by decide) (v := .int q) (by rw [fd_xq_o]; rfl) q217 rfl dX2_deeper_16 ?_
    refine lv_iconst (v := 1) hx hb dX2_deeper_19 (by decide) ?_
    refine nv_iadd hx hb dX2_deeper_20 (fun v20 e20 => ?_)
    refine xq_putoK hx hb hts hown hK hW hS q217 dX2_deeper_21 (fun H1 locs1 hW1 z1 o1 hS1 => ?_)
    rw [xq_fo, e20] at hW1
    refine lv_aload_n hx hb dX2_deeper_24 rfl (lv_at hl 0 rfl) ?_
    refine lv_dup hx hb dX2_deeper_25 rfl ?_
    refine xq_get hx hb hts hown hK hW1 1 (by decide) (v := .int p) (by rw [fd_xq_a]; rfl) q216 rfl dX2_deeper_26 ?_
    refine lv_iconst (v := 1) hx hb dX2_deeper_29 (by decide) ?_
    refine nv_iadd hx hb dX2_deeper_30 (fun v30 e30 => ?_)
    refine xq_putaK hx hb hts hown hK hW1 hS1 q216 dX2_deeper_31 (fun H2 locs2 hW2 z2 o2 hS2 => ?_)
    rw [xq_fa, e30] at hW2
    exact xz_vret hx hb hr hlocks hW2 hS2 ⟨rfl, rfl, c6, rfl, rfl, z2.trans z1, fun a h => (o2 a h).trans (o1 a h)⟩ (Nat.le_of_ble_eq_true rfl) (Nat.le_of_ble_eq_true rfl) dX2_deeper_34
  · refine lv_aload_n hx hb dX2_deeper_9 rfl (lv_at hl 0 rfl) ?_
    refine xq_get hx hb hts hown hK hW 0 (by decide) (v := .ref (o + 17)) rfl q215 rfl dX2_deeper_10 ?_
    obtain ⟨ceT, wT1, wT2, wT3⟩ := xz_fault hK hW
    exact vx_athrow hx hb dX2_deeper_13 (xz_on (fun x h => (htb x h).elim) hlocks hW hS ⟨rfl, rfl, rfl, c6, rfl⟩ wT1 wT2 wT3 (Nat.le_of_ble_eq_true rfl) (Nat.le_of_ble_eq_true rfl))
section XRL
variable {pm : Program} {l : Launch} {e : Env} {R : Room} {s : State} {m : MethodId} {args : Array Value} {below : List Frame} {meth : Method} {c : Code} {H : Heap} {locs : List Loc} {cells slots : Nat} {Q : State → Prop}
variable {cc : ByteArray} {pc : Nat} {ls : Array Slot} {rest : List Value} {G : wm_G} {o d0 z : Nat} {H0 : Heap} {X : mm_S} {E : mm_E} {D D0 : xg} {p q : Int32} {nL : Nat}
theorem xq_take_ (F : CallFix pm m c cc nL s args lw_all RX2) (hK : wm_K G s) (hN : xn_T s) (hL : xv_L X) (hW : xx_W G o d0 (xq_st X p q) E D H) (p0 : 0 ≤ p.toInt) (hS : va_S (xx_F o d0) H0 H locs) {t : Int32} (hR : 2 ≤ R.frames ∧ 81 ≤ R.locals) (hsz : ls.size = nL) (hrest : (rest.map fun v => v.category).sum ≤ 8) (hd : decode cc pc = .ok (.invokevirtual 49, 3)) (hroom : cells ≤ R.cells ∧ slots ≤ R.slots)
    (k1 : xq_nx X p = t → ∀ (H1 : Heap) (locs1 : List Loc), xx_W G o d0 (xq_st X (p + 1) q) E D H1 → H1.size = H.size → (∀ a : Nat, a ≠ o + 16 → H1[a]? = H[a]?) → va_S (xx_F o d0) H0 H1 locs1 → W pm l e R s m args below meth c H1 locs1 cells slots Q (F0 m (pc + 3) ls (.int 1 :: rest)))
    (k0 : ¬ xq_nx X p = t → ∀ (H1 : Heap) (locs1 : List Loc), xx_W G o d0 (xq_st X p q) E D H1 → H1.size = H.size → (∀ a : Nat, a ≠ o + 16 → H1[a]? = H[a]?) → va_S (xx_F o d0) H0 H1 locs1 → W pm l e R s m args below meth c H1 locs1 cells slots Q (F0 m (pc + 3) ls (.int 0 :: rest))) : W pm l e R s m args below meth c H locs cells slots Q (F0 m pc ls (.int t :: .ref (o + 16) :: rest)) := by
  have hM := xn_take l G o d0 X E D H p q t hL p0 hW
  by_cases ct : xq_nx X p = t
  · rw [if_pos ct, if_pos ct] at hM
    exact xk_callV (As := [.int t]) (rest := rest) (n := 1) F hK hN hM (lw_V q982 q984 qs19 q89 q985) (xr_rdr hK hW) (by decide +kernel) rfl ⟨hR.1, hR.2⟩ hsz rfl hrest hd hroom hS (k1 ct)
  · rw [if_neg ct, if_neg ct] at hM
    exact xk_callV (As := [.int t]) (rest := rest) (n := 1) F hK hN hM (lw_V q982 q984 qs19 q89 q985) (xr_rdr hK hW) (by decide +kernel) rfl ⟨hR.1, hR.2⟩ hsz rfl hrest hd hroom hS (k0 ct)
/-- two are put together -/
theorem xq_both {b a1 a2 h : Nat} {g : Int32} {t1 t2 : xt} {V : Nat → Value} (F : CallFix pm m c cc nL s args lw_all RX2) (hK : wm_K G s) (hN : xn_T s) (hW : xx_W G o d0 X E D H) (hO : wm_O G b 15 5 V H) (hb : xg_d D b = (0, 0)) (hb0 : d0 ≤ b) (hg : g ∈ xt_sg) (ht1 : xt_at G o D H h t1 a1) (ht2 : xt_at G o D H h t2 a2) (hR : 3 ≤ R.frames ∧ 144 ≤ R.locals) (hsz : ls.size = nL) (hrest : (rest.map fun v => v.category).sum ≤ 8) (hd : decode cc pc = .ok (.invokespecial 69, 3)) (hroom : cells ≤ R.cells ∧ slots ≤ R.slots) (hS : va_S (xx_F o d0) H0 H locs)
    (kk : ∀ (H1 : Heap) (locs1 : List Loc), xx_W G o d0 X E (xg_mk D b) H1 → xt_at G o (xg_mk D b) H1 (h + 1) (t1 ++ t2 ++ [(g, 0)]) b → H1.size = H.size → (∀ a : Nat, a ≠ b → H1[a]? = H[a]?) → va_S (xx_F o d0) H0 H1 locs1 → W pm l e R s m args below meth c H1 locs1 cells slots Q (F0 m (pc + 3) ls rest)) : W pm l e R s m args below meth c H locs cells slots Q (F0 m pc ls (.ref a2 :: .ref a1 :: .int g :: .ref o :: .ref b :: rest)) := by
  refine wn_callI (As := [.ref o, .int g, .ref a1, .ref a2]) (rest := rest) (n := 4) F hK hN (wn_Both_15 l G o b g a1 a2 V H hO) q1105 q111 q1103 q1104 rfl (by decide +kernel) rfl ⟨hR.1, hR.2⟩ hsz rfl hrest hd hroom hS (fun x hx => by rw [hx]; exact Or.inr hb0) (fun H1 locs1 hp _ hS1 => ?_)
  obtain ⟨V', hO1, ⟨h0, h1, h2, h3, h4, -⟩, hz, hq, -⟩ := hp
  have hq := wn_all hz hq
  exact kk H1 locs1 (hW.node hb hb0 hO.lt hz hq) (xt_mkB hg hb hq hO1 h0 h1 h2 h3 h4 ht1 ht2) hz hq hS1
theorem xq_turned {b a1 h : Nat} {g : Int32} (hg : g = 0 ∨ g = 1) {t1 : xt} {V : Nat → Value} (F : CallFix pm m c cc nL s args lw_all RX2) (hK : wm_K G s) (hN : xn_T s) (hW : xx_W G o d0 X E D H) (hO : wm_O G b 12 4 V H) (hb : xg_d D b = (0, 0)) (hb0 : d0 ≤ b) (ht1 : xt_at G o D H h t1 a1) (hR : 3 ≤ R.frames ∧ 144 ≤ R.locals) (hsz : ls.size = nL) (hrest : (rest.map fun v => v.category).sum ≤ 8) (hd : decode cc pc = .ok (.invokespecial 89, 3)) (hroom : cells ≤ R.cells ∧ slots ≤ R.slots) (hS : va_S (xx_F o d0) H0 H locs)
    (kk : ∀ (H1 : Heap) (locs1 : List Loc), xx_W G o d0 X E (xg_mk D b) H1 → xt_at G o (xg_mk D b) H1 (h + 1) (t1 ++ [(if g = 0 then 3 else 4, 0)]) b → H1.size = H.size → (∀ a : Nat, a ≠ b → H1[a]? = H[a]?) → va_S (xx_F o d0) H0 H1 locs1 → W pm l e R s m args below meth c H1 locs1 cells slots Q (F0 m (pc + 3) ls rest)) : W pm l e R s m args below meth c H locs cells slots Q (F0 m pc ls (.ref a1 :: .int g :: .ref o :: .ref b :: rest)) := by
  refine wn_callI (As := [.ref o, .int g, .ref a1]) (rest := rest) (n := 3) F hK hN (wn_Turned_12 l G o b g a1 (nz_ hg) (by rcases hg with rfl | rfl <;> rfl) V H hO) q964 q103 q962 q963 rfl (by decide +kernel) rfl ⟨hR.1, Nat.le_trans (Nat.le_of_ble_eq_true rfl) hR.2⟩ hsz rfl hrest hd hroom hS (fun x hx => by rw [hx]; exact Or.inr hb0) (fun H1 locs1 hp _ hS1 => ?_)
  obtain ⟨V', hO1, ⟨h0, h1, h2, h3, -⟩, hz, hq, -⟩ := hp
  have hq := wn_all hz hq
  exact kk H1 locs1 (hW.node hb hb0 hO.lt hz hq) (xt_mkT hg hb hq hO1 h0 h1 h2 h3 ht1) hz hq hS1
theorem xq_named {b : Nat} {g : Int32} (g0 : 0 ≤ g.toInt) (g1 : g.toInt < 8) {V : Nat → Value} (F : CallFix pm m c cc nL s args lw_all RX2) (hK : wm_K G s) (hN : xn_T s) (hW : xx_W G o d0 X E D H) (hO : wm_O G b 13 3 V H) (hb : xg_d D b = (0, 0)) (hb0 : d0 ≤ b) (hR : 3 ≤ R.frames ∧ 144 ≤ R.locals) (hsz : ls.size = nL) (hrest : (rest.map fun v => v.category).sum ≤ 8) (hd : decode cc pc = .ok (.invokespecial 102, 3)) (hroom : cells ≤ R.cells ∧ slots ≤ R.slots) (hS : va_S (xx_F o d0) H0 H locs)
    (kk : ∀ (H1 : Heap) (locs1 : List Loc), xx_W G o d0 X E (xg_mk D b) H1 → xt_at G o (xg_mk D b) H1 1 [(2, g)] b → H1.size = H.size → (∀ a : Nat, a ≠ b → H1[a]? = H[a]?) → va_S (xx_F o d0) H0 H1 locs1 → W pm l e R s m args below meth c H1 locs1 cells slots Q (F0 m (pc + 3) ls rest)) : W pm l e R s m args below meth c H locs cells slots Q (F0 m pc ls (.int g :: .ref o :: .ref b :: rest)) := by
  refine wn_callI (As := [.ref o, .int g]) (rest := rest) (n := 2) F hK hN (wn_Named_13 l G o b g V H hO) q1073 q109 q1071 q1072 rfl (by decide +kernel) rfl ⟨hR.1, Nat.le_trans (Nat.le_of_ble_eq_true rfl) hR.2⟩ hsz rfl hrest hd hroom hS (fun x hx => by rw [hx]; exact Or.inr hb0) (fun H1 locs1 hp _ hS1 => ?_)
  obtain ⟨V', hO1, ⟨h0, h1, h2, -⟩, hz, hq, -⟩ := hp
  have hq := wn_all hz hq
  exact kk H1 locs1 (hW.node hb hb0 hO.lt hz hq) (xt_mkN g0 g1 hO1 h0 h1 h2 0) hz hq hS1
theorem xq_figure {b : Nat} {g : Int32} {V : Nat → Value} (F : CallFix pm m c cc nL s args lw_all RX2) (hK : wm_K G s) (hN : xn_T s) (hW : xx_W G o d0 X E D H) (hO : wm_O G b 14 3 V H) (hb : xg_d D b = (0, 0)) (hb0 : d0 ≤ b) (hR : 3 ≤ R.frames ∧ 144 ≤ R.locals) (hsz : ls.size = nL) (hrest : (rest.map fun v => v.category).sum ≤ 8) (hd : decode cc pc = .ok (.invokespecial 115, 3)) (hroom : cells ≤ R.cells ∧ slots ≤ R.slots) (hS : va_S (xx_F o d0) H0 H locs)
    (kk : ∀ (H1 : Heap) (locs1 : List Loc), xx_W G o d0 X E (xg_mk D b) H1 → xt_at G o (xg_mk D b) H1 1 [(1, g)] b → H1.size = H.size → (∀ a : Nat, a ≠ b → H1[a]? = H[a]?) → va_S (xx_F o d0) H0 H1 locs1 → W pm l e R s m args below meth c H1 locs1 cells slots Q (F0 m (pc + 3) ls rest)) : W pm l e R s m args below meth c H locs cells slots Q (F0 m pc ls (.int g :: .ref o :: .ref b :: rest)) := by
  refine wn_callI (As := [.ref o, .int g]) (rest := rest) (n := 2) F hK hN (wn_Figure_14 l G o b g V H hO) q1091 q110 q1089 q1090 rfl (by decide +kernel) rfl ⟨hR.1, Nat.le_trans (Nat.le_of_ble_eq_true rfl) hR.2⟩ hsz rfl hrest hd hroom hS (fun x hx => by rw [hx]; exact Or.inr hb0) (fun H1 locs1 hp _ hS1 => ?_)
  obtain ⟨V', hO1, ⟨h0, h1, h2, -⟩, hz, hq, -⟩ := hp
  have hq := wn_all hz hq
  exact kk H1 locs1 (hW.node hb hb0 hO.lt hz hq) (xt_mkF hO1 h0 h1 h2 0) hz hq hS1
/-- a level is read; a fault goes on out -/
theorem xq_call {y : MethodName} {bytes : ByteArray} {maxL d dR index : Nat} {nt : String} {f : xq_f} {Bf : Int32 → Prop} {r : xq_r} {p0 : Int32} (F : CallFix pm m c cc nL s args lw_all RX2) (hK : wm_K G s) (hN : xn_T s) (hA : xg_A z s s.heap) (hz : z ≤ o) (hlocks : meth.locks = false) (htb : ∀ x ∈ c.exceptionTable.toList, False) (hC : xq_Con l G o d0 z X E y (ws_ y bytes maxL (some (.object nt))) d f Bf) (hg : GoodIn lw_all (wsV RX2 index RX2 y (ws_ y bytes maxL (some (.object nt))))) (hy : y.cls = RX2 ∧ xw_y y 0) (hR : d + 1 ≤ dR ∧ 8 + (maxL + 11) + 60 * d ≤ 60 * dR)
    (hW : xx_W G o d0 (xq_st X p q) E D H) (hS : va_S (xx_F o d0) s.heap H locs) (hk : xq_K o s.heap H) (hD : xq_D s.heap D0 D) (b0 : 0 ≤ p0.toInt) (b1 : p0.toInt ≤ p.toInt) (b2 : p.toInt ≤ (fd_ X 22).toInt) (hB : Bf q) (hgo : xq_go (fd_ X 22).toInt p q (f p q)) (hend : (f p q).2.1.toInt ≤ r.2.1.toInt) (hno : (f p q).1 = none → r = (none, (f p q).2)) (hc : cells ≤ xq_m p0 p) (hs : slots ≤ 5 * xq_m p0 p) (hsz : ls.size = nL) (hrest : (rest.map fun v => v.category).sum ≤ 8) (hd : decode cc pc = .ok (.invokevirtual index, 3))
    (kk : ∀ (t : xt) (a : Nat) (D1 : xg) (H1 : Heap) (locs1 : List Loc), (f p q).1 = some t → xx_W G o d0 (xq_st X (f p q).2.1 (f p q).2.2) E D1 H1 → xt_at G o D1 H1 (xq_m p (f p q).2.1) t a → xq_K o H H1 → xq_D H D D1 → va_S (xx_F o d0) s.heap H1 locs1 → W pm l e (wm_rc dR (xq_m p0 r.2.1) (5 * xq_m p0 r.2.1)) s m args below meth c H1 locs1 (xq_m p0 (f p q).2.1) (5 * xq_m p0 (f p q).2.1) (xz_Q G o d0 (xq_P G o X E D0 s.heap p0 r) RX3 (xq_X o X E D0 s.heap r) below args s (xq_m p0 r.2.1) (5 * xq_m p0 r.2.1)) (F0 m (pc + 3) ls (.ref a :: rest))) :
    W pm l e (wm_rc dR (xq_m p0 r.2.1) (5 * xq_m p0 r.2.1)) s m args below meth c H locs cells slots (xz_Q G o d0 (xq_P G o X E D0 s.heap p0 r) RX3 (xq_X o X E D0 s.heap r) below args s (xq_m p0 r.2.1) (5 * xq_m p0 r.2.1)) (F0 m pc ls (.ref (o + 16) :: rest)) := by
  have g1 := hgo.1
  have hm : xq_m p0 p + xq_m p (f p q).2.1 = xq_m p0 (f p q).2.1 := by unfold xq_m; omega
  have hm2 : xq_m p0 (f p q).2.1 ≤ xq_m p0 r.2.1 := by unfold xq_m; omega
  refine W.widen hc hs ?_
  refine xz_call (xy_rV (As := []) (rest := rest) (n := 0) F hK hN (hA.frame hz (by have := hW.lim.1; omega) hS) (hC D H p q hW (by omega) b2 hB) hg (xr_rdr hK hW) hy rfl hR hsz rfl hrest hd ⟨by rw [hm]; exact hm2, by rw [← Nat.mul_add, hm]; exact Nat.mul_le_mul_left 5 hm2⟩) hS (fun q9 ce X' E' D' H1 locs1 hp hw hS1 w1 w2 w3 => ?_) (fun v X' E' D' H1 locs1 hp hw hS1 => ?_)
  · obtain ⟨eE, eX, hk1, hD1, hn⟩ := hp
    rw [eE, eX] at hw
    exact xz_on (fun x h => (htb x h).elim) hlocks hw hS1 ⟨rfl, by rw [hno hn], hk.tr hk1, hD.tr hk.1 hD1, by rw [hno hn]⟩ w1 w2 w3 (by rw [hm]; exact hm2) (by rw [← Nat.mul_add, hm]; exact Nat.mul_le_mul_left 5 hm2)
  · obtain ⟨eE, eX, hk1, hD1, t, a, ht, ev, hT⟩ := hp
    rw [eE, eX] at hw
    rw [ev, hm, ← Nat.mul_add, hm]
    exact kk t a D' H1 locs1 ht hw hT hk1 hD1 hS1
end XRL
theorem xq_m1 {p0 p : Int32} (h0 : 0 ≤ p0.toInt) (h1 : p0.toInt ≤ p.toInt) (h2 : p.toInt < 1000) : xq_m p0 (p + 1) = xq_m p0 p + 1 := by
  have e := ww_a1 (p := p) h2 (by omega)
  unfold xq_m
  omega
theorem xq_mm {p0 p p2 : Int32} (h1 : p0.toInt ≤ p.toInt) (h2 : p.toInt ≤ p2.toInt) : xq_m p0 p ≤ xq_m p0 p2 := by unfold xq_m; omega
