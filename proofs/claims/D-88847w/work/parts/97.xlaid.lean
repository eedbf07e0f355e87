/-! ROWS LAID -/
set_option maxRecDepth 100000
/-- a row is entered -/
def xg_ro (D : xg) (d b : Nat) : xg := (D.1, fun s => if s = d then b else D.2.1 s, fun q => if q = b then (3, d) else xg_d D q, D.2.2.2)
theorem xx_W.laid {G : wm_G} {o d0 : Nat} {X X' : mm_S} {E E' : mm_E} {D : xg} {H H1 : Heap} {d b q N : Nat} (w : xx_W G o d0 X E D H) (hd : d < 6) (hN : N ≤ 60) (hb : xg_d D b = (0, 0)) (hb0 : d0 ≤ b) (hb1 : b < H1.size)
    (hX : ∀ k : Nat, k ≠ 58 → k ≠ 100 → k ≠ 101 → X' k = X k) (h58 : (X' 58 d).toInt = -2 - (q : Int)) (h58o : ∀ s : Nat, s ≠ d → X' 58 s = X 58 s) (h100 : (X' 100 d).toInt = (N : Int)) (h100o : ∀ s : Nat, s ≠ d → X' 100 s = X 100 s)
    (hE : ∀ y : Nat, 60 * d ≤ y → y < 60 * d + 60 → E' 0 y = 0 ∧ X' 101 y = 0) (hEo : ∀ y : Nat, y < 60 * d ∨ 60 * d + 60 ≤ y → E' 0 y = E 0 y ∧ X' 101 y = X 101 y)
    (hA : wm_A G (o + 40) 10 6 (updV (fun s => xx_s D (X 58 s) s) d (.ref b)) H1) (hR : wm_A G b (xx_rt q) N (fun _ => xx_el q 0 0) H1) (hs : H.size ≤ H1.size) (ho : ∀ p : Nat, xg_d D p ≠ (0, 0) → p ≠ o + 40 → H1[p]? = H[p]?) (hz : b < H.size → False) (hn : ∀ p : Nat, H1.size ≤ p → xg_d D p = (0, 0)) : xx_W G o d0 X' E' (xg_ro D d b) H1 := by
  have hlim := w.lim
  have hlt : o + 40 < H.size := by omega
  obtain ⟨H2, hA2, hs2, ho2⟩ : ∃ H2 : Heap, wm_A G (o + 40) 10 6 (updV (fun q => xx_s D (X 58 q) q) d (xx_s D (-1) d)) H2 ∧ H2.size = H.size ∧ ∀ p : Nat, p ≠ o + 40 → H2[p]? = H[p]? :=
    ⟨H.setIfInBounds (o + 40) (arrV (G.2 10) 6 (updV (fun q => xx_s D (X 58 q) q) d (xx_s D (-1) d))), by show (H.setIfInBounds (o + 40) _)[o + 40]? = some _; rw [Array.getElem?_setIfInBounds_self_of_lt hlt], Array.size_setIfInBounds, fun p h => Array.getElem?_setIfInBounds_ne (Ne.symm h)⟩
  have e1 : (-1 : Int32).toInt = -1 := by decide
  have hc0 := w.cap.1
  have w2 := w.kput hd (v := -1) (by rw [e1]; omega) (by decide) hA2 hs2 ho2
  have e0 : ∀ k : Nat, k ≠ 58 → mm_up X 58 d (-1) k = X k := fun k h => mm_up_k h
  have hle : xg_le (mm_up X 58 d (-1)) D (xg_ro D d b) := ⟨fun _ _ => rfl, fun s _ h => if_neg (fun e => by rw [e, mm_up_s, e1] at h; omega), fun p hp => if_neg (fun e => hp (by rw [e]; exact hb)), fun _ _ _ => rfl⟩
  have hX' : ∀ k : Nat, k ≠ 58 → k ≠ 100 → k ≠ 101 → X' k = mm_up X 58 d (-1) k := fun k a b c => (hX k a b c).trans (e0 k a).symm
  have hk : ∀ p : Nat, xg_d D p ≠ (0, 0) → p ≠ o + 40 → H1[p]? = H2[p]? := fun p h1 h2 => (ho p h1 h2).trans (ho2 p h2).symm
  have d40 : xg_d D (o + 40) = (1, 40) := w.dfx 40 (by omega)
  have hf : ∀ j : Nat, j ≤ 88 → j ≠ 40 → H1[o + j]? = H2[o + j]? := fun j hj h4 => hk _ (by rw [w.dfx j hj]; exact fun z => absurd (congrArg Prod.fst z) (Nat.one_ne_zero)) (by omega)
  have ht : ∀ p a c : Nat, xg_d D p = (a, c) → a ≠ 1 → a ≠ 0 → H1[p]? = H2[p]? := fun p a c h h1 h0 => hk p (by rw [h]; exact fun z => h0 (congrArg Prod.fst z)) (fun e => by rw [e, d40] at h; exact h1 (congrArg Prod.fst h).symm)
  have h4 : X' 4 0 = mm_up X 58 d (-1) 4 0 := congrFun (hX' 4 (by omega) (by omega) (by omega)) 0
  have h4' : X' 4 0 = X 4 0 := congrFun (hX 4 (by omega) (by omega) (by omega)) 0
  refine ⟨xk_main w2 (hf 0 (by omega) (by omega)) (fun k q1 q2 q3 => congrFun (hX' k (fun e => by rw [e] at q2; exact absurd q2 (by decide)) (by omega) (by omega)) 0) hle,
    xk_arr w2 (fun k2 j2 t2 n2 h2 => hf j2 (by have := (xx_arrj h2).1; omega) (by have := (xx_arrj h2).1; omega)) (fun k2 h2 => ?_), xk_bod w2 (hf 3 (by omega) (by omega)) h4 hle, xk_wrk w2 (hf 6 (by omega) (by omega)) (hX' 9 (by omega) (by omega) (by omega)) hle,
    hA.to fun s hs6 => ?_, xk_trn w2 (hf 8 (by omega) (by omega)), xk_flt w2 (hf 17 (by omega) (by omega)), xk_rdr w2 (hf 16 (by omega) (by omega)) (congrFun (hX' 95 (by omega) (by omega) (by omega)) 0) (congrFun (hX' 96 (by omega) (by omega) (by omega)) 0), xk_txa w2 (hf 18 (by omega) (by omega)),
    xk_txt w2 (fun i hi => hf _ (by omega) (by omega)) (fun k h1 h2 => hX' k (by omega) (by omega) (by omega)), xk_tst w2 (fun i hi => ⟨hf _ (by omega) (by omega), hf _ (by omega) (by omega)⟩) (fun p z => ht p 4 0 z (by decide) (by decide)) (hX' 90 (by omega) (by omega) (by omega)) hle,
    xk_bdy w2 (fun b2 hb2 => ht _ 2 _ (w2.dby b2 0 hb2 (Or.inl rfl)) (by decide) (by decide)) (fun k _ h => hX' k (by have := h.1; omega) (by have := h.2; omega) (by have := h.2; omega)) h4 hle, xk_knd w2 (hX' 60 (by omega) (by omega) (by omega)) h4,
    xk_har w2 (fun b2 j2 hb2 q1 q2 hj => ht _ 2 _ (w2.dby b2 (1 + j2) hb2 (Or.inr ⟨q1, q2, by omega⟩)) (by decide) (by decide)) (fun k _ h => hX' k (by have := h.1; omega) (by have := h.2; omega) (by have := h.2; omega)) h4 hle,
    fun s hs6 hz2 => ?_, xk_dfx w2 hle, xk_dby w2 (hX' 60 (by omega) (by omega) (by omega)) h4 hle, fun p hp => ?_, fun p hp => ?_, ⟨w.lim.1, Nat.le_trans w.lim.2 hs⟩, ⟨?_, fun m hm => ?_, fun s hs6 => ?_⟩, xk_cap w2 h4 (hX' 90 (by omega) (by omega) (by omega)), fun s hs6 => ?_⟩
  · rcases hx : xx_arr k2 with _ | x
    · exact absurd hx h2
    · have h := xx_alt hx
      exact hX' k2 (fun e => by rw [e, show xx_arr 58 = none from rfl] at hx; cases hx) (by omega) (by omega)
  · show (if s = d then Value.ref b else xx_s D (X 58 s) s) = xx_s (xg_ro D d b) (X' 58 s) s
    by_cases z : s = d
    · rw [if_pos z, z]
      unfold xx_s
      rw [if_neg (fun e => by rw [e, e1] at h58; omega), if_pos (ww_lt' (by rw [ww_00]; omega))]
      exact congrArg Value.ref (if_pos rfl).symm
    · rw [if_neg z, h58o s z]
      unfold xx_s
      split
      · rfl
      · split
        · exact congrArg Value.ref (if_neg z).symm
        · rfl
  · by_cases z : s = d
    · rw [z]
      have er : xg_r (xg_ro D d b) d = b := if_pos rfl
      rw [er, show (-2 - (X' 58 d).toInt).toNat = q by omega, show (X' 100 d).toInt.toNat = N by omega]
      refine ⟨hR.to fun y hy => ?_, if_pos rfl⟩
      obtain ⟨a1, a2⟩ := hE (60 * d + y) (by omega) (by omega)
      rw [a1, a2]
    · rw [h58o s z] at hz2
      have e58 : mm_up X 58 d (-1) 58 s = X 58 s := mm_up_n z
      obtain ⟨a, c⟩ := w2.row s hs6 (by rw [e58]; exact hz2)
      rw [e58] at a
      have er : xg_r (xg_ro D d b) s = xg_r D s := if_neg z
      have hsz := w.siz s hs6
      rw [er, h58o s z, h100o s z]
      refine ⟨((a.kept (ht _ 3 _ c (by decide) (by decide))).to fun y hy => ?_), ?_⟩
      · have hy2 : y < (X 100 s).toInt.toNat := hy
        obtain ⟨a1, a2⟩ := hEo (60 * s + y) (by omega)
        rw [a1, a2]
        rfl
      · show (if xg_r D s = b then _ else xg_d D (xg_r D s)) = _
        rw [if_neg (fun e => by rw [e, hb] at c; exact absurd (congrArg Prod.fst c) (show ¬ (0 : Nat) = 3 by decide))]
        exact c
  · show (if p = b then _ else xg_d D p) = _
    rw [if_neg (by omega)]
    exact hn p hp
  · have hp : (if p = b then (3, d) else xg_d D p) ≠ (0, 0) := hp
    by_cases z : p = b
    · rw [z]; exact Or.inr hb0
    · rw [if_neg z] at hp; exact w.din p hp
  · rw [congrFun (hX 5 (by omega) (by omega) (by omega)) 0, h4']; exact w.rng.1
  · rw [hX 9 (by omega) (by omega) (by omega), h4']; exact w.rng.2.1 m hm
  · by_cases z : s = d
    · rw [z, h4']; omega
    · rw [h58o s z, h4']; exact w.rng.2.2 s hs6
  · by_cases z : s = d
    · rw [z, h100]; omega
    · rw [h100o s z]; exact w.siz s hs6
/-- the words of a NegativeArraySizeException -/
theorem xe_at {args : Array Value} {s : State} (hts : ∀ w ∈ lw_all, w.before args s = true) (hN : xn_T s) : ∀ w ∈ vx_atM "java/lang/NegativeArraySizeException" ["java/lang/RuntimeException", "java/lang/Exception"], w.before args s = true := by
  intro w hw
  obtain ⟨hm, hn⟩ := List.mem_filter.mp hw
  simp only [Bundle.messageArmAtoms, Bundle.throwableAtoms, Bundle.throwableSAtoms, Bundle.chainSAtoms, Bundle.passSAtoms, Bundle.stringAtoms, List.mem_append, List.mem_cons, List.not_mem_nil, or_false] at hm
  rcases hm with (((((rfl | rfl | rfl | rfl | rfl | rfl | rfl | rfl | rfl | rfl | rfl | rfl | rfl | rfl | rfl | rfl | rfl | rfl | rfl | rfl | rfl | rfl | rfl | rfl) | (rfl | rfl | rfl | rfl)) | ((rfl | rfl | rfl | rfl | rfl) | ((rfl | rfl | rfl | rfl | rfl) | (rfl | rfl | rfl | rfl | rfl)))) | (rfl | rfl | rfl | rfl | rfl | rfl | rfl)) | (rfl | rfl | rfl | rfl | rfl | rfl | rfl | rfl | rfl | rfl | rfl | rfl | rfl | rfl))
  · exact hts _ q85
  · exact hts _ q148
  · exact hts _ q157
  · exact hts _ q161
  · exact hts _ q164
  · exact hts _ q166
  · exact hts _ q149
  · exact hts _ q150
  · exact hts _ q120
  · exact hts _ q121
  · exact hts _ q151
  · exact hts _ q156
  · exact hts _ q162
  · exact hts _ q181
  · exact hts _ q138
  · exact hts _ q182
  · exact hts _ q140
  · exact hts _ q183
  · exact hts _ q142
  · exact hts _ q152
  · exact absurd hn (by decide)
  · exact hts _ q154
  · exact absurd hn (by decide)
  · exact hts _ q144
  · exact hts _ q1576
  · exact hts _ q1577
  · exact hts _ q180
  · exact hts _ q144
  · exact hts _ q1567
  · exact hts _ q1568
  · exact hts _ q1569
  · exact hts _ q1570
  · exact va_Nw.use rfl (hN.de q130)
  · exact hts _ q1570
  · exact hts _ q1571
  · exact hts _ q1572
  · exact hts _ q1573
  · exact va_Nw.use rfl (hN.de q132)
  · exact hts _ q1573
  · exact hts _ q1574
  · exact hts _ q1575
  · exact hts _ q1576
  · exact va_Nw.use rfl (hN.de q134)
  · exact hts _ q104
  · exact hts _ q1587
  · exact hts _ q1083
  · exact hts _ q1588
  · exact hts _ q1590
  · exact hts _ q1589
  · exact hts _ q1591
  · exact hts _ q112
  · exact hts _ q1566
  · exact va_Nw.use rfl (hN.ca q1585)
  · exact hts _ q1586
  · exact hts _ q160
  · exact hts _ q1580
  · exact hts _ q1581
  · exact hts _ q1583
  · exact hts _ q1579
  · exact absurd hn (by decide)
  · exact absurd hn (by decide)
  · exact hts _ q179
  · exact hts _ q146
  · exact hts _ q1578
theorem xe_txt (n : Int32) : ((toString n : String) == notModelled) = false := by
  rw [beq_eq_false_iff_ne]
  intro h
  have a := int32_print n
  rw [h] at a
  exact absurd a (by decide)
theorem xe_nb (n : Int32) : (stringBytes (stringToUtf16 (toString n))).size ≤ 44 := by
  have a := stringBytes_size_le (stringToUtf16 (toString n))
  have b := utf16_size_le (toString n)
  have c := int32_print n
  omega
def xf_rX (X : mm_S) (d : Nat) (v n : Int32) : mm_S := fun k j => if k = 58 ∧ j = d then v else if k = 100 ∧ j = d then n else if k = 101 ∧ 60 * d ≤ j ∧ j < 60 * d + 60 then 0 else X k j
def xf_rE (E : mm_E) (d : Nat) : mm_E := fun k j => if k = 0 ∧ 60 * d ≤ j ∧ j < 60 * d + 60 then 0 else E k j
def xf_row (X : mm_S) (E : mm_E) (d t n : Int32) : Int32 × mm_S × mm_E := if ff_isShelf d = 0 then (-1, X, E) else if ff_in t 0 4 = 0 then (-1, X, E) else if ¬ n ≤ 60 then (-1, X, E) else if n < 0 then (-14, X, E)
  else (1, xf_rX X d.toNatClampNeg (-2 - t) n, xf_rE E d.toNatClampNeg)
def xe_PE (D : xg) (r : Int32 × mm_S × mm_E) : xz_P := fun v X' E' D' _ => v = some (.int r.1) ∧ X' = r.2.1 ∧ E' = r.2.2 ∧ xg_l D' = xg_l D
theorem xx_W.laidF {G : wm_G} {o d0 : Nat} {X : mm_S} {E : mm_E} {D : xg} {H H1 : Heap} {d n v : Int32} {b q : Nat} (w : xx_W G o d0 X E D H) (hd0 : 0 ≤ d.toInt) (hd6 : d.toInt < 6) (hn0 : 0 ≤ n.toInt) (hn : n.toInt ≤ 60) (hv : v.toInt = -2 - (q : Int)) (hb : b = H.size) (hb1 : H1.size = H.size + 1)
    (hA : wm_A G (o + 40) 10 6 (updV (fun s => xx_s D (X 58 s) s) d.toNatClampNeg (.ref b)) H1) (hR : wm_A G b (xx_rt q) n.toNatClampNeg (fun _ => xx_el q 0 0) H1) (ho : ∀ p : Nat, p < H.size → p ≠ o + 40 → H1[p]? = H[p]?) : xx_W G o d0 (xf_rX X d.toNatClampNeg v n) (xf_rE E d.toNatClampNeg) (xg_ro D d.toNatClampNeg b) H1 := by
  have hdn : d.toNatClampNeg < 6 := by rw [ww_cl]; omega
  have hnn := ww_cl n
  refine w.laid (N := n.toNatClampNeg) (q := q) hdn (by omega) (w.dnw b (by omega)) (by have := w.lim.2; omega) (by omega) (fun k a b c => ?_) ?_ (fun s h => ?_) ?_ (fun s h => ?_) (fun y a b => ⟨?_, ?_⟩) (fun y a => ⟨?_, ?_⟩) hA hR (by omega) (fun p h1 h2 => ho p (w.dlt h1) h2) (by omega) (fun p hp => w.dnw p (by omega))
  · funext j; unfold xf_rX; rw [if_neg (fun z => a z.1), if_neg (fun z => b z.1), if_neg (fun z => c z.1)]
  · unfold xf_rX; rw [if_pos ⟨rfl, rfl⟩]; exact hv
  · unfold xf_rX; rw [if_neg (fun z => h z.2), if_neg (fun z => absurd z.1 (by decide)), if_neg (fun z => absurd z.1 (by decide))]
  · unfold xf_rX; rw [if_neg (fun z => absurd z.1 (by decide)), if_pos ⟨rfl, rfl⟩, hnn]; omega
  · unfold xf_rX; rw [if_neg (fun z => absurd z.1 (by decide)), if_neg (fun z => h z.2), if_neg (fun z => absurd z.1 (by decide))]
  · unfold xf_rE; rw [if_pos ⟨rfl, a, b⟩]
  · unfold xf_rX; rw [if_neg (fun z => absurd z.1 (by decide)), if_neg (fun z => absurd z.1 (by decide)), if_pos ⟨rfl, a, b⟩]
  · unfold xf_rE; rw [if_neg (by omega)]
  · unfold xf_rX; rw [if_neg (fun z => absurd z.1 (by decide)), if_neg (fun z => absurd z.1 (by decide)), if_neg (by omega)]

def hX0_row : List (Nat × Nat × Nat × Nat) := [((27 : Nat), (118 : Nat), (119 : Nat), (545 : Nat))]
set_option maxHeartbeats 4000000 in
theorem xc_row (lQ : Launch) (hlt : lQ.stackTraces = false) (G : wm_G) (o d0 z : Nat) (X : mm_S) (E : mm_E) (D : xg) (Hz : Heap) (d t n : Int32) (hz : z ≤ o) (hWz : xx_W G o d0 X E D Hz) : xy_Met lQ G o d0 yX0_row (wsW_ yX0_row cX0_row 5 (some .int) hX0_row) 171 3 60 Hz [Value.ref o, .int d, .int t, .int n] z (xe_PE D (xf_row X E d t n)) RX3 xe_F := by
  refine xy_startH (own := RX0) (by decide +kernel) (Nat.le_of_ble_eq_true rfl) rfl (fun pQ eQ sQ mQ belowQ methQ cQ hx hb hml hr hlocks htb hts hown hK hN hHz hA hS ls hl => ?_)
  have hl : lv_has ls 5 [(0, .ref o), (1, .int d), (2, .int t), (3, .int n)] := hl
  subst hHz
  have hW := hWz
  have hlim := hW.lim
  have KB : xf_row X E d t n = (-1, X, E) → W pQ lQ eQ (wm_rc 171 3 60) sQ mQ ([Value.ref o, .int d, .int t, .int n] : List Value).toArray belowQ methQ cQ sQ.heap [] 0 0 (xz_Q G o d0 (xe_PE D (xf_row X E d t n)) RX3 xe_F belowQ ([Value.ref o, .int d, .int t, .int n] : List Value).toArray sQ 3 60) (F0 mQ 25 ls []) := by
    intro hres
    refine lv_iconst (v := (-1)) hx hb dX0_row_25 (by decide) ?_
    exact xz_iret hx hb hr hlocks hW hS ⟨by rw [hres], by rw [hres], by rw [hres], rfl⟩ (Nat.zero_le _) (Nat.zero_le _) dX0_row_26
  refine lv_iload_n hx hb dX0_row_0 rfl (lv_at hl 1 rfl) ?_
  refine pp_calli (As := [.int d]) (rest := []) (n := 1) ⟨hx, hb, hml, hown, hts⟩ (xc_isShelf lQ d) (lw_S q816 q817 q84 q818) (by decide +kernel) rfl ⟨(Nat.le_of_ble_eq_true rfl), (Nat.le_of_ble_eq_true rfl)⟩ hl.1 rfl (Nat.le_of_ble_eq_true rfl) dX0_row_1 ⟨Nat.zero_le _, Nat.zero_le _⟩ (fun v1 e1 => ?_)
  refine lv_if_eq (tgt := 25) hx hb dX0_row_4 (by decide) (fun c4 => KB (by rw [xf_row, if_pos (e1.symm.trans c4)])) (fun c4 => ?_)
  have n4 : ¬ ff_isShelf d = 0 := fun z => c4 (e1.trans z)
  refine lv_iload_n hx hb dX0_row_7 rfl (lv_at hl 2 rfl) ?_
  refine lv_i2l (v := (t).toInt64) hx hb dX0_row_8 rfl ?_
  refine lv_lconst (v := 0) hx hb dX0_row_9 (by decide) ?_
  refine lv_ldc2 (v := 4) hx hb hown (hts _ q912) dX0_row_10 ?_
  refine xx_within (rest := []) t 0 4 ⟨hx, hb, hml, hown, hts⟩ rfl (by decide) (by decide) q459 hl.1 rfl rfl (Nat.le_of_ble_eq_true rfl) rfl rfl ⟨Nat.zero_le _, Nat.zero_le _⟩ dX0_row_13 (fun v13 e13 => ?_)
  refine lv_if_eq (tgt := 25) hx hb dX0_row_16 (by decide) (fun c16 => KB (by rw [xf_row, if_neg n4, if_pos (e13.symm.trans c16)])) (fun c16 => ?_)
  have n16 : ¬ ff_in t 0 4 = 0 := fun z => c16 (e13.trans z)
  refine lv_iload_n hx hb dX0_row_19 rfl (lv_at hl 3 rfl) ?_
  refine lv_bipush (v := 60) hx hb dX0_row_20 (by decide) ?_
  refine lv_icmp_le (tgt := 27) hx hb dX0_row_22 (by decide) (fun c22 => ?_) (fun c22 => KB (by rw [xf_row, if_neg n4, if_neg n16, if_pos c22]))
  have hds := ff_isShelf_t n4
  have hts4 := ff_in_t n16
  have e60 : (60 : Int32).toInt = 60 := by decide
  have n60 := ww_le c22
  have hpre : xf_row X E d t n = if n < 0 then (-14, X, E) else (1, xf_rX X d.toNatClampNeg (-2 - t) n, xf_rE E d.toNatClampNeg) := by rw [xf_row, if_neg n4, if_neg n16, if_neg (fun z => z c22)]
  have hdn : d.toNatClampNeg < 6 := by rw [ww_cl]; omega
  have KC : ∀ (q9 : Nat) (H1 : Heap) (cells slots : Nat), n < 0 → xx_W G o d0 X E D H1 → va_S (xx_F o d0) sQ.heap H1 [] → cells ≤ 3 → slots ≤ 60 → W pQ lQ eQ (wm_rc 171 3 60) sQ mQ ([Value.ref o, .int d, .int t, .int n] : List Value).toArray belowQ methQ cQ H1 [] cells slots (xz_Q G o d0 (xe_PE D (xf_row X E d t n)) RX3 xe_F belowQ ([Value.ref o, .int d, .int t, .int n] : List Value).toArray sQ 3 60) (F0 mQ 119 ls [.ref q9]) := by
    intro q9 H1 cells slots hn0 hW1 hS1 hc hs
    refine lv_astore (lv' := [(4, .ref q9), (0, .ref o), (1, .int d), (2, .int t), (3, .int n)]) hx hb dX0_row_119 hl (by decide) rfl (fun ls hl => ?_)
    refine lv_bipush (v := (-14)) hx hb dX0_row_121 (by decide) ?_
    have hres : xf_row X E d t n = (-14, X, E) := by rw [hpre, if_pos hn0]
    exact xz_iret hx hb hr hlocks hW1 hS1 ⟨by rw [hres], by rw [hres], by rw [hres], rfl⟩ hc hs dX0_row_123
  have KD : ∀ (H1 : Heap) (locs1 : List Loc) (D1 : xg) (cells slots : Nat), ¬ n < 0 → xx_W G o d0 (xf_rX X d.toNatClampNeg (-2 - t) n) (xf_rE E d.toNatClampNeg) D1 H1 → xg_l D1 = xg_l D → va_S (xx_F o d0) sQ.heap H1 locs1 → cells ≤ 3 → slots ≤ 60 → W pQ lQ eQ (wm_rc 171 3 60) sQ mQ ([Value.ref o, .int d, .int t, .int n] : List Value).toArray belowQ methQ cQ H1 locs1 cells slots (xz_Q G o d0 (xe_PE D (xf_row X E d t n)) RX3 xe_F belowQ ([Value.ref o, .int d, .int t, .int n] : List Value).toArray sQ 3 60) (F0 mQ 117 ls []) := by
    intro H1 locs1 D1 cells slots hn0 hW1 hD1 hS1 hc hs
    refine lv_iconst (v := 1) hx hb dX0_row_117 (by decide) ?_
    have hres : xf_row X E d t n = (1, xf_rX X d.toNatClampNeg (-2 - t) n, xf_rE E d.toNatClampNeg) := by rw [hpre, if_neg hn0]
    exact xz_iret hx hb hr hlocks hW1 hS1 ⟨by rw [hres], by rw [hres], by rw [hres], hD1⟩ hc hs dX0_row_118
  refine lv_iload_n hx hb dX0_row_27 rfl (lv_at hl 2 rfl) ?_
  by_cases k0 : t = 0
  · skip
    have hvt : (-2 - t).toInt = -2 - ((0 : Nat) : Int) := by rw [k0]; decide
    refine lv_tableIn (off := 32) (tgt := 60) hx hb dX0_row_28 (by rw [k0]; decide) (by rw [k0]; decide) (by rw [k0]; rfl) (by decide) ?_
    refine lv_aload_n hx hb dX0_row_60 rfl (lv_at hl 0 rfl) ?_
    refine xx_getr hx hb hts hown hK hW 58 rfl rfl (by decide) (by decide) q331 dX0_row_61 ?_
    refine lv_iload_n hx hb dX0_row_64 rfl (lv_at hl 1 rfl) ?_
    refine lv_iload_n hx hb dX0_row_65 rfl (lv_at hl 3 rfl) ?_
    by_cases hn0 : n < 0
    · refine vx_newarrayZ hx hb hn0 dX0_row_66 (fun tx htx => ?_)
      refine vx_vm hx hlt (names := ["java/lang/RuntimeException", "java/lang/Exception"]) (nb := 44) (A := fun a => z ≤ a) (by decide +kernel) (by decide +kernel) (by decide +kernel) (by decide +kernel) (xe_at hts hN) (by decide +kernel) hA.1.1 hA.1.2 va_S.rf (hl.1.trans hml.symm) (by rw [htx]; exact xe_txt n) (by rw [htx]; exact xe_nb n) (Nat.le_of_ble_eq_true rfl) (Nat.le_of_ble_eq_true rfl) (Nat.le_of_ble_eq_true rfl) (Nat.le_of_ble_eq_true rfl) (Nat.le_of_ble_eq_true rfl) (Nat.le_of_ble_eq_true rfl) hlocks (fun H1 q9 ce hz1 ho1 _ hce hcv hcl => ?_)
      refine vx_catch (name := "java/lang/NegativeArraySizeException") hown [] ⟨27, 118, 119, 545⟩ [] (by rw [htb]; rfl) (fun z hz => absurd hz List.not_mem_nil) (by decide) (by decide) (hts _ q1565) (va_Nw.use rfl (hN.ca q1585)) hce hcv hcl ?_
      exact KC q9 H1 _ _ hn0 (hW.made hz1 ho1) ⟨hz1, fun a h1 _ => ho1 a h1, fun z h => absurd h List.not_mem_nil⟩ (Nat.le_of_ble_eq_true rfl) (Nat.le_of_ble_eq_true rfl)
    have hn0i := ww_nl0 hn0
    have hnn := ww_cl n
    refine wm_newa (atype := .byte) (t := 2) (N := n.toNatClampNeg) hx hb rfl (hts _ q1083) (hK.2 2 (G.2 2, .byte) rfl).2 hS hn0 rfl (by show _ * 1 ≤ _; omega) (Nat.le_of_ble_eq_true rfl) (by show 0 + _ ≤ 60; omega) dX0_row_66 (fun H1 hR1 hz1 ho1 hS1 => ?_)
    have hW1 := hW.made (by omega) ho1
    refine wm_aast hx hb hK (t := 10) rfl hW1.shv hS1 (xx_Fj (by decide)) (C := "[B") ⟨_, hR1, rfl, (hK.2 2 (G.2 2, .byte) rfl).2⟩ (xl_As.of (hN.ca q2482)) (ww_in hds.1 hds.2) dX0_row_68 (fun H2 locs2 hA2 hz2 ho2 hS2 => ?_)
    have hW2 := hW.laidF (q := 0) (b := sQ.heap.size) (v := -2 - t) hds.1 hds.2 hn0i (by omega) hvt rfl (by omega) hA2 (hR1.kept (ho2 _ (by omega))) (fun a h1 h2 => (ho2 a h2).trans (ho1 a h1))
    refine lv_goto (tgt := 117) hx hb dX0_row_69 (by decide) ?_
    exact KD H2 locs2 _ _ _ hn0 hW2 rfl hS2 (Nat.le_of_ble_eq_true rfl) (by show 0 + _ ≤ 60; omega)
  by_cases k1 : t = 1
  · skip
    have hvt : (-2 - t).toInt = -2 - ((1 : Nat) : Int) := by rw [k1]; decide
    refine lv_tableIn (off := 44) (tgt := 72) hx hb dX0_row_28 (by rw [k1]; decide) (by rw [k1]; decide) (by rw [k1]; rfl) (by decide) ?_
    refine lv_aload_n hx hb dX0_row_72 rfl (lv_at hl 0 rfl) ?_
    refine xx_getr hx hb hts hown hK hW 58 rfl rfl (by decide) (by decide) q331 dX0_row_73 ?_
    refine lv_iload_n hx hb dX0_row_76 rfl (lv_at hl 1 rfl) ?_
    refine lv_iload_n hx hb dX0_row_77 rfl (lv_at hl 3 rfl) ?_
    by_cases hn0 : n < 0
    · refine vx_newarrayZ hx hb hn0 dX0_row_78 (fun tx htx => ?_)
      refine vx_vm hx hlt (names := ["java/lang/RuntimeException", "java/lang/Exception"]) (nb := 44) (A := fun a => z ≤ a) (by decide +kernel) (by decide +kernel) (by decide +kernel) (by decide +kernel) (xe_at hts hN) (by decide +kernel) hA.1.1 hA.1.2 va_S.rf (hl.1.trans hml.symm) (by rw [htx]; exact xe_txt n) (by rw [htx]; exact xe_nb n) (Nat.le_of_ble_eq_true rfl) (Nat.le_of_ble_eq_true rfl) (Nat.le_of_ble_eq_true rfl) (Nat.le_of_ble_eq_true rfl) (Nat.le_of_ble_eq_true rfl) (Nat.le_of_ble_eq_true rfl) hlocks (fun H1 q9 ce hz1 ho1 _ hce hcv hcl => ?_)
      refine vx_catch (name := "java/lang/NegativeArraySizeException") hown [] ⟨27, 118, 119, 545⟩ [] (by rw [htb]; rfl) (fun z hz => absurd hz List.not_mem_nil) (by decide) (by decide) (hts _ q1565) (va_Nw.use rfl (hN.ca q1585)) hce hcv hcl ?_
      exact KC q9 H1 _ _ hn0 (hW.made hz1 ho1) ⟨hz1, fun a h1 _ => ho1 a h1, fun z h => absurd h List.not_mem_nil⟩ (Nat.le_of_ble_eq_true rfl) (Nat.le_of_ble_eq_true rfl)
    have hn0i := ww_nl0 hn0
    have hnn := ww_cl n
    refine wm_newa (atype := .char) (t := 3) (N := n.toNatClampNeg) hx hb rfl (hts _ q1592) (hK.2 3 (G.2 3, .char) rfl).2 hS hn0 rfl (by show _ * 2 ≤ _; omega) (Nat.le_of_ble_eq_true rfl) (by show 0 + _ ≤ 60; omega) dX0_row_78 (fun H1 hR1 hz1 ho1 hS1 => ?_)
    have hW1 := hW.made (by omega) ho1
    refine wm_aast hx hb hK (t := 10) rfl hW1.shv hS1 (xx_Fj (by decide)) (C := "[C") ⟨_, hR1, rfl, (hK.2 3 (G.2 3, .char) rfl).2⟩ (xl_As.of (hN.ca q2483)) (ww_in hds.1 hds.2) dX0_row_80 (fun H2 locs2 hA2 hz2 ho2 hS2 => ?_)
    have hW2 := hW.laidF (q := 1) (b := sQ.heap.size) (v := -2 - t) hds.1 hds.2 hn0i (by omega) hvt rfl (by omega) hA2 (hR1.kept (ho2 _ (by omega))) (fun a h1 h2 => (ho2 a h2).trans (ho1 a h1))
    refine lv_goto (tgt := 117) hx hb dX0_row_81 (by decide) ?_
    exact KD H2 locs2 _ _ _ hn0 hW2 rfl hS2 (Nat.le_of_ble_eq_true rfl) (by show 0 + _ ≤ 60; omega)
  by_cases k2 : t = 2
  · skip
    have hvt : (-2 - t).toInt = -2 - ((2 : Nat) : Int) := by rw [k2]; decide
    refine lv_tableIn (off := 56) (tgt := 84) hx hb dX0_row_28 (by rw [k2]; decide) (by rw [k2]; decide) (by rw [k2]; rfl) (by decide) ?_
    refine lv_aload_n hx hb dX0_row_84 rfl (lv_at hl 0 rfl) ?_
    refine xx_getr hx hb hts hown hK hW 58 rfl rfl (by decide) (by decide) q331 dX0_row_85 ?_
    refine lv_iload_n hx hb dX0_row_88 rfl (lv_at hl 1 rfl) ?_
    refine lv_iload_n hx hb dX0_row_89 rfl (lv_at hl 3 rfl) ?_
    by_cases hn0 : n < 0
    · refine vx_newarrayZ hx hb hn0 dX0_row_90 (fun tx htx => ?_)
      refine vx_vm hx hlt (names := ["java/lang/RuntimeException", "java/lang/Exception"]) (nb := 44) (A := fun a => z ≤ a) (by decide +kernel) (by decide +kernel) (by decide +kernel) (by decide +kernel) (xe_at hts hN) (by decide +kernel) hA.1.1 hA.1.2 va_S.rf (hl.1.trans hml.symm) (by rw [htx]; exact xe_txt n) (by rw [htx]; exact xe_nb n) (Nat.le_of_ble_eq_true rfl) (Nat.le_of_ble_eq_true rfl) (Nat.le_of_ble_eq_true rfl) (Nat.le_of_ble_eq_true rfl) (Nat.le_of_ble_eq_true rfl) (Nat.le_of_ble_eq_true rfl) hlocks (fun H1 q9 ce hz1 ho1 _ hce hcv hcl => ?_)
      refine vx_catch (name := "java/lang/NegativeArraySizeException") hown [] ⟨27, 118, 119, 545⟩ [] (by rw [htb]; rfl) (fun z hz => absurd hz List.not_mem_nil) (by decide) (by decide) (hts _ q1565) (va_Nw.use rfl (hN.ca q1585)) hce hcv hcl ?_
      exact KC q9 H1 _ _ hn0 (hW.made hz1 ho1) ⟨hz1, fun a h1 _ => ho1 a h1, fun z h => absurd h List.not_mem_nil⟩ (Nat.le_of_ble_eq_true rfl) (Nat.le_of_ble_eq_true rfl)
    have hn0i := ww_nl0 hn0
    have hnn := ww_cl n
    refine wm_newa (atype := .int) (t := 0) (N := n.toNatClampNeg) hx hb rfl (hts _ q192) (hK.2 0 (G.2 0, .int) rfl).2 hS hn0 rfl (by show _ * 4 ≤ _; omega) (Nat.le_of_ble_eq_true rfl) (by show 0 + _ ≤ 60; omega) dX0_row_90 (fun H1 hR1 hz1 ho1 hS1 => ?_)
    have hW1 := hW.made (by omega) ho1
    refine wm_aast hx hb hK (t := 10) rfl hW1.shv hS1 (xx_Fj (by decide)) (C := "[I") ⟨_, hR1, rfl, (hK.2 0 (G.2 0, .int) rfl).2⟩ (xl_As.of (hN.ca q2477)) (ww_in hds.1 hds.2) dX0_row_92 (fun H2 locs2 hA2 hz2 ho2 hS2 => ?_)
    have hW2 := hW.laidF (q := 2) (b := sQ.heap.size) (v := -2 - t) hds.1 hds.2 hn0i (by omega) hvt rfl (by omega) hA2 (hR1.kept (ho2 _ (by omega))) (fun a h1 h2 => (ho2 a h2).trans (ho1 a h1))
    refine lv_goto (tgt := 117) hx hb dX0_row_93 (by decide) ?_
    exact KD H2 locs2 _ _ _ hn0 hW2 rfl hS2 (Nat.le_of_ble_eq_true rfl) (by show 0 + _ ≤ 60; omega)
  by_cases k3 : t = 3
  · skip
    have hvt : (-2 - t).toInt = -2 - ((3 : Nat) : Int) := by rw [k3]; decide
    refine lv_tableIn (off := 68) (tgt := 96) hx hb dX0_row_28 (by rw [k3]; decide) (by rw [k3]; decide) (by rw [k3]; rfl) (by decide) ?_
    refine lv_aload_n hx hb dX0_row_96 rfl (lv_at hl 0 rfl) ?_
    refine xx_getr hx hb hts hown hK hW 58 rfl rfl (by decide) (by decide) q331 dX0_row_97 ?_
    refine lv_iload_n hx hb dX0_row_100 rfl (lv_at hl 1 rfl) ?_
    refine lv_iload_n hx hb dX0_row_101 rfl (lv_at hl 3 rfl) ?_
    by_cases hn0 : n < 0
    · refine vx_newarrayZ hx hb hn0 dX0_row_102 (fun tx htx => ?_)
      refine vx_vm hx hlt (names := ["java/lang/RuntimeException", "java/lang/Exception"]) (nb := 44) (A := fun a => z ≤ a) (by decide +kernel) (by decide +kernel) (by decide +kernel) (by decide +kernel) (xe_at hts hN) (by decide +kernel) hA.1.1 hA.1.2 va_S.rf (hl.1.trans hml.symm) (by rw [htx]; exact xe_txt n) (by rw [htx]; exact xe_nb n) (Nat.le_of_ble_eq_true rfl) (Nat.le_of_ble_eq_true rfl) (Nat.le_of_ble_eq_true rfl) (Nat.le_of_ble_eq_true rfl) (Nat.le_of_ble_eq_true rfl) (Nat.le_of_ble_eq_true rfl) hlocks (fun H1 q9 ce hz1 ho1 _ hce hcv hcl => ?_)
      refine vx_catch (name := "java/lang/NegativeArraySizeException") hown [] ⟨27, 118, 119, 545⟩ [] (by rw [htb]; rfl) (fun z hz => absurd hz List.not_mem_nil) (by decide) (by decide) (hts _ q1565) (va_Nw.use rfl (hN.ca q1585)) hce hcv hcl ?_
      exact KC q9 H1 _ _ hn0 (hW.made hz1 ho1) ⟨hz1, fun a h1 _ => ho1 a h1, fun z h => absurd h List.not_mem_nil⟩ (Nat.le_of_ble_eq_true rfl) (Nat.le_of_ble_eq_true rfl)
    have hn0i := ww_nl0 hn0
    have hnn := ww_cl n
    refine wm_newa (atype := .float) (t := 5) (N := n.toNatClampNeg) hx hb rfl (hts _ q1593) (hK.2 5 (G.2 5, .float) rfl).2 hS hn0 rfl (by show _ * 4 ≤ _; omega) (Nat.le_of_ble_eq_true rfl) (by show 0 + _ ≤ 60; omega) dX0_row_102 (fun H1 hR1 hz1 ho1 hS1 => ?_)
    have hW1 := hW.made (by omega) ho1
    refine wm_aast hx hb hK (t := 10) rfl hW1.shv hS1 (xx_Fj (by decide)) (C := "[F") ⟨_, hR1, rfl, (hK.2 5 (G.2 5, .float) rfl).2⟩ (xl_As.of (hN.ca q2484)) (ww_in hds.1 hds.2) dX0_row_104 (fun H2 locs2 hA2 hz2 ho2 hS2 => ?_)
    have hW2 := hW.laidF (q := 3) (b := sQ.heap.size) (v := -2 - t) hds.1 hds.2 hn0i (by omega) hvt rfl (by omega) hA2 (hR1.kept (ho2 _ (by omega))) (fun a h1 h2 => (ho2 a h2).trans (ho1 a h1))
    refine lv_goto (tgt := 117) hx hb dX0_row_105 (by decide) ?_
    exact KD H2 locs2 _ _ _ hn0 hW2 rfl hS2 (Nat.le_of_ble_eq_true rfl) (by show 0 + _ ≤ 60; omega)
  have e4 : (4 : Int32).toInt = 4 := by decide
  have e0 : (0 : Int32).toInt = 0 := by decide
  have h0 : t.toInt ≠ 0 := ww_ne k0; have h1 : t.toInt ≠ 1 := ww_ne k1; have h2 : t.toInt ≠ 2 := ww_ne k2; have h3 : t.toInt ≠ 3 := ww_ne k3
  have k4 : t = 4 := ww_eq (by omega)
  have hvt : (-2 - t).toInt = -2 - ((4 : Nat) : Int) := by rw [k4]; decide
  refine lv_tableOut (tgt := 108) hx hb dX0_row_28 (by rw [k4]; decide) (by decide) ?_
  refine lv_aload_n hx hb dX0_row_108 rfl (lv_at hl 0 rfl) ?_
  refine xx_getr hx hb hts hown hK hW 58 rfl rfl (by decide) (by decide) q331 dX0_row_109 ?_
  refine lv_iload_n hx hb dX0_row_112 rfl (lv_at hl 1 rfl) ?_
  refine lv_iload_n hx hb dX0_row_113 rfl (lv_at hl 3 rfl) ?_
  by_cases hn0 : n < 0
  · refine vx_newarrayZ hx hb hn0 dX0_row_114 (fun tx htx => ?_)
    refine vx_vm hx hlt (names := ["java/lang/RuntimeException", "java/lang/Exception"]) (nb := 44) (A := fun a => z ≤ a) (by decide +kernel) (by decide +kernel) (by decide +kernel) (by decide +kernel) (xe_at hts hN) (by decide +kernel) hA.1.1 hA.1.2 va_S.rf (hl.1.trans hml.symm) (by rw [htx]; exact xe_txt n) (by rw [htx]; exact xe_nb n) (Nat.le_of_ble_eq_true rfl) (Nat.le_of_ble_eq_true rfl) (Nat.le_of_ble_eq_true rfl) (Nat.le_of_ble_eq_true rfl) (Nat.le_of_ble_eq_true rfl) (Nat.le_of_ble_eq_true rfl) hlocks (fun H1 q9 ce hz1 ho1 _ hce hcv hcl => ?_)
    refine vx_catch (name := "java/lang/NegativeArraySizeException") hown [] ⟨27, 118, 119, 545⟩ [] (by rw [htb]; rfl) (fun z hz => absurd hz List.not_mem_nil) (by decide) (by decide) (hts _ q1565) (va_Nw.use rfl (hN.ca q1585)) hce hcv hcl ?_
    exact KC q9 H1 _ _ hn0 (hW.made hz1 ho1) ⟨hz1, fun a h1 _ => ho1 a h1, fun z h => absurd h List.not_mem_nil⟩ (Nat.le_of_ble_eq_true rfl) (Nat.le_of_ble_eq_true rfl)
  have hn0i := ww_nl0 hn0
  have hnn := ww_cl n
  refine wm_newa (atype := .double) (t := 6) (N := n.toNatClampNeg) hx hb rfl (hts _ q1594) (hK.2 6 (G.2 6, .double) rfl).2 hS hn0 rfl (by show _ * 8 ≤ _; omega) (Nat.le_of_ble_eq_true rfl) (by show 0 + _ ≤ 60; omega) dX0_row_114 (fun H1 hR1 hz1 ho1 hS1 => ?_)
  have hW1 := hW.made (by omega) ho1
  refine wm_aast hx hb hK (t := 10) rfl hW1.shv hS1 (xx_Fj (by decide)) (C := "[D") ⟨_, hR1, rfl, (hK.2 6 (G.2 6, .double) rfl).2⟩ (xl_As.of (hN.ca q2485)) (ww_in hds.1 hds.2) dX0_row_116 (fun H2 locs2 hA2 hz2 ho2 hS2 => ?_)
  have hW2 := hW.laidF (q := 4) (b := sQ.heap.size) (v := -2 - t) hds.1 hds.2 hn0i (by omega) hvt rfl (by omega) hA2 (hR1.kept (ho2 _ (by omega))) (fun a h1 h2 => (ho2 a h2).trans (ho1 a h1))
  exact KD H2 locs2 _ _ _ hn0 hW2 rfl hS2 (Nat.le_of_ble_eq_true rfl) (by show 0 + _ ≤ 60; omega)
