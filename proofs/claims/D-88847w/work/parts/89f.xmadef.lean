/-! THE CONSTRUCTORS OF BODIES, further -/
set_option maxHeartbeats 4000000 in
theorem wn_Tube_7 (lQ : Launch) (G : wm_G) (o a : Nat) (n : Int32) (c : Int32) (w : Int32) (V : Nat → Value) (Hz : Heap) (hO : wm_O G a 7 17 V Hz) : wn_Met lQ G yX9_init (ws_ yX9_init cX9_init 5 none) 4 4 244 Hz [Value.ref a, Value.ref o, Value.int n, Value.int c, Value.int w] (fun q => q = a ∨ Hz.size ≤ q) (wn_obj G a 7 17 Hz 4 (fun V' => V' 0 = .int n ∧ V' 1 = .ref o ∧ V' 2 = .ref o ∧ V' 3 = .int c ∧ V' 4 = .int w ∧ V' 5 = .ref (Hz.size + 0) ∧ V' 7 = .ref (Hz.size + 1) ∧ V' 9 = .int c ∧ V' 11 = .int (-1) ∧ V' 12 = .ref (Hz.size + 2) ∧ V' 13 = .ref (Hz.size + 3) ∧ V' 14 = .ref o ∧ V' 16 = .ref o ∧ wP_fr TX9 17 o [0, 3, 4, 5, 7, 9, 11, 12, 13] V V')) := by
  refine wn_start (own := RX9) (by decide +kernel) (Nat.le_of_ble_eq_true rfl) rfl rfl (fun pQ eQ sQ mQ belowQ methQ cQ hx hb hml hr hlocks hts hin hown hK hN hHz hS ls hl => ?_)
  have hl : lv_has ls 5 [(0, .ref a), (1, .ref o), (2, .int n), (3, .int c), (4, .int w)] := hl
  have ha := hO.lt
  have zS : Hz.size = Hz.size + 0 := rfl
  have oS : ∀ q : Nat, q < Hz.size → q ≠ a → Hz[q]? = Hz[q]? := fun _ _ _ => rfl
  refine lv_aload_n hx hb dX9_init_0 rfl (lv_at hl 0 rfl) ?_
  refine lv_aload_n hx hb dX9_init_1 rfl (lv_at hl 1 rfl) ?_
  refine wm_putFs (v := .ref o) hx hb hts in_X9 tyX9 tyX9_ok hown hK (ci := 7) rfl hO hS (Or.inl rfl) 16 (by decide) q579 (fun _ h => h) rfl hin rfl rfl rfl dX9_init_2 (fun V1 H1 locs1 a1 b1 c1 hO zH oH hS => ?_)
  have zS : H1.size = Hz.size + 0 := zH.trans zS
  have oS : ∀ q : Nat, q < Hz.size → q ≠ a → H1[q]? = Hz[q]? := fun q h1 h2 => (oH q h2).trans (oS q h1 h2)
  generalize hHc2 : H1 = Hw at hO hS oS zS ⊢
  clear zH oH hHc2
  refine lv_aload_n hx hb dX9_init_5 rfl (lv_at hl 0 rfl) ?_
  refine lv_aload_n hx hb dX9_init_6 rfl (lv_at hl 1 rfl) ?_
  refine lv_iload_n hx hb dX9_init_7 rfl (lv_at hl 2 rfl) ?_
  refine lv_iload_n hx hb dX9_init_8 rfl (lv_at hl 3 rfl) ?_
  refine lv_iload hx hb dX9_init_9 (lv_at hl 4 rfl) ?_
  refine wn_callI (As := [.ref o, .int n, .int c, .int w]) (rest := []) (n := 4) ⟨hx, hb, hml, hown, hts⟩ hK hN (wn_Hole_7 lQ G o a n c w V1 _ hO) q519 q95 q577 q518 rfl (by decide +kernel) rfl ⟨Nat.le_of_ble_eq_true rfl, Nat.le_of_ble_eq_true rfl⟩ hl.1 rfl (by decide) dX9_init_11 ⟨Nat.le_of_ble_eq_true rfl, Nat.le_of_ble_eq_true rfl⟩ hS (fun q h => by rw [zS] at h; exact h) (fun H1 locs1 hp _ hS => ?_)
  obtain ⟨V2, hO, hP2, zH, oH, hAr⟩ := hp
  rw [zS] at zH hP2
  have hA0 := hAr 0 (by decide)
  rw [zS] at hA0
  have hA1 := hAr 1 (by decide)
  rw [zS] at hA1
  have hA2 := hAr 2 (by decide)
  rw [zS] at hA2
  have hA3 := hAr 3 (by decide)
  rw [zS] at hA3
  have zS0 := zS
  have zS : H1.size = Hz.size + 4 := zH
  have oS : ∀ q : Nat, q < Hz.size → q ≠ a → H1[q]? = Hz[q]? := fun q h1 h2 => (oH q (by rw [zS0]; omega) h2).trans (oS q h1 h2)
  clear zS0 zH oH hAr
  generalize hHc11 : H1 = Hw at hO hS oS zS hA0 hA1 hA2 hA3 ⊢
  clear hHc11
  refine wn_ret hx hb hr hlocks hS ?_ (Nat.le_of_ble_eq_true rfl) (Nat.le_of_ble_eq_true rfl) dX9_init_14
  refine ⟨V2, hO, ?_, zS, oS, ?_⟩
  · exact ⟨hP2.1, hP2.2.1, hP2.2.2.1, hP2.2.2.2.1, hP2.2.2.2.2.1, hP2.2.2.2.2.2.1, hP2.2.2.2.2.2.2.1, hP2.2.2.2.2.2.2.2.1, hP2.2.2.2.2.2.2.2.2.1, hP2.2.2.2.2.2.2.2.2.2.1, hP2.2.2.2.2.2.2.2.2.2.2.1, hP2.2.2.2.2.2.2.2.2.2.2.2.1, wn_o (hP2.2.2.2.2.2.2.2.2.2.2.2.2.2 16 (by decide) rfl) (a1), fun j hj hk hn => (hP2.2.2.2.2.2.2.2.2.2.2.2.2.1 j hj (fun z => hk (wn_sub (by decide) z)) hn).trans (b1 j hj (wN_X9 16 (by decide) j hj (fun e => hn (by rw [e]; rfl)) hn)), fun j hj hn => wn_tr (hP2.2.2.2.2.2.2.2.2.2.2.2.2.2 j hj hn) (c1 j)⟩
  · intro j hj
    rcases (show j = 0 ∨ j = 1 ∨ j = 2 ∨ j = 3 by omega) with rfl | rfl | rfl | rfl
    · exact hA0
    · exact hA1
    · exact hA2
    · exact hA3

set_option maxHeartbeats 4000000 in
theorem wn_Shaft_8 (lQ : Launch) (G : wm_G) (o a : Nat) (n : Int32) (c : Int32) (w : Int32) (V : Nat → Value) (Hz : Heap) (hO : wm_O G a 8 16 V Hz) : wn_Met lQ G yX10_init (ws_ yX10_init cX10_init 5 none) 4 4 244 Hz [Value.ref a, Value.ref o, Value.int n, Value.int c, Value.int w] (fun q => q = a ∨ Hz.size ≤ q) (wn_obj G a 8 16 Hz 4 (fun V' => V' 0 = .int n ∧ V' 1 = .ref o ∧ V' 2 = .ref o ∧ V' 3 = .int c ∧ V' 4 = .int w ∧ V' 5 = .ref (Hz.size + 0) ∧ V' 7 = .ref (Hz.size + 1) ∧ V' 9 = .int c ∧ V' 11 = .int (-1) ∧ V' 12 = .ref (Hz.size + 2) ∧ V' 13 = .ref (Hz.size + 3) ∧ V' 14 = .ref o ∧ V' 15 = .ref o ∧ wP_fr TX10 16 o [0, 3, 4, 5, 7, 9, 11, 12, 13] V V')) := by
  refine wn_start (own := RX10) (by decide +kernel) (Nat.le_of_ble_eq_true rfl) rfl rfl (fun pQ eQ sQ mQ belowQ methQ cQ hx hb hml hr hlocks hts hin hown hK hN hHz hS ls hl => ?_)
  have hl : lv_has ls 5 [(0, .ref a), (1, .ref o), (2, .int n), (3, .int c), (4, .int w)] := hl
  have ha := hO.lt
  have zS : Hz.size = Hz.size + 0 := rfl
  have oS : ∀ q : Nat, q < Hz.size → q ≠ a → Hz[q]? = Hz[q]? := fun _ _ _ => rfl
  refine lv_aload_n hx hb dX10_init_0 rfl (lv_at hl 0 rfl) ?_
  refine lv_aload_n hx hb dX10_init_1 rfl (lv_at hl 1 rfl) ?_
  refine wm_putFs (v := .ref o) hx hb hts in_X10 tyX10 tyX10_ok hown hK (ci := 8) rfl hO hS (Or.inl rfl) 15 (by decide) q606 (fun _ h => h) rfl hin rfl rfl rfl dX10_init_2 (fun V1 H1 locs1 a1 b1 c1 hO zH oH hS => ?_)
  have zS : H1.size = Hz.size + 0 := zH.trans zS
  have oS : ∀ q : Nat, q < Hz.size → q ≠ a → H1[q]? = Hz[q]? := fun q h1 h2 => (oH q h2).trans (oS q h1 h2)
  generalize hHc2 : H1 = Hw at hO hS oS zS ⊢
  clear zH oH hHc2
  refine lv_aload_n hx hb dX10_init_5 rfl (lv_at hl 0 rfl) ?_
  refine lv_aload_n hx hb dX10_init_6 rfl (lv_at hl 1 rfl) ?_
  refine lv_iload_n hx hb dX10_init_7 rfl (lv_at hl 2 rfl) ?_
  refine lv_iload_n hx hb dX10_init_8 rfl (lv_at hl 3 rfl) ?_
  refine lv_iload hx hb dX10_init_9 (lv_at hl 4 rfl) ?_
  refine wn_callI (As := [.ref o, .int n, .int c, .int w]) (rest := []) (n := 4) ⟨hx, hb, hml, hown, hts⟩ hK hN (wn_Hole_8 lQ G o a n c w V1 _ hO) q519 q95 q605 q518 rfl (by decide +kernel) rfl ⟨Nat.le_of_ble_eq_true rfl, Nat.le_of_ble_eq_true rfl⟩ hl.1 rfl (by decide) dX10_init_11 ⟨Nat.le_of_ble_eq_true rfl, Nat.le_of_ble_eq_true rfl⟩ hS (fun q h => by rw [zS] at h; exact h) (fun H1 locs1 hp _ hS => ?_)
  obtain ⟨V2, hO, hP2, zH, oH, hAr⟩ := hp
  rw [zS] at zH hP2
  have hA0 := hAr 0 (by decide)
  rw [zS] at hA0
  have hA1 := hAr 1 (by decide)
  rw [zS] at hA1
  have hA2 := hAr 2 (by decide)
  rw [zS] at hA2
  have hA3 := hAr 3 (by decide)
  rw [zS] at hA3
  have zS0 := zS
  have zS : H1.size = Hz.size + 4 := zH
  have oS : ∀ q : Nat, q < Hz.size → q ≠ a → H1[q]? = Hz[q]? := fun q h1 h2 => (oH q (by rw [zS0]; omega) h2).trans (oS q h1 h2)
  clear zS0 zH oH hAr
  generalize hHc11 : H1 = Hw at hO hS oS zS hA0 hA1 hA2 hA3 ⊢
  clear hHc11
  refine wn_ret hx hb hr hlocks hS ?_ (Nat.le_of_ble_eq_true rfl) (Nat.le_of_ble_eq_true rfl) dX10_init_14
  refine ⟨V2, hO, ?_, zS, oS, ?_⟩
  · exact ⟨hP2.1, hP2.2.1, hP2.2.2.1, hP2.2.2.2.1, hP2.2.2.2.2.1, hP2.2.2.2.2.2.1, hP2.2.2.2.2.2.2.1, hP2.2.2.2.2.2.2.2.1, hP2.2.2.2.2.2.2.2.2.1, hP2.2.2.2.2.2.2.2.2.2.1, hP2.2.2.2.2.2.2.2.2.2.2.1, hP2.2.2.2.2.2.2.2.2.2.2.2.1, wn_o (hP2.2.2.2.2.2.2.2.2.2.2.2.2.2 15 (by decide) rfl) (a1), fun j hj hk hn => (hP2.2.2.2.2.2.2.2.2.2.2.2.2.1 j hj (fun z => hk (wn_sub (by decide) z)) hn).trans (b1 j hj (wN_X10 15 (by decide) j hj (fun e => hn (by rw [e]; rfl)) hn)), fun j hj hn => wn_tr (hP2.2.2.2.2.2.2.2.2.2.2.2.2.2 j hj hn) (c1 j)⟩
  · intro j hj
    rcases (show j = 0 ∨ j = 1 ∨ j = 2 ∨ j = 3 by omega) with rfl | rfl | rfl | rfl
    · exact hA0
    · exact hA1
    · exact hA2
    · exact hA3
