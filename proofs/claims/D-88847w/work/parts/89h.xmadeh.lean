/-! THE CONSTRUCTORS OF BODIES, further -/
set_option maxHeartbeats 4000000 in
theorem wn_Shelter_10 (lQ : Launch) (G : wm_G) (o a : Nat) (n : Int32) (u : Int32) (v : Int32) (y : Int32) (V : Nat → Value) (Hz : Heap) (hO : wm_O G a 10 8 V Hz) : wn_Met lQ G yX12_init (ws_ yX12_init cX12_init 6 none) 3 0 0 Hz [Value.ref a, Value.ref o, Value.int n, Value.int u, Value.int v, Value.int y] (fun q => q = a) (wn_obj G a 10 8 Hz 0 (fun V' => V' 0 = .int n ∧ V' 1 = .ref o ∧ V' 2 = .ref o ∧ V' 3 = .int u ∧ V' 4 = .int v ∧ V' 5 = .int y ∧ V' 7 = .ref o ∧ wP_fr TX12 8 o [0, 3, 4, 5] V V')) := by
  refine wn_start (own := RX12) (by decide +kernel) (Nat.le_of_ble_eq_true rfl) rfl rfl (fun pQ eQ sQ mQ belowQ methQ cQ hx hb hml hr hlocks hts hin hown hK hN hHz hS ls hl => ?_)
  have hl : lv_has ls 6 [(0, .ref a), (1, .ref o), (2, .int n), (3, .int u), (4, .int v), (5, .int y)] := hl
  have ha := hO.lt
  have zS : Hz.size = Hz.size + 0 := rfl
  have oS : ∀ q : Nat, q < Hz.size → q ≠ a → Hz[q]? = Hz[q]? := fun _ _ _ => rfl
  refine lv_aload_n hx hb dX12_init_0 rfl (lv_at hl 0 rfl) ?_
  refine lv_aload_n hx hb dX12_init_1 rfl (lv_at hl 1 rfl) ?_
  refine wm_putFs (v := .ref o) hx hb hts in_X12 tyX12 tyX12_ok hown hK (ci := 10) rfl hO hS rfl 7 (by decide) q671 (fun _ h => h) rfl hin rfl rfl rfl dX12_init_2 (fun V1 H1 locs1 a1 b1 c1 hO zH oH hS => ?_)
  have zS : H1.size = Hz.size + 0 := zH.trans zS
  have oS : ∀ q : Nat, q < Hz.size → q ≠ a → H1[q]? = Hz[q]? := fun q h1 h2 => (oH q h2).trans (oS q h1 h2)
  generalize hHc2 : H1 = Hw at hO hS oS zS ⊢
  clear zH oH hHc2
  refine lv_aload_n hx hb dX12_init_5 rfl (lv_at hl 0 rfl) ?_
  refine lv_aload_n hx hb dX12_init_6 rfl (lv_at hl 1 rfl) ?_
  refine lv_iload_n hx hb dX12_init_7 rfl (lv_at hl 2 rfl) ?_
  refine wn_callI (As := [.ref o, .int n]) (rest := []) (n := 2) ⟨hx, hb, hml, hown, hts⟩ hK hN (wn_Way_10 lQ G o a n V1 _ hO) q498 q94 q663 q497 rfl (by decide +kernel) rfl ⟨Nat.le_of_ble_eq_true rfl, Nat.le_of_ble_eq_true rfl⟩ hl.1 rfl (by decide) dX12_init_8 ⟨Nat.le_of_ble_eq_true rfl, Nat.le_of_ble_eq_true rfl⟩ hS (fun q h => h) (fun H1 locs1 hp _ hS => ?_)
  obtain ⟨V2, hO, hP2, zH, oH, hAr⟩ := hp
  have zS0 := zS
  have zS : H1.size = Hz.size + 0 := by rw [zH, zS]
  have oS : ∀ q : Nat, q < Hz.size → q ≠ a → H1[q]? = Hz[q]? := fun q h1 h2 => (oH q (by rw [zS0]; omega) h2).trans (oS q h1 h2)
  clear zS0 zH oH hAr
  generalize hHc8 : H1 = Hw at hO hS oS zS ⊢
  clear hHc8
  refine lv_aload_n hx hb dX12_init_11 rfl (lv_at hl 0 rfl) ?_
  refine lv_iload_n hx hb dX12_init_12 rfl (lv_at hl 3 rfl) ?_
  refine wm_putFs (v := .int u) hx hb hts in_X12 tyX12 tyX12_ok hown hK (ci := 10) rfl hO hS rfl 3 (by decide) q664 (fun _ h => h) rfl hin rfl rfl rfl dX12_init_13 (fun V3 H1 locs1 a3 b3 c3 hO zH oH hS => ?_)
  have zS : H1.size = Hz.size + 0 := zH.trans zS
  have oS : ∀ q : Nat, q < Hz.size → q ≠ a → H1[q]? = Hz[q]? := fun q h1 h2 => (oH q h2).trans (oS q h1 h2)
  generalize hHc13 : H1 = Hw at hO hS oS zS ⊢
  clear zH oH hHc13
  refine lv_aload_n hx hb dX12_init_16 rfl (lv_at hl 0 rfl) ?_
  refine lv_iload hx hb dX12_init_17 (lv_at hl 4 rfl) ?_
  refine wm_putFs (v := .int v) hx hb hts in_X12 tyX12 tyX12_ok hown hK (ci := 10) rfl hO hS rfl 4 (by decide) q666 (fun _ h => h) rfl hin rfl rfl rfl dX12_init_19 (fun V4 H1 locs1 a4 b4 c4 hO zH oH hS => ?_)
  have zS : H1.size = Hz.size + 0 := zH.trans zS
  have oS : ∀ q : Nat, q < Hz.size → q ≠ a → H1[q]? = Hz[q]? := fun q h1 h2 => (oH q h2).trans (oS q h1 h2)
  generalize hHc19 : H1 = Hw at hO hS oS zS ⊢
  clear zH oH hHc19
  refine lv_aload_n hx hb dX12_init_22 rfl (lv_at hl 0 rfl) ?_
  refine lv_iload hx hb dX12_init_23 (lv_at hl 5 rfl) ?_
  refine wm_putFs (v := .int y) hx hb hts in_X12 tyX12 tyX12_ok hown hK (ci := 10) rfl hO hS rfl 5 (by decide) q668 (fun _ h => h) rfl hin rfl rfl rfl dX12_init_25 (fun V5 H1 locs1 a5 b5 c5 hO zH oH hS => ?_)
  have zS : H1.size = Hz.size + 0 := zH.trans zS
  have oS : ∀ q : Nat, q < Hz.size → q ≠ a → H1[q]? = Hz[q]? := fun q h1 h2 => (oH q h2).trans (oS q h1 h2)
  generalize hHc25 : H1 = Hw at hO hS oS zS ⊢
  clear zH oH hHc25
  refine wn_ret hx hb hr hlocks hS ?_ (Nat.le_of_ble_eq_true rfl) (Nat.le_of_ble_eq_true rfl) dX12_init_28
  refine ⟨V5, hO, ?_, zS, oS, ?_⟩
  · exact ⟨(b5 0 (by decide) (by decide)).trans ((b4 0 (by decide) (by decide)).trans ((b3 0 (by decide) (by decide)).trans (hP2.1))), (b5 1 (by decide) (by decide)).trans ((b4 1 (by decide) (by decide)).trans ((b3 1 (by decide) (by decide)).trans (hP2.2.1))), (b5 2 (by decide) (by decide)).trans ((b4 2 (by decide) (by decide)).trans ((b3 2 (by decide) (by decide)).trans (hP2.2.2.1))), (b5 3 (by decide) (by decide)).trans ((b4 3 (by decide) (by decide)).trans (a3)), (b5 4 (by decide) (by decide)).trans (a4), a5, (b5 7 (by decide) (by decide)).trans ((b4 7 (by decide) (by decide)).trans ((b3 7 (by decide) (by decide)).trans (wn_o (hP2.2.2.2.2 7 (by decide) rfl) (a1)))), fun j hj hk hn => (b5 j hj (wN_X12 5 (by decide) j hj (fun e => hk (by rw [e]; decide)) hn)).trans ((b4 j hj (wN_X12 4 (by decide) j hj (fun e => hk (by rw [e]; decide)) hn)).trans ((b3 j hj (wN_X12 3 (by decide) j hj (fun e => hk (by rw [e]; decide)) hn)).trans ((hP2.2.2.2.1 j hj (fun z => hk (wn_sub (by decide) z)) hn).trans (b1 j hj (wN_X12 7 (by decide) j hj (fun e => hn (by rw [e]; rfl)) hn))))), fun j hj hn => wn_tr (Or.inl (b5 j hj (by rw [hn]; decide))) (wn_tr (Or.inl (b4 j hj (by rw [hn]; decide))) (wn_tr (Or.inl (b3 j hj (by rw [hn]; decide))) (wn_tr (hP2.2.2.2.2 j hj hn) (c1 j))))⟩
  · exact fun j hj => absurd hj (Nat.not_lt_zero _)

set_option maxHeartbeats 4000000 in
theorem wn_Man_11 (lQ : Launch) (G : wm_G) (o a : Nat) (n : Int32) (s : Int32) (k : Int32) (i : Int32) (V : Nat → Value) (Hz : Heap) (hO : wm_O G a 11 7 V Hz) : wn_Met lQ G yX13_init (ws_ yX13_init cX13_init 6 none) 2 0 0 Hz [Value.ref a, Value.ref o, Value.int n, Value.int s, Value.int k, Value.int i] (fun q => q = a) (wn_obj G a 11 7 Hz 0 (fun V' => V' 0 = .int n ∧ V' 1 = .ref o ∧ V' 2 = .int s ∧ V' 3 = .int k ∧ V' 4 = .int i ∧ V' 6 = .ref o ∧ wP_fr TX13 7 o [0, 2, 3, 4] V V')) := by
  refine wn_start (own := RX13) (by decide +kernel) (Nat.le_of_ble_eq_true rfl) rfl rfl (fun pQ eQ sQ mQ belowQ methQ cQ hx hb hml hr hlocks hts hin hown hK hN hHz hS ls hl => ?_)
  have hl : lv_has ls 6 [(0, .ref a), (1, .ref o), (2, .int n), (3, .int s), (4, .int k), (5, .int i)] := hl
  have ha := hO.lt
  have zS : Hz.size = Hz.size + 0 := rfl
  have oS : ∀ q : Nat, q < Hz.size → q ≠ a → Hz[q]? = Hz[q]? := fun _ _ _ => rfl
  refine lv_aload_n hx hb dX13_init_0 rfl (lv_at hl 0 rfl) ?_
  refine lv_aload_n hx hb dX13_init_1 rfl (lv_at hl 1 rfl) ?_
  refine wm_putFs (v := .ref o) hx hb hts in_X13 tyX13 tyX13_ok hown hK (ci := 11) rfl hO hS rfl 6 (by decide) q705 (fun _ h => h) rfl hin rfl rfl rfl dX13_init_2 (fun V1 H1 locs1 a1 b1 c1 hO zH oH hS => ?_)
  have zS : H1.size = Hz.size + 0 := zH.trans zS
  have oS : ∀ q : Nat, q < Hz.size → q ≠ a → H1[q]? = Hz[q]? := fun q h1 h2 => (oH q h2).trans (oS q h1 h2)
  generalize hHc2 : H1 = Hw at hO hS oS zS ⊢
  clear zH oH hHc2
  refine lv_aload_n hx hb dX13_init_5 rfl (lv_at hl 0 rfl) ?_
  refine lv_aload_n hx hb dX13_init_6 rfl (lv_at hl 1 rfl) ?_
  refine lv_iload_n hx hb dX13_init_7 rfl (lv_at hl 2 rfl) ?_
  refine wn_callI (As := [.ref o, .int n]) (rest := []) (n := 2) ⟨hx, hb, hml, hown, hts⟩ hK hN (wn_Body_11 lQ G o a n V1 _ hO) q484 q93 q697 q483 rfl (by decide +kernel) rfl ⟨Nat.le_of_ble_eq_true rfl, Nat.le_of_ble_eq_true rfl⟩ hl.1 rfl (by decide) dX13_init_8 ⟨Nat.le_of_ble_eq_true rfl, Nat.le_of_ble_eq_true rfl⟩ hS (fun q h => h) (fun H1 locs1 hp _ hS => ?_)
  obtain ⟨V2, hO, hP2, zH, oH, hAr⟩ := hp
  have zS0 := zS
  have zS : H1.size = Hz.size + 0 := by rw [zH, zS]
  have oS : ∀ q : Nat, q < Hz.size → q ≠ a → H1[q]? = Hz[q]? := fun q h1 h2 => (oH q (by rw [zS0]; omega) h2).trans (oS q h1 h2)
  clear zS0 zH oH hAr
  generalize hHc8 : H1 = Hw at hO hS oS zS ⊢
  clear hHc8
  refine lv_aload_n hx hb dX13_init_11 rfl (lv_at hl 0 rfl) ?_
  refine lv_iload_n hx hb dX13_init_12 rfl (lv_at hl 3 rfl) ?_
  refine wm_putNs (v := .int s) hx hb hts in_X13 tyX13 tyX13_ok hown hK (ci := 11) rfl hO hS rfl 2 (by decide) q698 (fun _ h => h) rfl rfl rfl dX13_init_13 (fun V3 H1 locs1 a3 b3 c3 hO zH oH hS => ?_)
  have zS : H1.size = Hz.size + 0 := zH.trans zS
  have oS : ∀ q : Nat, q < Hz.size → q ≠ a → H1[q]? = Hz[q]? := fun q h1 h2 => (oH q h2).trans (oS q h1 h2)
  generalize hHc13 : H1 = Hw at hO hS oS zS ⊢
  clear zH oH hHc13
  refine lv_aload_n hx hb dX13_init_16 rfl (lv_at hl 0 rfl) ?_
  refine lv_iload hx hb dX13_init_17 (lv_at hl 4 rfl) ?_
  refine wm_putFs (v := .int k) hx hb hts in_X13 tyX13 tyX13_ok hown hK (ci := 11) rfl hO hS rfl 3 (by decide) q700 (fun _ h => h) rfl hin rfl rfl rfl dX13_init_19 (fun V4 H1 locs1 a4 b4 c4 hO zH oH hS => ?_)
  have zS : H1.size = Hz.size + 0 := zH.trans zS
  have oS : ∀ q : Nat, q < Hz.size → q ≠ a → H1[q]? = Hz[q]? := fun q h1 h2 => (oH q h2).trans (oS q h1 h2)
  generalize hHc19 : H1 = Hw at hO hS oS zS ⊢
  clear zH oH hHc19
  refine lv_aload_n hx hb dX13_init_22 rfl (lv_at hl 0 rfl) ?_
  refine lv_iload hx hb dX13_init_23 (lv_at hl 5 rfl) ?_
  refine wm_putNs (v := .int i) hx hb hts in_X13 tyX13 tyX13_ok hown hK (ci := 11) rfl hO hS rfl 4 (by decide) q702 (fun _ h => h) rfl rfl rfl dX13_init_25 (fun V5 H1 locs1 a5 b5 c5 hO zH oH hS => ?_)
  have zS : H1.size = Hz.size + 0 := zH.trans zS
  have oS : ∀ q : Nat, q < Hz.size → q ≠ a → H1[q]? = Hz[q]? := fun q h1 h2 => (oH q h2).trans (oS q h1 h2)
  generalize hHc25 : H1 = Hw at hO hS oS zS ⊢
  clear zH oH hHc25
  refine wn_ret hx hb hr hlocks hS ?_ (Nat.le_of_ble_eq_true rfl) (Nat.le_of_ble_eq_true rfl) dX13_init_28
  refine ⟨V5, hO, ?_, zS, oS, ?_⟩
  · exact ⟨(b5 0 (by decide) (by decide)).trans ((b4 0 (by decide) (by decide)).trans ((b3 0 (by decide) (by decide)).trans (hP2.1))), (b5 1 (by decide) (by decide)).trans ((b4 1 (by decide) (by decide)).trans ((b3 1 (by decide) (by decide)).trans (hP2.2.1))), (b5 2 (by decide) (by decide)).trans ((b4 2 (by decide) (by decide)).trans (a3)), (b5 3 (by decide) (by decide)).trans (a4), a5, (b5 6 (by decide) (by decide)).trans ((b4 6 (by decide) (by decide)).trans ((b3 6 (by decide) (by decide)).trans (wn_o (hP2.2.2.2 6 (by decide) rfl) (a1)))), fun j hj hk hn => (b5 j hj (wN_X13 4 (by decide) j hj (fun e => hk (by rw [e]; decide)) hn)).trans ((b4 j hj (wN_X13 3 (by decide) j hj (fun e => hk (by rw [e]; decide)) hn)).trans ((b3 j hj (wN_X13 2 (by decide) j hj (fun e => hk (by rw [e]; decide)) hn)).trans ((hP2.2.2.1 j hj (fun z => hk (wn_sub (by decide) z)) hn).trans (b1 j hj (wN_X13 6 (by decide) j hj (fun e => hn (by rw [e]; rfl)) hn))))), fun j hj hn => wn_tr (Or.inl (b5 j hj (by rw [hn]; decide))) (wn_tr (Or.inl (b4 j hj (by rw [hn]; decide))) (wn_tr (Or.inl (b3 j hj (by rw [hn]; decide))) (wn_tr (hP2.2.2.2 j hj hn) (c1 j))))⟩
  · exact fun j hj => absurd hj (Nat.not_lt_zero _)
