/-! THE CONSTRUCTORS OF BODIES, further -/
set_option maxHeartbeats 4000000 in
theorem wn_Hole_6 (lQ : Launch) (G : wm_G) (o a : Nat) (n : Int32) (c : Int32) (w : Int32) (V : Nat → Value) (Hz : Heap) (hO : wm_O G a 6 15 V Hz) : wn_Met lQ G yX8_init (ws_ yX8_init cX8_init 5 none) 3 4 244 Hz [Value.ref a, Value.ref o, Value.int n, Value.int c, Value.int w] (fun q => q = a ∨ Hz.size ≤ q) (wn_obj G a 6 15 Hz 4 (fun V' => V' 0 = .int n ∧ V' 1 = .ref o ∧ V' 2 = .ref o ∧ V' 3 = .int c ∧ V' 4 = .int w ∧ V' 5 = .ref (Hz.size + 0) ∧ V' 7 = .ref (Hz.size + 1) ∧ V' 9 = .int c ∧ V' 11 = .int (-1) ∧ V' 12 = .ref (Hz.size + 2) ∧ V' 13 = .ref (Hz.size + 3) ∧ V' 14 = .ref o ∧ wP_fr TX8 15 o [0, 3, 4, 5, 7, 9, 11, 12, 13] V V')) := by
  refine wn_start (own := RX8) (by decide +kernel) (Nat.le_of_ble_eq_true rfl) rfl rfl (fun pQ eQ sQ mQ belowQ methQ cQ hx hb hml hr hlocks hts hin hown hK hN hHz hS ls hl => ?_)
  have hl : lv_has ls 5 [(0, .ref a), (1, .ref o), (2, .int n), (3, .int c), (4, .int w)] := hl
  have ha := hO.lt
  have zS : Hz.size = Hz.size + 0 := rfl
  have oS : ∀ q : Nat, q < Hz.size → q ≠ a → Hz[q]? = Hz[q]? := fun _ _ _ => rfl
  refine lv_aload_n hx hb dX8_init_0 rfl (lv_at hl 0 rfl) ?_
  refine lv_aload_n hx hb dX8_init_1 rfl (lv_at hl 1 rfl) ?_
  refine wm_putFs (v := .ref o) hx hb hts in_X8 tyX8 tyX8_ok hown hK (ci := 6) rfl hO hS (Or.inl rfl) 14 (by decide) q543 (fun _ h => h) rfl hin rfl rfl rfl dX8_init_2 (fun V1 H1 locs1 a1 b1 c1 hO zH oH hS => ?_)
  have zS : H1.size = Hz.size + 0 := zH.trans zS
  have oS : ∀ q : Nat, q < Hz.size → q ≠ a → H1[q]? = Hz[q]? := fun q h1 h2 => (oH q h2).trans (oS q h1 h2)
  generalize hHc2 : H1 = Hw at hO hS oS zS ⊢
  clear zH oH hHc2
  refine lv_aload_n hx hb dX8_init_5 rfl (lv_at hl 0 rfl) ?_
  refine lv_aload_n hx hb dX8_init_6 rfl (lv_at hl 1 rfl) ?_
  refine lv_iload_n hx hb dX8_init_7 rfl (lv_at hl 2 rfl) ?_
  refine wn_callI (As := [.ref o, .int n]) (rest := []) (n := 2) ⟨hx, hb, hml, hown, hts⟩ hK hN (wn_Way_6 lQ G o a n V1 _ hO) q498 q94 q520 q497 rfl (by decide +kernel) rfl ⟨Nat.le_of_ble_eq_true rfl, Nat.le_of_ble_eq_true rfl⟩ hl.1 rfl (by decide) dX8_init_8 ⟨Nat.le_of_ble_eq_true rfl, Nat.le_of_ble_eq_true rfl⟩ hS (fun q h => Or.inl h) (fun H1 locs1 hp _ hS => ?_)
  obtain ⟨V2, hO, hP2, zH, oH, hAr⟩ := hp
  have zS0 := zS
  have zS : H1.size = Hz.size + 0 := by rw [zH, zS]
  have oS : ∀ q : Nat, q < Hz.size → q ≠ a → H1[q]? = Hz[q]? := fun q h1 h2 => (oH q (by rw [zS0]; omega) h2).trans (oS q h1 h2)
  clear zS0 zH oH hAr
  generalize hHc8 : H1 = Hw at hO hS oS zS ⊢
  clear hHc8
  refine lv_aload_n hx hb dX8_init_11 rfl (lv_at hl 0 rfl) ?_
  refine lv_bipush (v := 61) hx hb dX8_init_12 (by decide) ?_
  refine wm_newa (atype := .int) (t := 0) (N := 61) hx hb rfl (hts _ q192) (hK.2 0 (G.2 0, .int) rfl).2 hS (by decide) rfl (Nat.le_of_ble_eq_true rfl) (Nat.le_of_ble_eq_true rfl) (Nat.le_of_ble_eq_true rfl) dX8_init_14 (fun H1 hA0 yH wH hS => ?_)
  rw [zS] at hA0 yH
  have hO := hO.kept (wH a hO.lt)
  have oS : ∀ q : Nat, q < Hz.size → q ≠ a → H1[q]? = Hz[q]? := fun q h1 h2 => (wH q (by rw [zS]; omega)).trans (oS q h1 h2)
  rw [zS]
  have zS : H1.size = Hz.size + 1 := yH
  generalize hHc14 : H1 = Hw at hO hS oS zS hA0 ⊢
  clear wH yH hHc14
  refine wm_putFs (v := .ref (Hz.size + 0)) hx hb hts in_X8 tyX8 tyX8_ok hown hK (ci := 6) rfl hO hS (Or.inl rfl) 5 (by decide) q525 (fun _ h => h) rfl hin rfl rfl rfl dX8_init_16 (fun V3 H1 locs1 a3 b3 c3 hO zH oH hS => ?_)
  have zS : H1.size = Hz.size + 1 := zH.trans zS
  have oS : ∀ q : Nat, q < Hz.size → q ≠ a → H1[q]? = Hz[q]? := fun q h1 h2 => (oH q h2).trans (oS q h1 h2)
  have hA0 := hA0.kept (oH _ (by omega))
  generalize hHc16 : H1 = Hw at hO hS oS zS hA0 ⊢
  clear zH oH hHc16
  refine lv_aload_n hx hb dX8_init_19 rfl (lv_at hl 0 rfl) ?_
  refine lv_bipush (v := 61) hx hb dX8_init_20 (by decide) ?_
  refine wm_newa (atype := .int) (t := 0) (N := 61) hx hb rfl (hts _ q192) (hK.2 0 (G.2 0, .int) rfl).2 hS (by decide) rfl (Nat.le_of_ble_eq_true rfl) (Nat.le_of_ble_eq_true rfl) (Nat.le_of_ble_eq_true rfl) dX8_init_22 (fun H1 hA1 yH wH hS => ?_)
  rw [zS] at hA1 yH
  have hO := hO.kept (wH a hO.lt)
  have hA0 := hA0.kept (wH _ (by rw [zS]; omega))
  have oS : ∀ q : Nat, q < Hz.size → q ≠ a → H1[q]? = Hz[q]? := fun q h1 h2 => (wH q (by rw [zS]; omega)).trans (oS q h1 h2)
  rw [zS]
  have zS : H1.size = Hz.size + 2 := yH
  generalize hHc22 : H1 = Hw at hO hS oS zS hA1 hA0 ⊢
  clear wH yH hHc22
  refine wm_putFs (v := .ref (Hz.size + 1)) hx hb hts in_X8 tyX8 tyX8_ok hown hK (ci := 6) rfl hO hS (Or.inl rfl) 7 (by decide) q529 (fun _ h => h) rfl hin rfl rfl rfl dX8_init_24 (fun V4 H1 locs1 a4 b4 c4 hO zH oH hS => ?_)
  have zS : H1.size = Hz.size + 2 := zH.trans zS
  have oS : ∀ q : Nat, q < Hz.size → q ≠ a → H1[q]? = Hz[q]? := fun q h1 h2 => (oH q h2).trans (oS q h1 h2)
  have hA0 := hA0.kept (oH _ (by omega))
  have hA1 := hA1.kept (oH _ (by omega))
  generalize hHc24 : H1 = Hw at hO hS oS zS hA0 hA1 ⊢
  clear zH oH hHc24
  refine lv_aload_n hx hb dX8_init_27 rfl (lv_at hl 0 rfl) ?_
  refine lv_iconst (v := (-1)) hx hb dX8_init_28 (by decide) ?_
  refine wm_putNs (v := .int (-1)) hx hb hts in_X8 tyX8 tyX8_ok hown hK (ci := 6) rfl hO hS (Or.inl rfl) 11 (by decide) q537 (fun _ h => h) rfl rfl rfl dX8_init_29 (fun V5 H1 locs1 a5 b5 c5 hO zH oH hS => ?_)
  have zS : H1.size = Hz.size + 2 := zH.trans zS
  have oS : ∀ q : Nat, q < Hz.size → q ≠ a → H1[q]? = Hz[q]? := fun q h1 h2 => (oH q h2).trans (oS q h1 h2)
  have hA0 := hA0.kept (oH _ (by omega))
  have hA1 := hA1.kept (oH _ (by omega))
  generalize hHc29 : H1 = Hw at hO hS oS zS hA0 hA1 ⊢
  clear zH oH hHc29
  refine lv_aload_n hx hb dX8_init_32 rfl (lv_at hl 0 rfl) ?_
  refine lv_bipush (v := 61) hx hb dX8_init_33 (by decide) ?_
  refine wm_newa (atype := .int) (t := 0) (N := 61) hx hb rfl (hts _ q192) (hK.2 0 (G.2 0, .int) rfl).2 hS (by decide) rfl (Nat.le_of_ble_eq_true rfl) (Nat.le_of_ble_eq_true rfl) (Nat.le_of_ble_eq_true rfl) dX8_init_35 (fun H1 hA2 yH wH hS => ?_)
  rw [zS] at hA2 yH
  have hO := hO.kept (wH a hO.lt)
  have hA0 := hA0.kept (wH _ (by rw [zS]; omega))
  have hA1 := hA1.kept (wH _ (by rw [zS]; omega))
  have oS : ∀ q : Nat, q < Hz.size → q ≠ a → H1[q]? = Hz[q]? := fun q h1 h2 => (wH q (by rw [zS]; omega)).trans (oS q h1 h2)
  rw [zS]
  have zS : H1.size = Hz.size + 3 := yH
  generalize hHc35 : H1 = Hw at hO hS oS zS hA2 hA0 hA1 ⊢
  clear wH yH hHc35
  refine wm_putFs (v := .ref (Hz.size + 2)) hx hb hts in_X8 tyX8 tyX8_ok hown hK (ci := 6) rfl hO hS (Or.inl rfl) 12 (by decide) q539 (fun _ h => h) rfl hin rfl rfl rfl dX8_init_37 (fun V6 H1 locs1 a6 b6 c6 hO zH oH hS => ?_)
  have zS : H1.size = Hz.size + 3 := zH.trans zS
  have oS : ∀ q : Nat, q < Hz.size → q ≠ a → H1[q]? = Hz[q]? := fun q h1 h2 => (oH q h2).trans (oS q h1 h2)
  have hA0 := hA0.kept (oH _ (by omega))
  have hA1 := hA1.kept (oH _ (by omega))
  have hA2 := hA2.kept (oH _ (by omega))
  generalize hHc37 : H1 = Hw at hO hS oS zS hA0 hA1 hA2 ⊢
  clear zH oH hHc37
  refine lv_aload_n hx hb dX8_init_40 rfl (lv_at hl 0 rfl) ?_
  refine lv_bipush (v := 61) hx hb dX8_init_41 (by decide) ?_
  refine wm_newa (atype := .boolean) (t := 1) (N := 61) hx hb rfl (hts _ q193) (hK.2 1 (G.2 1, .boolean) rfl).2 hS (by decide) rfl (Nat.le_of_ble_eq_true rfl) (Nat.le_of_ble_eq_true rfl) (Nat.le_of_ble_eq_true rfl) dX8_init_43 (fun H1 hA3 yH wH hS => ?_)
  rw [zS] at hA3 yH
  have hO := hO.kept (wH a hO.lt)
  have hA0 := hA0.kept (wH _ (by rw [zS]; omega))
  have hA1 := hA1.kept (wH _ (by rw [zS]; omega))
  have hA2 := hA2.kept (wH _ (by rw [zS]; omega))
  have oS : ∀ q : Nat, q < Hz.size → q ≠ a → H1[q]? = Hz[q]? := fun q h1 h2 => (wH q (by rw [zS]; omega)).trans (oS q h1 h2)
  rw [zS]
  have zS : H1.size = Hz.size + 4 := yH
  generalize hHc43 : H1 = Hw at hO hS oS zS hA3 hA0 hA1 hA2 ⊢
  clear wH yH hHc43
  refine wm_putFs (v := .ref (Hz.size + 3)) hx hb hts in_X8 tyX8 tyX8_ok hown hK (ci := 6) rfl hO hS (Or.inl rfl) 13 (by decide) q541 (fun _ h => h) rfl hin rfl rfl rfl dX8_init_45 (fun V7 H1 locs1 a7 b7 c7 hO zH oH hS => ?_)
  have zS : H1.size = Hz.size + 4 := zH.trans zS
  have oS : ∀ q : Nat, q < Hz.size → q ≠ a → H1[q]? = Hz[q]? := fun q h1 h2 => (oH q h2).trans (oS q h1 h2)
  have hA0 := hA0.kept (oH _ (by omega))
  have hA1 := hA1.kept (oH _ (by omega))
  have hA2 := hA2.kept (oH _ (by omega))
  have hA3 := hA3.kept (oH _ (by omega))
  generalize hHc45 : H1 = Hw at hO hS oS zS hA0 hA1 hA2 hA3 ⊢
  clear zH oH hHc45
  refine lv_aload_n hx hb dX8_init_48 rfl (lv_at hl 0 rfl) ?_
  refine lv_iload_n hx hb dX8_init_49 rfl (lv_at hl 3 rfl) ?_
  refine wm_putFs (v := .int c) hx hb hts in_X8 tyX8 tyX8_ok hown hK (ci := 6) rfl hO hS (Or.inl rfl) 3 (by decide) q521 (fun _ h => h) rfl hin rfl rfl rfl dX8_init_50 (fun V8 H1 locs1 a8 b8 c8 hO zH oH hS => ?_)
  have zS : H1.size = Hz.size + 4 := zH.trans zS
  have oS : ∀ q : Nat, q < Hz.size → q ≠ a → H1[q]? = Hz[q]? := fun q h1 h2 => (oH q h2).trans (oS q h1 h2)
  have hA0 := hA0.kept (oH _ (by omega))
  have hA1 := hA1.kept (oH _ (by omega))
  have hA2 := hA2.kept (oH _ (by omega))
  have hA3 := hA3.kept (oH _ (by omega))
  generalize hHc50 : H1 = Hw at hO hS oS zS hA0 hA1 hA2 hA3 ⊢
  clear zH oH hHc50
  refine lv_aload_n hx hb dX8_init_53 rfl (lv_at hl 0 rfl) ?_
  refine lv_iload hx hb dX8_init_54 (lv_at hl 4 rfl) ?_
  refine wm_putFs (v := .int w) hx hb hts in_X8 tyX8 tyX8_ok hown hK (ci := 6) rfl hO hS (Or.inl rfl) 4 (by decide) q523 (fun _ h => h) rfl hin rfl rfl rfl dX8_init_56 (fun V9 H1 locs1 a9 b9 c9 hO zH oH hS => ?_)
  have zS : H1.size = Hz.size + 4 := zH.trans zS
  have oS : ∀ q : Nat, q < Hz.size → q ≠ a → H1[q]? = Hz[q]? := fun q h1 h2 => (oH q h2).trans (oS q h1 h2)
  have hA0 := hA0.kept (oH _ (by omega))
  have hA1 := hA1.kept (oH _ (by omega))
  have hA2 := hA2.kept (oH _ (by omega))
  have hA3 := hA3.kept (oH _ (by omega))
  generalize hHc56 : H1 = Hw at hO hS oS zS hA0 hA1 hA2 hA3 ⊢
  clear zH oH hHc56
  refine lv_aload_n hx hb dX8_init_59 rfl (lv_at hl 0 rfl) ?_
  refine lv_iload_n hx hb dX8_init_60 rfl (lv_at hl 3 rfl) ?_
  refine wm_putNs (v := .int c) hx hb hts in_X8 tyX8 tyX8_ok hown hK (ci := 6) rfl hO hS (Or.inl rfl) 9 (by decide) q533 (fun _ h => h) rfl rfl rfl dX8_init_61 (fun V10 H1 locs1 a10 b10 c10 hO zH oH hS => ?_)
  have zS : H1.size = Hz.size + 4 := zH.trans zS
  have oS : ∀ q : Nat, q < Hz.size → q ≠ a → H1[q]? = Hz[q]? := fun q h1 h2 => (oH q h2).trans (oS q h1 h2)
  have hA0 := hA0.kept (oH _ (by omega))
  have hA1 := hA1.kept (oH _ (by omega))
  have hA2 := hA2.kept (oH _ (by omega))
  have hA3 := hA3.kept (oH _ (by omega))
  generalize hHc61 : H1 = Hw at hO hS oS zS hA0 hA1 hA2 hA3 ⊢
  clear zH oH hHc61
  refine wn_ret hx hb hr hlocks hS ?_ (Nat.le_of_ble_eq_true rfl) (Nat.le_of_ble_eq_true rfl) dX8_init_64
  refine ⟨V10, hO, ?_, zS, oS, ?_⟩
  · exact ⟨(b10 0 (by decide) (by decide)).trans ((b9 0 (by decide) (by decide)).trans ((b8 0 (by decide) (by decide)).trans ((b7 0 (by decide) (by decide)).trans ((b6 0 (by decide) (by decide)).trans ((b5 0 (by decide) (by decide)).trans ((b4 0 (by decide) (by decide)).trans ((b3 0 (by decide) (by decide)).trans (hP2.1)))))))), (b10 1 (by decide) (by decide)).trans ((b9 1 (by decide) (by decide)).trans ((b8 1 (by decide) (by decide)).trans ((b7 1 (by decide) (by decide)).trans ((b6 1 (by decide) (by decide)).trans ((b5 1 (by decide) (by decide)).trans ((b4 1 (by decide) (by decide)).trans ((b3 1 (by decide) (by decide)).trans (hP2.2.1)))))))), (b10 2 (by decide) (by decide)).trans ((b9 2 (by decide) (by decide)).trans ((b8 2 (by decide) (by decide)).trans ((b7 2 (by decide) (by decide)).trans ((b6 2 (by decide) (by decide)).trans ((b5 2 (by decide) (by decide)).trans ((b4 2 (by decide) (by decide)).trans ((b3 2 (by decide) (by decide)).trans (hP2.2.2.1)))))))), (b10 3 (by decide) (by decide)).trans ((b9 3 (by decide) (by decide)).trans (a8)), (b10 4 (by decide) (by decide)).trans (a9), (b10 5 (by decide) (by decide)).trans ((b9 5 (by decide) (by decide)).trans ((b8 5 (by decide) (by decide)).trans ((b7 5 (by decide) (by decide)).trans ((b6 5 (by decide) (by decide)).trans ((b5 5 (by decide) (by decide)).trans ((b4 5 (by decide) (by decide)).trans (a3))))))), (b10 7 (by decide) (by decide)).trans ((b9 7 (by decide) (by decide)).trans ((b8 7 (by decide) (by decide)).trans ((b7 7 (by decide) (by decide)).trans ((b6 7 (by decide) (by decide)).trans ((b5 7 (by decide) (by decide)).trans (a4)))))), a10, (b10 11 (by decide) (by decide)).trans ((b9 11 (by decide) (by decide)).trans ((b8 11 (by decide) (by decide)).trans ((b7 11 (by decide) (by decide)).trans ((b6 11 (by decide) (by decide)).trans (a5))))), (b10 12 (by decide) (by decide)).trans ((b9 12 (by decide) (by decide)).trans ((b8 12 (by decide) (by decide)).trans ((b7 12 (by decide) (by decide)).trans (a6)))), (b10 13 (by decide) (by decide)).trans ((b9 13 (by decide) (by decide)).trans ((b8 13 (by decide) (by decide)).trans (a7))), (b10 14 (by decide) (by decide)).trans ((b9 14 (by decide) (by decide)).trans ((b8 14 (by decide) (by decide)).trans ((b7 14 (by decide) (by decide)).trans ((b6 14 (by decide) (by decide)).trans ((b5 14 (by decide) (by decide)).trans ((b4 14 (by decide) (by decide)).trans ((b3 14 (by decide) (by decide)).trans (wn_o (hP2.2.2.2.2 14 (by decide) rfl) (a1))))))))), fun j hj hk hn => (b10 j hj (wN_X8 9 (by decide) j hj (fun e => hk (by rw [e]; decide)) hn)).trans ((b9 j hj (wN_X8 4 (by decide) j hj (fun e => hk (by rw [e]; decide)) hn)).trans ((b8 j hj (wN_X8 3 (by decide) j hj (fun e => hk (by rw [e]; decide)) hn)).trans ((b7 j hj (wN_X8 13 (by decide) j hj (fun e => hk (by rw [e]; decide)) hn)).trans ((b6 j hj (wN_X8 12 (by decide) j hj (fun e => hk (by rw [e]; decide)) hn)).trans ((b5 j hj (wN_X8 11 (by decide) j hj (fun e => hk (by rw [e]; decide)) hn)).trans ((b4 j hj (wN_X8 7 (by decide) j hj (fun e => hk (by rw [e]; decide)) hn)).trans ((b3 j hj (wN_X8 5 (by decide) j hj (fun e => hk (by rw [e]; decide)) hn)).trans ((hP2.2.2.2.1 j hj (fun z => hk (wn_sub (by decide) z)) hn).trans (b1 j hj (wN_X8 14 (by decide) j hj (fun e => hn (by rw [e]; rfl)) hn)))))))))), fun j hj hn => wn_tr (Or.inl (b10 j hj (by rw [hn]; decide))) (wn_tr (Or.inl (b9 j hj (by rw [hn]; decide))) (wn_tr (Or.inl (b8 j hj (by rw [hn]; decide))) (wn_tr (Or.inl (b7 j hj (by rw [hn]; decide))) (wn_tr (Or.inl (b6 j hj (by rw [hn]; decide))) (wn_tr (Or.inl (b5 j hj (by rw [hn]; decide))) (wn_tr (Or.inl (b4 j hj (by rw [hn]; decide))) (wn_tr (Or.inl (b3 j hj (by rw [hn]; decide))) (wn_tr (hP2.2.2.2.2 j hj hn) (c1 j)))))))))⟩
  · intro j hj
    rcases (show j = 0 ∨ j = 1 ∨ j = 2 ∨ j = 3 by omega) with rfl | rfl | rfl | rfl
    · exact hA0
    · exact hA1
    · exact hA2
    · exact hA3
