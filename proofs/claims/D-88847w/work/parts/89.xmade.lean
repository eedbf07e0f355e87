/-! THE CONSTRUCTORS OF TERMS AND BODIES -/
/-- an object behind its constructor, so many arrays of 61 behind the heap that was -/
def wn_obj (G : wm_G) (a ci N : Nat) (Hz : Heap) (k : Nat) (P : (Nat → Value) → Prop) : Heap → Prop := fun H => ∃ V' : Nat → Value, wm_O G a ci N V' H ∧ P V' ∧ H.size = Hz.size + k ∧ (∀ q : Nat, q < Hz.size → q ≠ a → H[q]? = Hz[q]?) ∧ ∀ j : Nat, j < k → wm_A G (Hz.size + j) (if j = 3 then 1 else 0) 61 (fun _ => .int 0) H
theorem wn_o {v w r : Value} (h : v = w ∨ v = r) (hw : w = r) : v = r := by
  rcases h with h | h
  · rw [h, hw]
  · exact h
theorem wn_tr {v w u r : Value} (h1 : v = w ∨ v = r) (h2 : w = u ∨ w = r) : v = u ∨ v = r := by
  rcases h1 with h | h
  · rw [h]; exact h2
  · exact Or.inr h
theorem wn_sub {j : Nat} {a b : List Nat} (h : (a.all fun k => b.contains k) = true) (z : j ∈ a) : j ∈ b := by
  have := List.all_eq_true.mp h j z
  simpa using this
theorem wn_all {a : Nat} {H H1 : Heap} (hs : H1.size = H.size) (hq : ∀ q : Nat, q < H.size → q ≠ a → H1[q]? = H[q]?) : ∀ q : Nat, q ≠ a → H1[q]? = H[q]? := fun q h => by
  rcases Nat.lt_or_ge q H.size with z | z
  · exact hq q z h
  · rw [Array.getElem?_eq_none z, Array.getElem?_eq_none (by omega)]
theorem wN_X6 : ∀ k, k < 2 → ∀ j, j < 2 → j ≠ k → (TX6 j).2.1 ≠ "this$0" → (TX6 j).2.1 ≠ (TX6 k).2.1 := by decide +kernel
theorem wN_X7 : ∀ k, k < 3 → ∀ j, j < 3 → j ≠ k → (TX7 j).2.1 ≠ "this$0" → (TX7 j).2.1 ≠ (TX7 k).2.1 := by decide +kernel
theorem wN_X8 : ∀ k, k < 15 → ∀ j, j < 15 → j ≠ k → (TX8 j).2.1 ≠ "this$0" → (TX8 j).2.1 ≠ (TX8 k).2.1 := by decide +kernel
theorem wN_X9 : ∀ k, k < 17 → ∀ j, j < 17 → j ≠ k → (TX9 j).2.1 ≠ "this$0" → (TX9 j).2.1 ≠ (TX9 k).2.1 := by decide +kernel
theorem wN_X10 : ∀ k, k < 16 → ∀ j, j < 16 → j ≠ k → (TX10 j).2.1 ≠ "this$0" → (TX10 j).2.1 ≠ (TX10 k).2.1 := by decide +kernel
theorem wN_X11 : ∀ k, k < 17 → ∀ j, j < 17 → j ≠ k → (TX11 j).2.1 ≠ "this$0" → (TX11 j).2.1 ≠ (TX11 k).2.1 := by decide +kernel
theorem wN_X12 : ∀ k, k < 8 → ∀ j, j < 8 → j ≠ k → (TX12 j).2.1 ≠ "this$0" → (TX12 j).2.1 ≠ (TX12 k).2.1 := by decide +kernel
theorem wN_X13 : ∀ k, k < 7 → ∀ j, j < 7 → j ≠ k → (TX13 j).2.1 ≠ "this$0" → (TX13 j).2.1 ≠ (TX13 k).2.1 := by decide +kernel
theorem wN_X15 : ∀ k, k < 4 → ∀ j, j < 4 → j ≠ k → (TX15 j).2.1 ≠ "this$0" → (TX15 j).2.1 ≠ (TX15 k).2.1 := by decide +kernel
theorem wN_X16 : ∀ k, k < 3 → ∀ j, j < 3 → j ≠ k → (TX16 j).2.1 ≠ "this$0" → (TX16 j).2.1 ≠ (TX16 k).2.1 := by decide +kernel
theorem wN_X17 : ∀ k, k < 3 → ∀ j, j < 3 → j ≠ k → (TX17 j).2.1 ≠ "this$0" → (TX17 j).2.1 ≠ (TX17 k).2.1 := by decide +kernel
theorem wN_X18 : ∀ k, k < 5 → ∀ j, j < 5 → j ≠ k → (TX18 j).2.1 ≠ "this$0" → (TX18 j).2.1 ≠ (TX18 k).2.1 := by decide +kernel
/-- all fields but ks stay, those of outer objects may be o -/
abbrev wP_fr (T : u_T) (N o : Nat) (ks : List Nat) (V V' : Nat → Value) : Prop := (∀ j : Nat, j < N → j ∉ ks → (T j).2.1 ≠ "this$0" → V' j = V j) ∧ ∀ j : Nat, j < N → (T j).2.1 = "this$0" → V' j = V j ∨ V' j = .ref o
set_option maxHeartbeats 4000000 in
theorem wn_Term_12 (lQ : Launch) (G : wm_G) (o a : Nat) (V : Nat → Value) (Hz : Heap) (hO : wm_O G a 12 4 V Hz) : wn_Met lQ G yX14_init (ws_ yX14_init cX14_init 2 none) 1 0 0 Hz [Value.ref a, Value.ref o] (fun q => q = a) (wn_obj G a 12 4 Hz 0 (fun V' => V' 0 = .ref o ∧ wP_fr TX15 4 o [] V V')) := by
  refine wn_start (own := RX14) (by decide +kernel) (Nat.le_of_ble_eq_true rfl) rfl rfl (fun pQ eQ sQ mQ belowQ methQ cQ hx hb hml hr hlocks hts hin hown hK hN hHz hS ls hl => ?_)
  have hl : lv_has ls 2 [(0, .ref a), (1, .ref o)] := hl
  have ha := hO.lt
  have zS : Hz.size = Hz.size + 0 := rfl
  have oS : ∀ q : Nat, q < Hz.size → q ≠ a → Hz[q]? = Hz[q]? := fun _ _ _ => rfl
  refine lv_aload_n hx hb dX14_init_0 rfl (lv_at hl 0 rfl) ?_
  refine lv_aload_n hx hb dX14_init_1 rfl (lv_at hl 1 rfl) ?_
  refine wm_putFs (v := .ref o) hx hb hts in_X15 tyX15 tyX15_ok hown hK (ci := 12) rfl hO hS rfl 0 (by decide) q972 (fun _ h => h) rfl hin rfl rfl rfl dX14_init_2 (fun V1 H1 locs1 a1 b1 c1 hO zH oH hS => ?_)
  have zS : H1.size = Hz.size + 0 := zH.trans zS
  have oS : ∀ q : Nat, q < Hz.size → q ≠ a → H1[q]? = Hz[q]? := fun q h1 h2 => (oH q h2).trans (oS q h1 h2)
  generalize hHc2 : H1 = Hw at hO hS oS zS ⊢
  clear zH oH hHc2
  refine lv_aload_n hx hb dX14_init_5 rfl (lv_at hl 0 rfl) ?_
  refine W.objInit hx hb hown (hts _ q968) (hts _ q120) (hts _ q121) rfl (by rw [hml]; exact hl.1) rfl dX14_init_6 (Nat.le_of_ble_eq_true rfl) (Nat.le_of_ble_eq_true rfl) ?_
  refine W.eq (g2 := F0 mQ 9 ls []) rfl ?_
  refine wn_ret hx hb hr hlocks hS ?_ (Nat.le_of_ble_eq_true rfl) (Nat.le_of_ble_eq_true rfl) dX14_init_9
  refine ⟨V1, hO, ?_, zS, oS, ?_⟩
  · exact ⟨a1, fun j hj hk hn => b1 j hj (wN_X15 0 (by decide) j hj (fun e => hn (by rw [e]; rfl)) hn), fun j hj hn => c1 j⟩
  · exact fun j hj => absurd hj (Nat.not_lt_zero _)

set_option maxHeartbeats 4000000 in
theorem wn_Term_13 (lQ : Launch) (G : wm_G) (o a : Nat) (V : Nat → Value) (Hz : Heap) (hO : wm_O G a 13 3 V Hz) : wn_Met lQ G yX14_init (ws_ yX14_init cX14_init 2 none) 1 0 0 Hz [Value.ref a, Value.ref o] (fun q => q = a) (wn_obj G a 13 3 Hz 0 (fun V' => V' 0 = .ref o ∧ wP_fr TX16 3 o [] V V')) := by
  refine wn_start (own := RX14) (by decide +kernel) (Nat.le_of_ble_eq_true rfl) rfl rfl (fun pQ eQ sQ mQ belowQ methQ cQ hx hb hml hr hlocks hts hin hown hK hN hHz hS ls hl => ?_)
  have hl : lv_has ls 2 [(0, .ref a), (1, .ref o)] := hl
  have ha := hO.lt
  have zS : Hz.size = Hz.size + 0 := rfl
  have oS : ∀ q : Nat, q < Hz.size → q ≠ a → Hz[q]? = Hz[q]? := fun _ _ _ => rfl
  refine lv_aload_n hx hb dX14_init_0 rfl (lv_at hl 0 rfl) ?_
  refine lv_aload_n hx hb dX14_init_1 rfl (lv_at hl 1 rfl) ?_
  refine wm_putFs (v := .ref o) hx hb hts in_X16 tyX16 tyX16_ok hown hK (ci := 13) rfl hO hS rfl 0 (by decide) q972 (fun _ h => h) rfl hin rfl rfl rfl dX14_init_2 (fun V1 H1 locs1 a1 b1 c1 hO zH oH hS => ?_)
  have zS : H1.size = Hz.size + 0 := zH.trans zS
  have oS : ∀ q : Nat, q < Hz.size → q ≠ a → H1[q]? = Hz[q]? := fun q h1 h2 => (oH q h2).trans (oS q h1 h2)
  generalize hHc2 : H1 = Hw at hO hS oS zS ⊢
  clear zH oH hHc2
  refine lv_aload_n hx hb dX14_init_5 rfl (lv_at hl 0 rfl) ?_
  refine W.objInit hx hb hown (hts _ q968) (hts _ q120) (hts _ q121) rfl (by rw [hml]; exact hl.1) rfl dX14_init_6 (Nat.le_of_ble_eq_true rfl) (Nat.le_of_ble_eq_true rfl) ?_
  refine W.eq (g2 := F0 mQ 9 ls []) rfl ?_
  refine wn_ret hx hb hr hlocks hS ?_ (Nat.le_of_ble_eq_true rfl) (Nat.le_of_ble_eq_true rfl) dX14_init_9
  refine ⟨V1, hO, ?_, zS, oS, ?_⟩
  · exact ⟨a1, fun j hj hk hn => b1 j hj (wN_X16 0 (by decide) j hj (fun e => hn (by rw [e]; rfl)) hn), fun j hj hn => c1 j⟩
  · exact fun j hj => absurd hj (Nat.not_lt_zero _)

set_option maxHeartbeats 4000000 in
theorem wn_Term_14 (lQ : Launch) (G : wm_G) (o a : Nat) (V : Nat → Value) (Hz : Heap) (hO : wm_O G a 14 3 V Hz) : wn_Met lQ G yX14_init (ws_ yX14_init cX14_init 2 none) 1 0 0 Hz [Value.ref a, Value.ref o] (fun q => q = a) (wn_obj G a 14 3 Hz 0 (fun V' => V' 0 = .ref o ∧ wP_fr TX17 3 o [] V V')) := by
  refine wn_start (own := RX14) (by decide +kernel) (Nat.le_of_ble_eq_true rfl) rfl rfl (fun pQ eQ sQ mQ belowQ methQ cQ hx hb hml hr hlocks hts hin hown hK hN hHz hS ls hl => ?_)
  have hl : lv_has ls 2 [(0, .ref a), (1, .ref o)] := hl
  have ha := hO.lt
  have zS : Hz.size = Hz.size + 0 := rfl
  have oS : ∀ q : Nat, q < Hz.size → q ≠ a → Hz[q]? = Hz[q]? := fun _ _ _ => rfl
  refine lv_aload_n hx hb dX14_init_0 rfl (lv_at hl 0 rfl) ?_
  refine lv_aload_n hx hb dX14_init_1 rfl (lv_at hl 1 rfl) ?_
  refine wm_putFs (v := .ref o) hx hb hts in_X17 tyX17 tyX17_ok hown hK (ci := 14) rfl hO hS rfl 0 (by decide) q972 (fun _ h => h) rfl hin rfl rfl rfl dX14_init_2 (fun V1 H1 locs1 a1 b1 c1 hO zH oH hS => ?_)
  have zS : H1.size = Hz.size + 0 := zH.trans zS
  have oS : ∀ q : Nat, q < Hz.size → q ≠ a → H1[q]? = Hz[q]? := fun q h1 h2 => (oH q h2).trans (oS q h1 h2)
  generalize hHc2 : H1 = Hw at hO hS oS zS ⊢
  clear zH oH hHc2
  refine lv_aload_n hx hb dX14_init_5 rfl (lv_at hl 0 rfl) ?_
  refine W.objInit hx hb hown (hts _ q968) (hts _ q120) (hts _ q121) rfl (by rw [hml]; exact hl.1) rfl dX14_init_6 (Nat.le_of_ble_eq_true rfl) (Nat.le_of_ble_eq_true rfl) ?_
  refine W.eq (g2 := F0 mQ 9 ls []) rfl ?_
  refine wn_ret hx hb hr hlocks hS ?_ (Nat.le_of_ble_eq_true rfl) (Nat.le_of_ble_eq_true rfl) dX14_init_9
  refine ⟨V1, hO, ?_, zS, oS, ?_⟩
  · exact ⟨a1, fun j hj hk hn => b1 j hj (wN_X17 0 (by decide) j hj (fun e => hn (by rw [e]; rfl)) hn), fun j hj hn => c1 j⟩
  · exact fun j hj => absurd hj (Nat.not_lt_zero _)

set_option maxHeartbeats 4000000 in
theorem wn_Term_15 (lQ : Launch) (G : wm_G) (o a : Nat) (V : Nat → Value) (Hz : Heap) (hO : wm_O G a 15 5 V Hz) : wn_Met lQ G yX14_init (ws_ yX14_init cX14_init 2 none) 1 0 0 Hz [Value.ref a, Value.ref o] (fun q => q = a) (wn_obj G a 15 5 Hz 0 (fun V' => V' 0 = .ref o ∧ wP_fr TX18 5 o [] V V')) := by
  refine wn_start (own := RX14) (by decide +kernel) (Nat.le_of_ble_eq_true rfl) rfl rfl (fun pQ eQ sQ mQ belowQ methQ cQ hx hb hml hr hlocks hts hin hown hK hN hHz hS ls hl => ?_)
  have hl : lv_has ls 2 [(0, .ref a), (1, .ref o)] := hl
  have ha := hO.lt
  have zS : Hz.size = Hz.size + 0 := rfl
  have oS : ∀ q : Nat, q < Hz.size → q ≠ a → Hz[q]? = Hz[q]? := fun _ _ _ => rfl
  refine lv_aload_n hx hb dX14_init_0 rfl (lv_at hl 0 rfl) ?_
  refine lv_aload_n hx hb dX14_init_1 rfl (lv_at hl 1 rfl) ?_
  refine wm_putFs (v := .ref o) hx hb hts in_X18 tyX18 tyX18_ok hown hK (ci := 15) rfl hO hS rfl 0 (by decide) q972 (fun _ h => h) rfl hin rfl rfl rfl dX14_init_2 (fun V1 H1 locs1 a1 b1 c1 hO zH oH hS => ?_)
  have zS : H1.size = Hz.size + 0 := zH.trans zS
  have oS : ∀ q : Nat, q < Hz.size → q ≠ a → H1[q]? = Hz[q]? := fun q h1 h2 => (oH q h2).trans (oS q h1 h2)
  generalize hHc2 : H1 = Hw at hO hS oS zS ⊢
  clear zH oH hHc2
  refine lv_aload_n hx hb dX14_init_5 rfl (lv_at hl 0 rfl) ?_
  refine W.objInit hx hb hown (hts _ q968) (hts _ q120) (hts _ q121) rfl (by rw [hml]; exact hl.1) rfl dX14_init_6 (Nat.le_of_ble_eq_true rfl) (Nat.le_of_ble_eq_true rfl) ?_
  refine W.eq (g2 := F0 mQ 9 ls []) rfl ?_
  refine wn_ret hx hb hr hlocks hS ?_ (Nat.le_of_ble_eq_true rfl) (Nat.le_of_ble_eq_true rfl) dX14_init_9
  refine ⟨V1, hO, ?_, zS, oS, ?_⟩
  · exact ⟨a1, fun j hj hk hn => b1 j hj (wN_X18 0 (by decide) j hj (fun e => hn (by rw [e]; rfl)) hn), fun j hj hn => c1 j⟩
  · exact fun j hj => absurd hj (Nat.not_lt_zero _)

set_option maxHeartbeats 4000000 in
theorem wn_Turned_12 (lQ : Launch) (G : wm_G) (o a : Nat) (b : Int32) (t : Nat) (hb1 : narrow .boolean (.int b) = .int b) (hb2 : fits .boolean (.int b) = true) (V : Nat → Value) (Hz : Heap) (hO : wm_O G a 12 4 V Hz) : wn_Met lQ G yX15_init (ws_ yX15_init cX15_init 4 none) 2 0 0 Hz [Value.ref a, Value.ref o, Value.int b, Value.ref t] (fun q => q = a) (wn_obj G a 12 4 Hz 0 (fun V' => V' 0 = .ref o ∧ V' 1 = .int b ∧ V' 2 = .ref t ∧ V' 3 = .ref o ∧ wP_fr TX15 4 o [1, 2] V V')) := by
  refine wn_start (own := RX15) (by decide +kernel) (Nat.le_of_ble_eq_true rfl) rfl rfl (fun pQ eQ sQ mQ belowQ methQ cQ hx hb hml hr hlocks hts hin hown hK hN hHz hS ls hl => ?_)
  have hl : lv_has ls 4 [(0, .ref a), (1, .ref o), (2, .int b), (3, .ref t)] := hl
  have ha := hO.lt
  have zS : Hz.size = Hz.size + 0 := rfl
  have oS : ∀ q : Nat, q < Hz.size → q ≠ a → Hz[q]? = Hz[q]? := fun _ _ _ => rfl
  refine lv_aload_n hx hb dX15_init_0 rfl (lv_at hl 0 rfl) ?_
  refine lv_aload_n hx hb dX15_init_1 rfl (lv_at hl 1 rfl) ?_
  refine wm_putFs (v := .ref o) hx hb hts in_X15 tyX15 tyX15_ok hown hK (ci := 12) rfl hO hS rfl 3 (by decide) q971 (fun _ h => h) rfl hin rfl rfl rfl dX15_init_2 (fun V1 H1 locs1 a1 b1 c1 hO zH oH hS => ?_)
  have zS : H1.size = Hz.size + 0 := zH.trans zS
  have oS : ∀ q : Nat, q < Hz.size → q ≠ a → H1[q]? = Hz[q]? := fun q h1 h2 => (oH q h2).trans (oS q h1 h2)
  generalize hHc2 : H1 = Hw at hO hS oS zS ⊢
  clear zH oH hHc2
  refine lv_aload_n hx hb dX15_init_5 rfl (lv_at hl 0 rfl) ?_
  refine lv_aload_n hx hb dX15_init_6 rfl (lv_at hl 1 rfl) ?_
  refine wn_callN (As := [.ref o]) (rest := []) (n := 1) ⟨hx, hb, hml, hown, hts⟩ hK hN (wn_Term_12 lQ G o a V1 _ hO) q967 q102 (hN.nm q965) q966 rfl (by decide +kernel) rfl ⟨Nat.le_of_ble_eq_true rfl, Nat.le_of_ble_eq_true rfl⟩ hl.1 rfl (by decide) dX15_init_7 ⟨Nat.le_of_ble_eq_true rfl, Nat.le_of_ble_eq_true rfl⟩ hS (fun q h => h) (fun H1 locs1 hp _ hS => ?_)
  obtain ⟨V2, hO, hP2, zH, oH, hAr⟩ := hp
  have zS0 := zS
  have zS : H1.size = Hz.size + 0 := by rw [zH, zS]
  have oS : ∀ q : Nat, q < Hz.size → q ≠ a → H1[q]? = Hz[q]? := fun q h1 h2 => (oH q (by rw [zS0]; omega) h2).trans (oS q h1 h2)
  clear zS0 zH oH hAr
  generalize hHc7 : H1 = Hw at hO hS oS zS ⊢
  clear hHc7
  refine lv_aload_n hx hb dX15_init_10 rfl (lv_at hl 0 rfl) ?_
  refine lv_iload_n hx hb dX15_init_11 rfl (lv_at hl 2 rfl) ?_
  refine wm_putFs (v := .int b) hx hb hts in_X15 tyX15 tyX15_ok hown hK (ci := 12) rfl hO hS rfl 1 (by decide) q969 (fun _ h => h) rfl hin rfl hb1 hb2 dX15_init_12 (fun V3 H1 locs1 a3 b3 c3 hO zH oH hS => ?_)
  have zS : H1.size = Hz.size + 0 := zH.trans zS
  have oS : ∀ q : Nat, q < Hz.size → q ≠ a → H1[q]? = Hz[q]? := fun q h1 h2 => (oH q h2).trans (oS q h1 h2)
  generalize hHc12 : H1 = Hw at hO hS oS zS ⊢
  clear zH oH hHc12
  refine lv_aload_n hx hb dX15_init_15 rfl (lv_at hl 0 rfl) ?_
  refine lv_aload_n hx hb dX15_init_16 rfl (lv_at hl 3 rfl) ?_
  refine wm_putFs (v := .ref t) hx hb hts in_X15 tyX15 tyX15_ok hown hK (ci := 12) rfl hO hS rfl 2 (by decide) q970 (fun _ h => h) rfl hin rfl rfl rfl dX15_init_17 (fun V4 H1 locs1 a4 b4 c4 hO zH oH hS => ?_)
  have zS : H1.size = Hz.size + 0 := zH.trans zS
  have oS : ∀ q : Nat, q < Hz.size → q ≠ a → H1[q]? = Hz[q]? := fun q h1 h2 => (oH q h2).trans (oS q h1 h2)
  generalize hHc17 : H1 = Hw at hO hS oS zS ⊢
  clear zH oH hHc17
  refine wn_ret hx hb hr hlocks hS ?_ (Nat.le_of_ble_eq_true rfl) (Nat.le_of_ble_eq_true rfl) dX15_init_20
  refine ⟨V4, hO, ?_, zS, oS, ?_⟩
  · exact ⟨(b4 0 (by decide) (by decide)).trans ((b3 0 (by decide) (by decide)).trans (hP2.1)), (b4 1 (by decide) (by decide)).trans (a3), a4, (b4 3 (by decide) (by decide)).trans ((b3 3 (by decide) (by decide)).trans (wn_o (hP2.2.2 3 (by decide) rfl) (a1))), fun j hj hk hn => (b4 j hj (wN_X15 2 (by decide) j hj (fun e => hk (by rw [e]; decide)) hn)).trans ((b3 j hj (wN_X15 1 (by decide) j hj (fun e => hk (by rw [e]; decide)) hn)).trans ((hP2.2.1 j hj (fun z => hk (wn_sub (by decide) z)) hn).trans (b1 j hj (wN_X15 3 (by decide) j hj (fun e => hn (by rw [e]; rfl)) hn)))), fun j hj hn => wn_tr (Or.inl (b4 j hj (by rw [hn]; decide))) (wn_tr (Or.inl (b3 j hj (by rw [hn]; decide))) (wn_tr (hP2.2.2 j hj hn) (c1 j)))⟩
  · exact fun j hj => absurd hj (Nat.not_lt_zero _)

set_option maxHeartbeats 4000000 in
theorem wn_Named_13 (lQ : Launch) (G : wm_G) (o a : Nat) (k : Int32) (V : Nat → Value) (Hz : Heap) (hO : wm_O G a 13 3 V Hz) : wn_Met lQ G yX16_init (ws_ yX16_init cX16_init 3 none) 2 0 0 Hz [Value.ref a, Value.ref o, Value.int k] (fun q => q = a) (wn_obj G a 13 3 Hz 0 (fun V' => V' 0 = .ref o ∧ V' 1 = .int k ∧ V' 2 = .ref o ∧ wP_fr TX16 3 o [1] V V')) := by
  refine wn_start (own := RX16) (by decide +kernel) (Nat.le_of_ble_eq_true rfl) rfl rfl (fun pQ eQ sQ mQ belowQ methQ cQ hx hb hml hr hlocks hts hin hown hK hN hHz hS ls hl => ?_)
  have hl : lv_has ls 3 [(0, .ref a), (1, .ref o), (2, .int k)] := hl
  have ha := hO.lt
  have zS : Hz.size = Hz.size + 0 := rfl
  have oS : ∀ q : Nat, q < Hz.size → q ≠ a → Hz[q]? = Hz[q]? := fun _ _ _ => rfl
  refine lv_aload_n hx hb dX16_init_0 rfl (lv_at hl 0 rfl) ?_
  refine lv_aload_n hx hb dX16_init_1 rfl (lv_at hl 1 rfl) ?_
  refine wm_putFs (v := .ref o) hx hb hts in_X16 tyX16 tyX16_ok hown hK (ci := 13) rfl hO hS rfl 2 (by decide) q1076 (fun _ h => h) rfl hin rfl rfl rfl dX16_init_2 (fun V1 H1 locs1 a1 b1 c1 hO zH oH hS => ?_)
  have zS : H1.size = Hz.size + 0 := zH.trans zS
  have oS : ∀ q : Nat, q < Hz.size → q ≠ a → H1[q]? = Hz[q]? := fun q h1 h2 => (oH q h2).trans (oS q h1 h2)
  generalize hHc2 : H1 = Hw at hO hS oS zS ⊢
  clear zH oH hHc2
  refine lv_aload_n hx hb dX16_init_5 rfl (lv_at hl 0 rfl) ?_
  refine lv_aload_n hx hb dX16_init_6 rfl (lv_at hl 1 rfl) ?_
  refine wn_callN (As := [.ref o]) (rest := []) (n := 1) ⟨hx, hb, hml, hown, hts⟩ hK hN (wn_Term_13 lQ G o a V1 _ hO) q967 q102 (hN.nm q1074) q966 rfl (by decide +kernel) rfl ⟨Nat.le_of_ble_eq_true rfl, Nat.le_of_ble_eq_true rfl⟩ hl.1 rfl (by decide) dX16_init_7 ⟨Nat.le_of_ble_eq_true rfl, Nat.le_of_ble_eq_true rfl⟩ hS (fun q h => h) (fun H1 locs1 hp _ hS => ?_)
  obtain ⟨V2, hO, hP2, zH, oH, hAr⟩ := hp
  have zS0 := zS
  have zS : H1.size = Hz.size + 0 := by rw [zH, zS]
  have oS : ∀ q : Nat, q < Hz.size → q ≠ a → H1[q]? = Hz[q]? := fun q h1 h2 => (oH q (by rw [zS0]; omega) h2).trans (oS q h1 h2)
  clear zS0 zH oH hAr
  generalize hHc7 : H1 = Hw at hO hS oS zS ⊢
  clear hHc7
  refine lv_aload_n hx hb dX16_init_10 rfl (lv_at hl 0 rfl) ?_
  refine lv_iload_n hx hb dX16_init_11 rfl (lv_at hl 2 rfl) ?_
  refine wm_putFs (v := .int k) hx hb hts in_X16 tyX16 tyX16_ok hown hK (ci := 13) rfl hO hS rfl 1 (by decide) q1075 (fun _ h => h) rfl hin rfl rfl rfl dX16_init_12 (fun V3 H1 locs1 a3 b3 c3 hO zH oH hS => ?_)
  have zS : H1.size = Hz.size + 0 := zH.trans zS
  have oS : ∀ q : Nat, q < Hz.size → q ≠ a → H1[q]? = Hz[q]? := fun q h1 h2 => (oH q h2).trans (oS q h1 h2)
  generalize hHc12 : H1 = Hw at hO hS oS zS ⊢
  clear zH oH hHc12
  refine wn_ret hx hb hr hlocks hS ?_ (Nat.le_of_ble_eq_true rfl) (Nat.le_of_ble_eq_true rfl) dX16_init_15
  refine ⟨V3, hO, ?_, zS, oS, ?_⟩
  · exact ⟨(b3 0 (by decide) (by decide)).trans (hP2.1), a3, (b3 2 (by decide) (by decide)).trans (wn_o (hP2.2.2 2 (by decide) rfl) (a1)), fun j hj hk hn => (b3 j hj (wN_X16 1 (by decide) j hj (fun e => hk (by rw [e]; decide)) hn)).trans ((hP2.2.1 j hj (fun z => hk (wn_sub (by decide) z)) hn).trans (b1 j hj (wN_X16 2 (by decide) j hj (fun e => hn (by rw [e]; rfl)) hn))), fun j hj hn => wn_tr (Or.inl (b3 j hj (by rw [hn]; decide))) (wn_tr (hP2.2.2 j hj hn) (c1 j))⟩
  · exact fun j hj => absurd hj (Nat.not_lt_zero _)

set_option maxHeartbeats 4000000 in
theorem wn_Figure_14 (lQ : Launch) (G : wm_G) (o a : Nat) (v : Int32) (V : Nat → Value) (Hz : Heap) (hO : wm_O G a 14 3 V Hz) : wn_Met lQ G yX17_init (ws_ yX17_init cX17_init 3 none) 2 0 0 Hz [Value.ref a, Value.ref o, Value.int v] (fun q => q = a) (wn_obj G a 14 3 Hz 0 (fun V' => V' 0 = .ref o ∧ V' 1 = .int v ∧ V' 2 = .ref o ∧ wP_fr TX17 3 o [1] V V')) := by
  refine wn_start (own := RX17) (by decide +kernel) (Nat.le_of_ble_eq_true rfl) rfl rfl (fun pQ eQ sQ mQ belowQ methQ cQ hx hb hml hr hlocks hts hin hown hK hN hHz hS ls hl => ?_)
  have hl : lv_has ls 3 [(0, .ref a), (1, .ref o), (2, .int v)] := hl
  have ha := hO.lt
  have zS : Hz.size = Hz.size + 0 := rfl
  have oS : ∀ q : Nat, q < Hz.size → q ≠ a → Hz[q]? = Hz[q]? := fun _ _ _ => rfl
  refine lv_aload_n hx hb dX17_init_0 rfl (lv_at hl 0 rfl) ?_
  refine lv_aload_n hx hb dX17_init_1 rfl (lv_at hl 1 rfl) ?_
  refine wm_putFs (v := .ref o) hx hb hts in_X17 tyX17 tyX17_ok hown hK (ci := 14) rfl hO hS rfl 2 (by decide) q1094 (fun _ h => h) rfl hin rfl rfl rfl dX17_init_2 (fun V1 H1 locs1 a1 b1 c1 hO zH oH hS => ?_)
  have zS : H1.size = Hz.size + 0 := zH.trans zS
  have oS : ∀ q : Nat, q < Hz.size → q ≠ a → H1[q]? = Hz[q]? := fun q h1 h2 => (oH q h2).trans (oS q h1 h2)
  generalize hHc2 : H1 = Hw at hO hS oS zS ⊢
  clear zH oH hHc2
  refine lv_aload_n hx hb dX17_init_5 rfl (lv_at hl 0 rfl) ?_
  refine lv_aload_n hx hb dX17_init_6 rfl (lv_at hl 1 rfl) ?_
  refine wn_callN (As := [.ref o]) (rest := []) (n := 1) ⟨hx, hb, hml, hown, hts⟩ hK hN (wn_Term_14 lQ G o a V1 _ hO) q967 q102 (hN.nm q1092) q966 rfl (by decide +kernel) rfl ⟨Nat.le_of_ble_eq_true rfl, Nat.le_of_ble_eq_true rfl⟩ hl.1 rfl (by decide) dX17_init_7 ⟨Nat.le_of_ble_eq_true rfl, Nat.le_of_ble_eq_true rfl⟩ hS (fun q h => h) (fun H1 locs1 hp _ hS => ?_)
  obtain ⟨V2, hO, hP2, zH, oH, hAr⟩ := hp
  have zS0 := zS
  have zS : H1.size = Hz.size + 0 := by rw [zH, zS]
  have oS : ∀ q : Nat, q < Hz.size → q ≠ a → H1[q]? = Hz[q]? := fun q h1 h2 => (oH q (by rw [zS0]; omega) h2).trans (oS q h1 h2)
  clear zS0 zH oH hAr
  generalize hHc7 : H1 = Hw at hO hS oS zS ⊢
  clear hHc7
  refine lv_aload_n hx hb dX17_init_10 rfl (lv_at hl 0 rfl) ?_
  refine lv_iload_n hx hb dX17_init_11 rfl (lv_at hl 2 rfl) ?_
  refine wm_putFs (v := .int v) hx hb hts in_X17 tyX17 tyX17_ok hown hK (ci := 14) rfl hO hS rfl 1 (by decide) q1093 (fun _ h => h) rfl hin rfl rfl rfl dX17_init_12 (fun V3 H1 locs1 a3 b3 c3 hO zH oH hS => ?_)
  have zS : H1.size = Hz.size + 0 := zH.trans zS
  have oS : ∀ q : Nat, q < Hz.size → q ≠ a → H1[q]? = Hz[q]? := fun q h1 h2 => (oH q h2).trans (oS q h1 h2)
  generalize hHc12 : H1 = Hw at hO hS oS zS ⊢
  clear zH oH hHc12
  refine wn_ret hx hb hr hlocks hS ?_ (Nat.le_of_ble_eq_true rfl) (Nat.le_of_ble_eq_true rfl) dX17_init_15
  refine ⟨V3, hO, ?_, zS, oS, ?_⟩
  · exact ⟨(b3 0 (by decide) (by decide)).trans (hP2.1), a3, (b3 2 (by decide) (by decide)).trans (wn_o (hP2.2.2 2 (by decide) rfl) (a1)), fun j hj hk hn => (b3 j hj (wN_X17 1 (by decide) j hj (fun e => hk (by rw [e]; decide)) hn)).trans ((hP2.2.1 j hj (fun z => hk (wn_sub (by decide) z)) hn).trans (b1 j hj (wN_X17 2 (by decide) j hj (fun e => hn (by rw [e]; rfl)) hn))), fun j hj hn => wn_tr (Or.inl (b3 j hj (by rw [hn]; decide))) (wn_tr (hP2.2.2 j hj hn) (c1 j))⟩
  · exact fun j hj => absurd hj (Nat.not_lt_zero _)

set_option maxHeartbeats 4000000 in
theorem wn_Both_15 (lQ : Launch) (G : wm_G) (o a : Nat) (g : Int32) (t : Nat) (u : Nat) (V : Nat → Value) (Hz : Heap) (hO : wm_O G a 15 5 V Hz) : wn_Met lQ G yX18_init (ws_ yX18_init cX18_init 5 none) 2 0 0 Hz [Value.ref a, Value.ref o, Value.int g, Value.ref t, Value.ref u] (fun q => q = a) (wn_obj G a 15 5 Hz 0 (fun V' => V' 0 = .ref o ∧ V' 1 = .int g ∧ V' 2 = .ref t ∧ V' 3 = .ref u ∧ V' 4 = .ref o ∧ wP_fr TX18 5 o [1, 2, 3] V V')) := by
  refine wn_start (own := RX18) (by decide +kernel) (Nat.le_of_ble_eq_true rfl) rfl rfl (fun pQ eQ sQ mQ belowQ methQ cQ hx hb hml hr hlocks hts hin hown hK hN hHz hS ls hl => ?_)
  have hl : lv_has ls 5 [(0, .ref a), (1, .ref o), (2, .int g), (3, .ref t), (4, .ref u)] := hl
  have ha := hO.lt
  have zS : Hz.size = Hz.size + 0 := rfl
  have oS : ∀ q : Nat, q < Hz.size → q ≠ a → Hz[q]? = Hz[q]? := fun _ _ _ => rfl
  refine lv_aload_n hx hb dX18_init_0 rfl (lv_at hl 0 rfl) ?_
  refine lv_aload_n hx hb dX18_init_1 rfl (lv_at hl 1 rfl) ?_
  refine wm_putFs (v := .ref o) hx hb hts in_X18 tyX18 tyX18_ok hown hK (ci := 15) rfl hO hS rfl 4 (by decide) q1110 (fun _ h => h) rfl hin rfl rfl rfl dX18_init_2 (fun V1 H1 locs1 a1 b1 c1 hO zH oH hS => ?_)
  have zS : H1.size = Hz.size + 0 := zH.trans zS
  have oS : ∀ q : Nat, q < Hz.size → q ≠ a → H1[q]? = Hz[q]? := fun q h1 h2 => (oH q h2).trans (oS q h1 h2)
  generalize hHc2 : H1 = Hw at hO hS oS zS ⊢
  clear zH oH hHc2
  refine lv_aload_n hx hb dX18_init_5 rfl (lv_at hl 0 rfl) ?_
  refine lv_aload_n hx hb dX18_init_6 rfl (lv_at hl 1 rfl) ?_
  refine wn_callN (As := [.ref o]) (rest := []) (n := 1) ⟨hx, hb, hml, hown, hts⟩ hK hN (wn_Term_15 lQ G o a V1 _ hO) q967 q102 (hN.nm q1106) q966 rfl (by decide +kernel) rfl ⟨Nat.le_of_ble_eq_true rfl, Nat.le_of_ble_eq_true rfl⟩ hl.1 rfl (by decide) dX18_init_7 ⟨Nat.le_of_ble_eq_true rfl, Nat.le_of_ble_eq_true rfl⟩ hS (fun q h => h) (fun H1 locs1 hp _ hS => ?_)
  obtain ⟨V2, hO, hP2, zH, oH, hAr⟩ := hp
  have zS0 := zS
  have zS : H1.size = Hz.size + 0 := by rw [zH, zS]
  have oS : ∀ q : Nat, q < Hz.size → q ≠ a → H1[q]? = Hz[q]? := fun q h1 h2 => (oH q (by rw [zS0]; omega) h2).trans (oS q h1 h2)
  clear zS0 zH oH hAr
  generalize hHc7 : H1 = Hw at hO hS oS zS ⊢
  clear hHc7
  refine lv_aload_n hx hb dX18_init_10 rfl (lv_at hl 0 rfl) ?_
  refine lv_iload_n hx hb dX18_init_11 rfl (lv_at hl 2 rfl) ?_
  refine wm_putFs (v := .int g) hx hb hts in_X18 tyX18 tyX18_ok hown hK (ci := 15) rfl hO hS rfl 1 (by decide) q1107 (fun _ h => h) rfl hin rfl rfl rfl dX18_init_12 (fun V3 H1 locs1 a3 b3 c3 hO zH oH hS => ?_)
  have zS : H1.size = Hz.size + 0 := zH.trans zS
  have oS : ∀ q : Nat, q < Hz.size → q ≠ a → H1[q]? = Hz[q]? := fun q h1 h2 => (oH q h2).trans (oS q h1 h2)
  generalize hHc12 : H1 = Hw at hO hS oS zS ⊢
  clear zH oH hHc12
  refine lv_aload_n hx hb dX18_init_15 rfl (lv_at hl 0 rfl) ?_
  refine lv_aload_n hx hb dX18_init_16 rfl (lv_at hl 3 rfl) ?_
  refine wm_putFs (v := .ref t) hx hb hts in_X18 tyX18 tyX18_ok hown hK (ci := 15) rfl hO hS rfl 2 (by decide) q1108 (fun _ h => h) rfl hin rfl rfl rfl dX18_init_17 (fun V4 H1 locs1 a4 b4 c4 hO zH oH hS => ?_)
  have zS : H1.size = Hz.size + 0 := zH.trans zS
  have oS : ∀ q : Nat, q < Hz.size → q ≠ a → H1[q]? = Hz[q]? := fun q h1 h2 => (oH q h2).trans (oS q h1 h2)
  generalize hHc17 : H1 = Hw at hO hS oS zS ⊢
  clear zH oH hHc17
  refine lv_aload_n hx hb dX18_init_20 rfl (lv_at hl 0 rfl) ?_
  refine lv_aload hx hb dX18_init_21 (lv_at hl 4 rfl) ?_
  refine wm_putFs (v := .ref u) hx hb hts in_X18 tyX18 tyX18_ok hown hK (ci := 15) rfl hO hS rfl 3 (by decide) q1109 (fun _ h => h) rfl hin rfl rfl rfl dX18_init_23 (fun V5 H1 locs1 a5 b5 c5 hO zH oH hS => ?_)
  have zS : H1.size = Hz.size + 0 := zH.trans zS
  have oS : ∀ q : Nat, q < Hz.size → q ≠ a → H1[q]? = Hz[q]? := fun q h1 h2 => (oH q h2).trans (oS q h1 h2)
  generalize hHc23 : H1 = Hw at hO hS oS zS ⊢
  clear zH oH hHc23
  refine wn_ret hx hb hr hlocks hS ?_ (Nat.le_of_ble_eq_true rfl) (Nat.le_of_ble_eq_true rfl) dX18_init_26
  refine ⟨V5, hO, ?_, zS, oS, ?_⟩
  · exact ⟨(b5 0 (by decide) (by decide)).trans ((b4 0 (by decide) (by decide)).trans ((b3 0 (by decide) (by decide)).trans (hP2.1))), (b5 1 (by decide) (by decide)).trans ((b4 1 (by decide) (by decide)).trans (a3)), (b5 2 (by decide) (by decide)).trans (a4), a5, (b5 4 (by decide) (by decide)).trans ((b4 4 (by decide) (by decide)).trans ((b3 4 (by decide) (by decide)).trans (wn_o (hP2.2.2 4 (by decide) rfl) (a1)))), fun j hj hk hn => (b5 j hj (wN_X18 3 (by decide) j hj (fun e => hk (by rw [e]; decide)) hn)).trans ((b4 j hj (wN_X18 2 (by decide) j hj (fun e => hk (by rw [e]; decide)) hn)).trans ((b3 j hj (wN_X18 1 (by decide) j hj (fun e => hk (by rw [e]; decide)) hn)).trans ((hP2.2.1 j hj (fun z => hk (wn_sub (by decide) z)) hn).trans (b1 j hj (wN_X18 4 (by decide) j hj (fun e => hn (by rw [e]; rfl)) hn))))), fun j hj hn => wn_tr (Or.inl (b5 j hj (by rw [hn]; decide))) (wn_tr (Or.inl (b4 j hj (by rw [hn]; decide))) (wn_tr (Or.inl (b3 j hj (by rw [hn]; decide))) (wn_tr (hP2.2.2 j hj hn) (c1 j))))⟩
  · exact fun j hj => absurd hj (Nat.not_lt_zero _)

set_option maxHeartbeats 4000000 in
theorem wn_Body_4 (lQ : Launch) (G : wm_G) (o a : Nat) (n : Int32) (V : Nat → Value) (Hz : Heap) (hO : wm_O G a 4 2 V Hz) : wn_Met lQ G yX6_init (ws_ yX6_init cX6_init 3 none) 1 0 0 Hz [Value.ref a, Value.ref o, Value.int n] (fun q => q = a) (wn_obj G a 4 2 Hz 0 (fun V' => V' 0 = .int n ∧ V' 1 = .ref o ∧ wP_fr TX6 2 o [0] V V')) := by
  refine wn_start (own := RX6) (by decide +kernel) (Nat.le_of_ble_eq_true rfl) rfl rfl (fun pQ eQ sQ mQ belowQ methQ cQ hx hb hml hr hlocks hts hin hown hK hN hHz hS ls hl => ?_)
  have hl : lv_has ls 3 [(0, .ref a), (1, .ref o), (2, .int n)] := hl
  have ha := hO.lt
  have zS : Hz.size = Hz.size + 0 := rfl
  have oS : ∀ q : Nat, q < Hz.size → q ≠ a → Hz[q]? = Hz[q]? := fun _ _ _ => rfl
  refine lv_aload_n hx hb dX6_init_0 rfl (lv_at hl 0 rfl) ?_
  refine lv_aload_n hx hb dX6_init_1 rfl (lv_at hl 1 rfl) ?_
  refine wm_putFs (v := .ref o) hx hb hts in_X6 tyX6 tyX6_ok hown hK (ci := 4) rfl hO hS rfl 1 (by decide) q488 (fun _ h => h) rfl hin rfl rfl rfl dX6_init_2 (fun V1 H1 locs1 a1 b1 c1 hO zH oH hS => ?_)
  have zS : H1.size = Hz.size + 0 := zH.trans zS
  have oS : ∀ q : Nat, q < Hz.size → q ≠ a → H1[q]? = Hz[q]? := fun q h1 h2 => (oH q h2).trans (oS q h1 h2)
  generalize hHc2 : H1 = Hw at hO hS oS zS ⊢
  clear zH oH hHc2
  refine lv_aload_n hx hb dX6_init_5 rfl (lv_at hl 0 rfl) ?_
  refine W.objInit hx hb hown (hts _ q485) (hts _ q120) (hts _ q121) rfl (by rw [hml]; exact hl.1) rfl dX6_init_6 (Nat.le_of_ble_eq_true rfl) (Nat.le_of_ble_eq_true rfl) ?_
  refine W.eq (g2 := F0 mQ 9 ls []) rfl ?_
  refine lv_aload_n hx hb dX6_init_9 rfl (lv_at hl 0 rfl) ?_
  refine lv_iload_n hx hb dX6_init_10 rfl (lv_at hl 2 rfl) ?_
  refine wm_putFs (v := .int n) hx hb hts in_X6 tyX6 tyX6_ok hown hK (ci := 4) rfl hO hS rfl 0 (by decide) q486 (fun _ h => h) rfl hin rfl rfl rfl dX6_init_11 (fun V2 H1 locs1 a2 b2 c2 hO zH oH hS => ?_)
  have zS : H1.size = Hz.size + 0 := zH.trans zS
  have oS : ∀ q : Nat, q < Hz.size → q ≠ a → H1[q]? = Hz[q]? := fun q h1 h2 => (oH q h2).trans (oS q h1 h2)
  generalize hHc11 : H1 = Hw at hO hS oS zS ⊢
  clear zH oH hHc11
  refine wn_ret hx hb hr hlocks hS ?_ (Nat.le_of_ble_eq_true rfl) (Nat.le_of_ble_eq_true rfl) dX6_init_14
  refine ⟨V2, hO, ?_, zS, oS, ?_⟩
  · exact ⟨a2, (b2 1 (by decide) (by decide)).trans (a1), fun j hj hk hn => (b2 j hj (wN_X6 0 (by decide) j hj (fun e => hk (by rw [e]; decide)) hn)).trans (b1 j hj (wN_X6 1 (by decide) j hj (fun e => hn (by rw [e]; rfl)) hn)), fun j hj hn => wn_tr (Or.inl (b2 j hj (by rw [hn]; decide))) (c1 j)⟩
  · exact fun j hj => absurd hj (Nat.not_lt_zero _)

set_option maxHeartbeats 4000000 in
theorem wn_Body_5 (lQ : Launch) (G : wm_G) (o a : Nat) (n : Int32) (V : Nat → Value) (Hz : Heap) (hO : wm_O G a 5 3 V Hz) : wn_Met lQ G yX6_init (ws_ yX6_init cX6_init 3 none) 1 0 0 Hz [Value.ref a, Value.ref o, Value.int n] (fun q => q = a) (wn_obj G a 5 3 Hz 0 (fun V' => V' 0 = .int n ∧ V' 1 = .ref o ∧ wP_fr TX7 3 o [0] V V')) := by
  refine wn_start (own := RX6) (by decide +kernel) (Nat.le_of_ble_eq_true rfl) rfl rfl (fun pQ eQ sQ mQ belowQ methQ cQ hx hb hml hr hlocks hts hin hown hK hN hHz hS ls hl => ?_)
  have hl : lv_has ls 3 [(0, .ref a), (1, .ref o), (2, .int n)] := hl
  have ha := hO.lt
  have zS : Hz.size = Hz.size + 0 := rfl
  have oS : ∀ q : Nat, q < Hz.size → q ≠ a → Hz[q]? = Hz[q]? := fun _ _ _ => rfl
  refine lv_aload_n hx hb dX6_init_0 rfl (lv_at hl 0 rfl) ?_
  refine lv_aload_n hx hb dX6_init_1 rfl (lv_at hl 1 rfl) ?_
  refine wm_putFs (v := .ref o) hx hb hts in_X7 tyX7 tyX7_ok hown hK (ci := 5) rfl hO hS rfl 1 (by decide) q488 (fun _ h => h) rfl hin rfl rfl rfl dX6_init_2 (fun V1 H1 locs1 a1 b1 c1 hO zH oH hS => ?_)
  have zS : H1.size = Hz.size + 0 := zH.trans zS
  have oS : ∀ q : Nat, q < Hz.size → q ≠ a → H1[q]? = Hz[q]? := fun q h1 h2 => (oH q h2).trans (oS q h1 h2)
  generalize hHc2 : H1 = Hw at hO hS oS zS ⊢
  clear zH oH hHc2
  refine lv_aload_n hx hb dX6_init_5 rfl (lv_at hl 0 rfl) ?_
  refine W.objInit hx hb hown (hts _ q485) (hts _ q120) (hts _ q121) rfl (by rw [hml]; exact hl.1) rfl dX6_init_6 (Nat.le_of_ble_eq_true rfl) (Nat.le_of_ble_eq_true rfl) ?_
  refine W.eq (g2 := F0 mQ 9 ls []) rfl ?_
  refine lv_aload_n hx hb dX6_init_9 rfl (lv_at hl 0 rfl) ?_
  refine lv_iload_n hx hb dX6_init_10 rfl (lv_at hl 2 rfl) ?_
  refine wm_putFs (v := .int n) hx hb hts in_X7 tyX7 tyX7_ok hown hK (ci := 5) rfl hO hS rfl 0 (by decide) q486 (fun _ h => h) rfl hin rfl rfl rfl dX6_init_11 (fun V2 H1 locs1 a2 b2 c2 hO zH oH hS => ?_)
  have zS : H1.size = Hz.size + 0 := zH.trans zS
  have oS : ∀ q : Nat, q < Hz.size → q ≠ a → H1[q]? = Hz[q]? := fun q h1 h2 => (oH q h2).trans (oS q h1 h2)
  generalize hHc11 : H1 = Hw at hO hS oS zS ⊢
  clear zH oH hHc11
  refine wn_ret hx hb hr hlocks hS ?_ (Nat.le_of_ble_eq_true rfl) (Nat.le_of_ble_eq_true rfl) dX6_init_14
  refine ⟨V2, hO, ?_, zS, oS, ?_⟩
  · exact ⟨a2, (b2 1 (by decide) (by decide)).trans (a1), fun j hj hk hn => (b2 j hj (wN_X7 0 (by decide) j hj (fun e => hk (by rw [e]; decide)) hn)).trans (b1 j hj (wN_X7 1 (by decide) j hj (fun e => hn (by rw [e]; rfl)) hn)), fun j hj hn => wn_tr (Or.inl (b2 j hj (by rw [hn]; decide))) (c1 j)⟩
  · exact fun j hj => absurd hj (Nat.not_lt_zero _)

set_option maxHeartbeats 4000000 in
theorem wn_Body_6 (lQ : Launch) (G : wm_G) (o a : Nat) (n : Int32) (V : Nat → Value) (Hz : Heap) (hO : wm_O G a 6 15 V Hz) : wn_Met lQ G yX6_init (ws_ yX6_init cX6_init 3 none) 1 0 0 Hz [Value.ref a, Value.ref o, Value.int n] (fun q => q = a) (wn_obj G a 6 15 Hz 0 (fun V' => V' 0 = .int n ∧ V' 1 = .ref o ∧ wP_fr TX8 15 o [0] V V')) := by
  refine wn_start (own := RX6) (by decide +kernel) (Nat.le_of_ble_eq_true rfl) rfl rfl (fun pQ eQ sQ mQ belowQ methQ cQ hx hb hml hr hlocks hts hin hown hK hN hHz hS ls hl => ?_)
  have hl : lv_has ls 3 [(0, .ref a), (1, .ref o), (2, .int n)] := hl
  have ha := hO.lt
  have zS : Hz.size = Hz.size + 0 := rfl
  have oS : ∀ q : Nat, q < Hz.size → q ≠ a → Hz[q]? = Hz[q]? := fun _ _ _ => rfl
  refine lv_aload_n hx hb dX6_init_0 rfl (lv_at hl 0 rfl) ?_
  refine lv_aload_n hx hb dX6_init_1 rfl (lv_at hl 1 rfl) ?_
  refine wm_putFs (v := .ref o) hx hb hts in_X8 tyX8 tyX8_ok hown hK (ci := 6) rfl hO hS rfl 1 (by decide) q488 (fun _ h => h) rfl hin rfl rfl rfl dX6_init_2 (fun V1 H1 locs1 a1 b1 c1 hO zH oH hS => ?_)
  have zS : H1.size = Hz.size + 0 := zH.trans zS
  have oS : ∀ q : Nat, q < Hz.size → q ≠ a → H1[q]? = Hz[q]? := fun q h1 h2 => (oH q h2).trans (oS q h1 h2)
  generalize hHc2 : H1 = Hw at hO hS oS zS ⊢
  clear zH oH hHc2
  refine lv_aload_n hx hb dX6_init_5 rfl (lv_at hl 0 rfl) ?_
  refine W.objInit hx hb hown (hts _ q485) (hts _ q120) (hts _ q121) rfl (by rw [hml]; exact hl.1) rfl dX6_init_6 (Nat.le_of_ble_eq_true rfl) (Nat.le_of_ble_eq_true rfl) ?_
  refine W.eq (g2 := F0 mQ 9 ls []) rfl ?_
  refine lv_aload_n hx hb dX6_init_9 rfl (lv_at hl 0 rfl) ?_
  refine lv_iload_n hx hb dX6_init_10 rfl (lv_at hl 2 rfl) ?_
  refine wm_putFs (v := .int n) hx hb hts in_X8 tyX8 tyX8_ok hown hK (ci := 6) rfl hO hS rfl 0 (by decide) q486 (fun _ h => h) rfl hin rfl rfl rfl dX6_init_11 (fun V2 H1 locs1 a2 b2 c2 hO zH oH hS => ?_)
  have zS : H1.size = Hz.size + 0 := zH.trans zS
  have oS : ∀ q : Nat, q < Hz.size → q ≠ a → H1[q]? = Hz[q]? := fun q h1 h2 => (oH q h2).trans (oS q h1 h2)
  generalize hHc11 : H1 = Hw at hO hS oS zS ⊢
  clear zH oH hHc11
  refine wn_ret hx hb hr hlocks hS ?_ (Nat.le_of_ble_eq_true rfl) (Nat.le_of_ble_eq_true rfl) dX6_init_14
  refine ⟨V2, hO, ?_, zS, oS, ?_⟩
  · exact ⟨a2, (b2 1 (by decide) (by decide)).trans (a1), fun j hj hk hn => (b2 j hj (wN_X8 0 (by decide) j hj (fun e => hk (by rw [e]; decide)) hn)).trans (b1 j hj (wN_X8 1 (by decide) j hj (fun e => hn (by rw [e]; rfl)) hn)), fun j hj hn => wn_tr (Or.inl (b2 j hj (by rw [hn]; decide))) (c1 j)⟩
  · exact fun j hj => absurd hj (Nat.not_lt_zero _)

set_option maxHeartbeats 4000000 in
theorem wn_Body_7 (lQ : Launch) (G : wm_G) (o a : Nat) (n : Int32) (V : Nat → Value) (Hz : Heap) (hO : wm_O G a 7 17 V Hz) : wn_Met lQ G yX6_init (ws_ yX6_init cX6_init 3 none) 1 0 0 Hz [Value.ref a, Value.ref o, Value.int n] (fun q => q = a) (wn_obj G a 7 17 Hz 0 (fun V' => V' 0 = .int n ∧ V' 1 = .ref o ∧ wP_fr TX9 17 o [0] V V')) := by
  refine wn_start (own := RX6) (by decide +kernel) (Nat.le_of_ble_eq_true rfl) rfl rfl (fun pQ eQ sQ mQ belowQ methQ cQ hx hb hml hr hlocks hts hin hown hK hN hHz hS ls hl => ?_)
  have hl : lv_has ls 3 [(0, .ref a), (1, .ref o), (2, .int n)] := hl
  have ha := hO.lt
  have zS : Hz.size = Hz.size + 0 := rfl
  have oS : ∀ q : Nat, q < Hz.size → q ≠ a → Hz[q]? = Hz[q]? := fun _ _ _ => rfl
  refine lv_aload_n hx hb dX6_init_0 rfl (lv_at hl 0 rfl) ?_
  refine lv_aload_n hx hb dX6_init_1 rfl (lv_at hl 1 rfl) ?_
  refine wm_putFs (v := .ref o) hx hb hts in_X9 tyX9 tyX9_ok hown hK (ci := 7) rfl hO hS rfl 1 (by decide) q488 (fun _ h => h) rfl hin rfl rfl rfl dX6_init_2 (fun V1 H1 locs1 a1 b1 c1 hO zH oH hS => ?_)
  have zS : H1.size = Hz.size + 0 := zH.trans zS
  have oS : ∀ q : Nat, q < Hz.size → q ≠ a → H1[q]? = Hz[q]? := fun q h1 h2 => (oH q h2).trans (oS q h1 h2)
  generalize hHc2 : H1 = Hw at hO hS oS zS ⊢
  clear zH oH hHc2
  refine lv_aload_n hx hb dX6_init_5 rfl (lv_at hl 0 rfl) ?_
  refine W.objInit hx hb hown (hts _ q485) (hts _ q120) (hts _ q121) rfl (by rw [hml]; exact hl.1) rfl dX6_init_6 (Nat.le_of_ble_eq_true rfl) (Nat.le_of_ble_eq_true rfl) ?_
  refine W.eq (g2 := F0 mQ 9 ls []) rfl ?_
  refine lv_aload_n hx hb dX6_init_9 rfl (lv_at hl 0 rfl) ?_
  refine lv_iload_n hx hb dX6_init_10 rfl (lv_at hl 2 rfl) ?_
  refine wm_putFs (v := .int n) hx hb hts in_X9 tyX9 tyX9_ok hown hK (ci := 7) rfl hO hS rfl 0 (by decide) q486 (fun _ h => h) rfl hin rfl rfl rfl dX6_init_11 (fun V2 H1 locs1 a2 b2 c2 hO zH oH hS => ?_)
  have zS : H1.size = Hz.size + 0 := zH.trans zS
  have oS : ∀ q : Nat, q < Hz.size → q ≠ a → H1[q]? = Hz[q]? := fun q h1 h2 => (oH q h2).trans (oS q h1 h2)
  generalize hHc11 : H1 = Hw at hO hS oS zS ⊢
  clear zH oH hHc11
  refine wn_ret hx hb hr hlocks hS ?_ (Nat.le_of_ble_eq_true rfl) (Nat.le_of_ble_eq_true rfl) dX6_init_14
  refine ⟨V2, hO, ?_, zS, oS, ?_⟩
  · exact ⟨a2, (b2 1 (by decide) (by decide)).trans (a1), fun j hj hk hn => (b2 j hj (wN_X9 0 (by decide) j hj (fun e => hk (by rw [e]; decide)) hn)).trans (b1 j hj (wN_X9 1 (by decide) j hj (fun e => hn (by rw [e]; rfl)) hn)), fun j hj hn => wn_tr (Or.inl (b2 j hj (by rw [hn]; decide))) (c1 j)⟩
  · exact fun j hj => absurd hj (Nat.not_lt_zero _)

set_option maxHeartbeats 4000000 in
theorem wn_Body_8 (lQ : Launch) (G : wm_G) (o a : Nat) (n : Int32) (V : Nat → Value) (Hz : Heap) (hO : wm_O G a 8 16 V Hz) : wn_Met lQ G yX6_init (ws_ yX6_init cX6_init 3 none) 1 0 0 Hz [Value.ref a, Value.ref o, Value.int n] (fun q => q = a) (wn_obj G a 8 16 Hz 0 (fun V' => V' 0 = .int n ∧ V' 1 = .ref o ∧ wP_fr TX10 16 o [0] V V')) := by
  refine wn_start (own := RX6) (by decide +kernel) (Nat.le_of_ble_eq_true rfl) rfl rfl (fun pQ eQ sQ mQ belowQ methQ cQ hx hb hml hr hlocks hts hin hown hK hN hHz hS ls hl => ?_)
  have hl : lv_has ls 3 [(0, .ref a), (1, .ref o), (2, .int n)] := hl
  have ha := hO.lt
  have zS : Hz.size = Hz.size + 0 := rfl
  have oS : ∀ q : Nat, q < Hz.size → q ≠ a → Hz[q]? = Hz[q]? := fun _ _ _ => rfl
  refine lv_aload_n hx hb dX6_init_0 rfl (lv_at hl 0 rfl) ?_
  refine lv_aload_n hx hb dX6_init_1 rfl (lv_at hl 1 rfl) ?_
  refine wm_putFs (v := .ref o) hx hb hts in_X10 tyX10 tyX10_ok hown hK (ci := 8) rfl hO hS rfl 1 (by decide) q488 (fun _ h => h) rfl hin rfl rfl rfl dX6_init_2 (fun V1 H1 locs1 a1 b1 c1 hO zH oH hS => ?_)
  have zS : H1.size = Hz.size + 0 := zH.trans zS
  have oS : ∀ q : Nat, q < Hz.size → q ≠ a → H1[q]? = Hz[q]? := fun q h1 h2 => (oH q h2).trans (oS q h1 h2)
  generalize hHc2 : H1 = Hw at hO hS oS zS ⊢
  clear zH oH hHc2
  refine lv_aload_n hx hb dX6_init_5 rfl (lv_at hl 0 rfl) ?_
  refine W.objInit hx hb hown (hts _ q485) (hts _ q120) (hts _ q121) rfl (by rw [hml]; exact hl.1) rfl dX6_init_6 (Nat.le_of_ble_eq_true rfl) (Nat.le_of_ble_eq_true rfl) ?_
  refine W.eq (g2 := F0 mQ 9 ls []) rfl ?_
  refine lv_aload_n hx hb dX6_init_9 rfl (lv_at hl 0 rfl) ?_
  refine lv_iload_n hx hb dX6_init_10 rfl (lv_at hl 2 rfl) ?_
  refine wm_putFs (v := .int n) hx hb hts in_X10 tyX10 tyX10_ok hown hK (ci := 8) rfl hO hS rfl 0 (by decide) q486 (fun _ h => h) rfl hin rfl rfl rfl dX6_init_11 (fun V2 H1 locs1 a2 b2 c2 hO zH oH hS => ?_)
  have zS : H1.size = Hz.size + 0 := zH.trans zS
  have oS : ∀ q : Nat, q < Hz.size → q ≠ a → H1[q]? = Hz[q]? := fun q h1 h2 => (oH q h2).trans (oS q h1 h2)
  generalize hHc11 : H1 = Hw at hO hS oS zS ⊢
  clear zH oH hHc11
  refine wn_ret hx hb hr hlocks hS ?_ (Nat.le_of_ble_eq_true rfl) (Nat.le_of_ble_eq_true rfl) dX6_init_14
  refine ⟨V2, hO, ?_, zS, oS, ?_⟩
  · exact ⟨a2, (b2 1 (by decide) (by decide)).trans (a1), fun j hj hk hn => (b2 j hj (wN_X10 0 (by decide) j hj (fun e => hk (by rw [e]; decide)) hn)).trans (b1 j hj (wN_X10 1 (by decide) j hj (fun e => hn (by rw [e]; rfl)) hn)), fun j hj hn => wn_tr (Or.inl (b2 j hj (by rw [hn]; decide))) (c1 j)⟩
  · exact fun j hj => absurd hj (Nat.not_lt_zero _)

set_option maxHeartbeats 4000000 in
theorem wn_Body_9 (lQ : Launch) (G : wm_G) (o a : Nat) (n : Int32) (V : Nat → Value) (Hz : Heap) (hO : wm_O G a 9 17 V Hz) : wn_Met lQ G yX6_init (ws_ yX6_init cX6_init 3 none) 1 0 0 Hz [Value.ref a, Value.ref o, Value.int n] (fun q => q = a) (wn_obj G a 9 17 Hz 0 (fun V' => V' 0 = .int n ∧ V' 1 = .ref o ∧ wP_fr TX11 17 o [0] V V')) := by
  refine wn_start (own := RX6) (by decide +kernel) (Nat.le_of_ble_eq_true rfl) rfl rfl (fun pQ eQ sQ mQ belowQ methQ cQ hx hb hml hr hlocks hts hin hown hK hN hHz hS ls hl => ?_)
  have hl : lv_has ls 3 [(0, .ref a), (1, .ref o), (2, .int n)] := hl
  have ha := hO.lt
  have zS : Hz.size = Hz.size + 0 := rfl
  have oS : ∀ q : Nat, q < Hz.size → q ≠ a → Hz[q]? = Hz[q]? := fun _ _ _ => rfl
  refine lv_aload_n hx hb dX6_init_0 rfl (lv_at hl 0 rfl) ?_
  refine lv_aload_n hx hb dX6_init_1 rfl (lv_at hl 1 rfl) ?_
  refine wm_putFs (v := .ref o) hx hb hts in_X11 tyX11 tyX11_ok hown hK (ci := 9) rfl hO hS rfl 1 (by decide) q488 (fun _ h => h) rfl hin rfl rfl rfl dX6_init_2 (fun V1 H1 locs1 a1 b1 c1 hO zH oH hS => ?_)
  have zS : H1.size = Hz.size + 0 := zH.trans zS
  have oS : ∀ q : Nat, q < Hz.size → q ≠ a → H1[q]? = Hz[q]? := fun q h1 h2 => (oH q h2).trans (oS q h1 h2)
  generalize hHc2 : H1 = Hw at hO hS oS zS ⊢
  clear zH oH hHc2
  refine lv_aload_n hx hb dX6_init_5 rfl (lv_at hl 0 rfl) ?_
  refine W.objInit hx hb hown (hts _ q485) (hts _ q120) (hts _ q121) rfl (by rw [hml]; exact hl.1) rfl dX6_init_6 (Nat.le_of_ble_eq_true rfl) (Nat.le_of_ble_eq_true rfl) ?_
  refine W.eq (g2 := F0 mQ 9 ls []) rfl ?_
  refine lv_aload_n hx hb dX6_init_9 rfl (lv_at hl 0 rfl) ?_
  refine lv_iload_n hx hb dX6_init_10 rfl (lv_at hl 2 rfl) ?_
  refine wm_putFs (v := .int n) hx hb hts in_X11 tyX11 tyX11_ok hown hK (ci := 9) rfl hO hS rfl 0 (by decide) q486 (fun _ h => h) rfl hin rfl rfl rfl dX6_init_11 (fun V2 H1 locs1 a2 b2 c2 hO zH oH hS => ?_)
  have zS : H1.size = Hz.size + 0 := zH.trans zS
  have oS : ∀ q : Nat, q < Hz.size → q ≠ a → H1[q]? = Hz[q]? := fun q h1 h2 => (oH q h2).trans (oS q h1 h2)
  generalize hHc11 : H1 = Hw at hO hS oS zS ⊢
  clear zH oH hHc11
  refine wn_ret hx hb hr hlocks hS ?_ (Nat.le_of_ble_eq_true rfl) (Nat.le_of_ble_eq_true rfl) dX6_init_14
  refine ⟨V2, hO, ?_, zS, oS, ?_⟩
  · exact ⟨a2, (b2 1 (by decide) (by decide)).trans (a1), fun j hj hk hn => (b2 j hj (wN_X11 0 (by decide) j hj (fun e => hk (by rw [e]; decide)) hn)).trans (b1 j hj (wN_X11 1 (by decide) j hj (fun e => hn (by rw [e]; rfl)) hn)), fun j hj hn => wn_tr (Or.inl (b2 j hj (by rw [hn]; decide))) (c1 j)⟩
  · exact fun j hj => absurd hj (Nat.not_lt_zero _)

set_option maxHeartbeats 4000000 in
theorem wn_Body_10 (lQ : Launch) (G : wm_G) (o a : Nat) (n : Int32) (V : Nat → Value) (Hz : Heap) (hO : wm_O G a 10 8 V Hz) : wn_Met lQ G yX6_init (ws_ yX6_init cX6_init 3 none) 1 0 0 Hz [Value.ref a, Value.ref o, Value.int n] (fun q => q = a) (wn_obj G a 10 8 Hz 0 (fun V' => V' 0 = .int n ∧ V' 1 = .ref o ∧ wP_fr TX12 8 o [0] V V')) := by
  refine wn_start (own := RX6) (by decide +kernel) (Nat.le_of_ble_eq_true rfl) rfl rfl (fun pQ eQ sQ mQ belowQ methQ cQ hx hb hml hr hlocks hts hin hown hK hN hHz hS ls hl => ?_)
  have hl : lv_has ls 3 [(0, .ref a), (1, .ref o), (2, .int n)] := hl
  have ha := hO.lt
  have zS : Hz.size = Hz.size + 0 := rfl
  have oS : ∀ q : Nat, q < Hz.size → q ≠ a → Hz[q]? = Hz[q]? := fun _ _ _ => rfl
  refine lv_aload_n hx hb dX6_init_0 rfl (lv_at hl 0 rfl) ?_
  refine lv_aload_n hx hb dX6_init_1 rfl (lv_at hl 1 rfl) ?_
  refine wm_putFs (v := .ref o) hx hb hts in_X12 tyX12 tyX12_ok hown hK (ci := 10) rfl hO hS rfl 1 (by decide) q488 (fun _ h => h) rfl hin rfl rfl rfl dX6_init_2 (fun V1 H1 locs1 a1 b1 c1 hO zH oH hS => ?_)
  have zS : H1.size = Hz.size + 0 := zH.trans zS
  have oS : ∀ q : Nat, q < Hz.size → q ≠ a → H1[q]? = Hz[q]? := fun q h1 h2 => (oH q h2).trans (oS q h1 h2)
  generalize hHc2 : H1 = Hw at hO hS oS zS ⊢
  clear zH oH hHc2
  refine lv_aload_n hx hb dX6_init_5 rfl (lv_at hl 0 rfl) ?_
  refine W.objInit hx hb hown (hts _ q485) (hts _ q120) (hts _ q121) rfl (by rw [hml]; exact hl.1) rfl dX6_init_6 (Nat.le_of_ble_eq_true rfl) (Nat.le_of_ble_eq_true rfl) ?_
  refine W.eq (g2 := F0 mQ 9 ls []) rfl ?_
  refine lv_aload_n hx hb dX6_init_9 rfl (lv_at hl 0 rfl) ?_
  refine lv_iload_n hx hb dX6_init_10 rfl (lv_at hl 2 rfl) ?_
  refine wm_putFs (v := .int n) hx hb hts in_X12 tyX12 tyX12_ok hown hK (ci := 10) rfl hO hS rfl 0 (by decide) q486 (fun _ h => h) rfl hin rfl rfl rfl dX6_init_11 (fun V2 H1 locs1 a2 b2 c2 hO zH oH hS => ?_)
  have zS : H1.size = Hz.size + 0 := zH.trans zS
  have oS : ∀ q : Nat, q < Hz.size → q ≠ a → H1[q]? = Hz[q]? := fun q h1 h2 => (oH q h2).trans (oS q h1 h2)
  generalize hHc11 : H1 = Hw at hO hS oS zS ⊢
  clear zH oH hHc11
  refine wn_ret hx hb hr hlocks hS ?_ (Nat.le_of_ble_eq_true rfl) (Nat.le_of_ble_eq_true rfl) dX6_init_14
  refine ⟨V2, hO, ?_, zS, oS, ?_⟩
  · exact ⟨a2, (b2 1 (by decide) (by decide)).trans (a1), fun j hj hk hn => (b2 j hj (wN_X12 0 (by decide) j hj (fun e => hk (by rw [e]; decide)) hn)).trans (b1 j hj (wN_X12 1 (by decide) j hj (fun e => hn (by rw [e]; rfl)) hn)), fun j hj hn => wn_tr (Or.inl (b2 j hj (by rw [hn]; decide))) (c1 j)⟩
  · exact fun j hj => absurd hj (Nat.not_lt_zero _)

set_option maxHeartbeats 4000000 in
theorem wn_Body_11 (lQ : Launch) (G : wm_G) (o a : Nat) (n : Int32) (V : Nat → Value) (Hz : Heap) (hO : wm_O G a 11 7 V Hz) : wn_Met lQ G yX6_init (ws_ yX6_init cX6_init 3 none) 1 0 0 Hz [Value.ref a, Value.ref o, Value.int n] (fun q => q = a) (wn_obj G a 11 7 Hz 0 (fun V' => V' 0 = .int n ∧ V' 1 = .ref o ∧ wP_fr TX13 7 o [0] V V')) := by
  refine wn_start (own := RX6) (by decide +kernel) (Nat.le_of_ble_eq_true rfl) rfl rfl (fun pQ eQ sQ mQ belowQ methQ cQ hx hb hml hr hlocks hts hin hown hK hN hHz hS ls hl => ?_)
  have hl : lv_has ls 3 [(0, .ref a), (1, .ref o), (2, .int n)] := hl
  have ha := hO.lt
  have zS : Hz.size = Hz.size + 0 := rfl
  have oS : ∀ q : Nat, q < Hz.size → q ≠ a → Hz[q]? = Hz[q]? := fun _ _ _ => rfl
  refine lv_aload_n hx hb dX6_init_0 rfl (lv_at hl 0 rfl) ?_
  refine lv_aload_n hx hb dX6_init_1 rfl (lv_at hl 1 rfl) ?_
  refine wm_putFs (v := .ref o) hx hb hts in_X13 tyX13 tyX13_ok hown hK (ci := 11) rfl hO hS rfl 1 (by decide) q488 (fun _ h => h) rfl hin rfl rfl rfl dX6_init_2 (fun V1 H1 locs1 a1 b1 c1 hO zH oH hS => ?_)
  have zS : H1.size = Hz.size + 0 := zH.trans zS
  have oS : ∀ q : Nat, q < Hz.size → q ≠ a → H1[q]? = Hz[q]? := fun q h1 h2 => (oH q h2).trans (oS q h1 h2)
  generalize hHc2 : H1 = Hw at hO hS oS zS ⊢
  clear zH oH hHc2
  refine lv_aload_n hx hb dX6_init_5 rfl (lv_at hl 0 rfl) ?_
  refine W.objInit hx hb hown (hts _ q485) (hts _ q120) (hts _ q121) rfl (by rw [hml]; exact hl.1) rfl dX6_init_6 (Nat.le_of_ble_eq_true rfl) (Nat.le_of_ble_eq_true rfl) ?_
  refine W.eq (g2 := F0 mQ 9 ls []) rfl ?_
  refine lv_aload_n hx hb dX6_init_9 rfl (lv_at hl 0 rfl) ?_
  refine lv_iload_n hx hb dX6_init_10 rfl (lv_at hl 2 rfl) ?_
  refine wm_putFs (v := .int n) hx hb hts in_X13 tyX13 tyX13_ok hown hK (ci := 11) rfl hO hS rfl 0 (by decide) q486 (fun _ h => h) rfl hin rfl rfl rfl dX6_init_11 (fun V2 H1 locs1 a2 b2 c2 hO zH oH hS => ?_)
  have zS : H1.size = Hz.size + 0 := zH.trans zS
  have oS : ∀ q : Nat, q < Hz.size → q ≠ a → H1[q]? = Hz[q]? := fun q h1 h2 => (oH q h2).trans (oS q h1 h2)
  generalize hHc11 : H1 = Hw at hO hS oS zS ⊢
  clear zH oH hHc11
  refine wn_ret hx hb hr hlocks hS ?_ (Nat.le_of_ble_eq_true rfl) (Nat.le_of_ble_eq_true rfl) dX6_init_14
  refine ⟨V2, hO, ?_, zS, oS, ?_⟩
  · exact ⟨a2, (b2 1 (by decide) (by decide)).trans (a1), fun j hj hk hn => (b2 j hj (wN_X13 0 (by decide) j hj (fun e => hk (by rw [e]; decide)) hn)).trans (b1 j hj (wN_X13 1 (by decide) j hj (fun e => hn (by rw [e]; rfl)) hn)), fun j hj hn => wn_tr (Or.inl (b2 j hj (by rw [hn]; decide))) (c1 j)⟩
  · exact fun j hj => absurd hj (Nat.not_lt_zero _)

set_option maxHeartbeats 4000000 in
theorem wn_Way_5 (lQ : Launch) (G : wm_G) (o a : Nat) (n : Int32) (V : Nat → Value) (Hz : Heap) (hO : wm_O G a 5 3 V Hz) : wn_Met lQ G yX7_init (ws_ yX7_init cX7_init 3 none) 2 0 0 Hz [Value.ref a, Value.ref o, Value.int n] (fun q => q = a) (wn_obj G a 5 3 Hz 0 (fun V' => V' 0 = .int n ∧ V' 1 = .ref o ∧ V' 2 = .ref o ∧ wP_fr TX7 3 o [0] V V')) := by
  refine wn_start (own := RX7) (by decide +kernel) (Nat.le_of_ble_eq_true rfl) rfl rfl (fun pQ eQ sQ mQ belowQ methQ cQ hx hb hml hr hlocks hts hin hown hK hN hHz hS ls hl => ?_)
  have hl : lv_has ls 3 [(0, .ref a), (1, .ref o), (2, .int n)] := hl
  have ha := hO.lt
  have zS : Hz.size = Hz.size + 0 := rfl
  have oS : ∀ q : Nat, q < Hz.size → q ≠ a → Hz[q]? = Hz[q]? := fun _ _ _ => rfl
  refine lv_aload_n hx hb dX7_init_0 rfl (lv_at hl 0 rfl) ?_
  refine lv_aload_n hx hb dX7_init_1 rfl (lv_at hl 1 rfl) ?_
  refine wm_putFs (v := .ref o) hx hb hts in_X7 tyX7 tyX7_ok hown hK (ci := 5) rfl hO hS rfl 2 (by decide) q500 (fun _ h => h) rfl hin rfl rfl rfl dX7_init_2 (fun V1 H1 locs1 a1 b1 c1 hO zH oH hS => ?_)
  have zS : H1.size = Hz.size + 0 := zH.trans zS
  have oS : ∀ q : Nat, q < Hz.size → q ≠ a → H1[q]? = Hz[q]? := fun q h1 h2 => (oH q h2).trans (oS q h1 h2)
  generalize hHc2 : H1 = Hw at hO hS oS zS ⊢
  clear zH oH hHc2
  refine lv_aload_n hx hb dX7_init_5 rfl (lv_at hl 0 rfl) ?_
  refine lv_aload_n hx hb dX7_init_6 rfl (lv_at hl 1 rfl) ?_
  refine lv_iload_n hx hb dX7_init_7 rfl (lv_at hl 2 rfl) ?_
  refine wn_callI (As := [.ref o, .int n]) (rest := []) (n := 2) ⟨hx, hb, hml, hown, hts⟩ hK hN (wn_Body_5 lQ G o a n V1 _ hO) q484 q93 q499 q483 rfl (by decide +kernel) rfl ⟨Nat.le_of_ble_eq_true rfl, Nat.le_of_ble_eq_true rfl⟩ hl.1 rfl (by decide) dX7_init_8 ⟨Nat.le_of_ble_eq_true rfl, Nat.le_of_ble_eq_true rfl⟩ hS (fun q h => h) (fun H1 locs1 hp _ hS => ?_)
  obtain ⟨V2, hO, hP2, zH, oH, hAr⟩ := hp
  have zS0 := zS
  have zS : H1.size = Hz.size + 0 := by rw [zH, zS]
  have oS : ∀ q : Nat, q < Hz.size → q ≠ a → H1[q]? = Hz[q]? := fun q h1 h2 => (oH q (by rw [zS0]; omega) h2).trans (oS q h1 h2)
  clear zS0 zH oH hAr
  generalize hHc8 : H1 = Hw at hO hS oS zS ⊢
  clear hHc8
  refine wn_ret hx hb hr hlocks hS ?_ (Nat.le_of_ble_eq_true rfl) (Nat.le_of_ble_eq_true rfl) dX7_init_11
  refine ⟨V2, hO, ?_, zS, oS, ?_⟩
  · exact ⟨hP2.1, hP2.2.1, wn_o (hP2.2.2.2 2 (by decide) rfl) (a1), fun j hj hk hn => (hP2.2.2.1 j hj (fun z => hk (wn_sub (by decide) z)) hn).trans (b1 j hj (wN_X7 2 (by decide) j hj (fun e => hn (by rw [e]; rfl)) hn)), fun j hj hn => wn_tr (hP2.2.2.2 j hj hn) (c1 j)⟩
  · exact fun j hj => absurd hj (Nat.not_lt_zero _)

set_option maxHeartbeats 4000000 in
theorem wn_Way_6 (lQ : Launch) (G : wm_G) (o a : Nat) (n : Int32) (V : Nat → Value) (Hz : Heap) (hO : wm_O G a 6 15 V Hz) : wn_Met lQ G yX7_init (ws_ yX7_init cX7_init 3 none) 2 0 0 Hz [Value.ref a, Value.ref o, Value.int n] (fun q => q = a) (wn_obj G a 6 15 Hz 0 (fun V' => V' 0 = .int n ∧ V' 1 = .ref o ∧ V' 2 = .ref o ∧ wP_fr TX8 15 o [0] V V')) := by
  refine wn_start (own := RX7) (by decide +kernel) (Nat.le_of_ble_eq_true rfl) rfl rfl (fun pQ eQ sQ mQ belowQ methQ cQ hx hb hml hr hlocks hts hin hown hK hN hHz hS ls hl => ?_)
  have hl : lv_has ls 3 [(0, .ref a), (1, .ref o), (2, .int n)] := hl
  have ha := hO.lt
  have zS : Hz.size = Hz.size + 0 := rfl
  have oS : ∀ q : Nat, q < Hz.size → q ≠ a → Hz[q]? = Hz[q]? := fun _ _ _ => rfl
  refine lv_aload_n hx hb dX7_init_0 rfl (lv_at hl 0 rfl) ?_
  refine lv_aload_n hx hb dX7_init_1 rfl (lv_at hl 1 rfl) ?_
  refine wm_putFs (v := .ref o) hx hb hts in_X8 tyX8 tyX8_ok hown hK (ci := 6) rfl hO hS rfl 2 (by decide) q500 (fun _ h => h) rfl hin rfl rfl rfl dX7_init_2 (fun V1 H1 locs1 a1 b1 c1 hO zH oH hS => ?_)
  have zS : H1.size = Hz.size + 0 := zH.trans zS
  have oS : ∀ q : Nat, q < Hz.size → q ≠ a → H1[q]? = Hz[q]? := fun q h1 h2 => (oH q h2).trans (oS q h1 h2)
  generalize hHc2 : H1 = Hw at hO hS oS zS ⊢
  clear zH oH hHc2
  refine lv_aload_n hx hb dX7_init_5 rfl (lv_at hl 0 rfl) ?_
  refine lv_aload_n hx hb dX7_init_6 rfl (lv_at hl 1 rfl) ?_
  refine lv_iload_n hx hb dX7_init_7 rfl (lv_at hl 2 rfl) ?_
  refine wn_callI (As := [.ref o, .int n]) (rest := []) (n := 2) ⟨hx, hb, hml, hown, hts⟩ hK hN (wn_Body_6 lQ G o a n V1 _ hO) q484 q93 q499 q483 rfl (by decide +kernel) rfl ⟨Nat.le_of_ble_eq_true rfl, Nat.le_of_ble_eq_true rfl⟩ hl.1 rfl (by decide) dX7_init_8 ⟨Nat.le_of_ble_eq_true rfl, Nat.le_of_ble_eq_true rfl⟩ hS (fun q h => h) (fun H1 locs1 hp _ hS => ?_)
  obtain ⟨V2, hO, hP2, zH, oH, hAr⟩ := hp
  have zS0 := zS
  have zS : H1.size = Hz.size + 0 := by rw [zH, zS]
  have oS : ∀ q : Nat, q < Hz.size → q ≠ a → H1[q]? = Hz[q]? := fun q h1 h2 => (oH q (by rw [zS0]; omega) h2).trans (oS q h1 h2)
  clear zS0 zH oH hAr
  generalize hHc8 : H1 = Hw at hO hS oS zS ⊢
  clear hHc8
  refine wn_ret hx hb hr hlocks hS ?_ (Nat.le_of_ble_eq_true rfl) (Nat.le_of_ble_eq_true rfl) dX7_init_11
  refine ⟨V2, hO, ?_, zS, oS, ?_⟩
  · exact ⟨hP2.1, hP2.2.1, wn_o (hP2.2.2.2 2 (by decide) rfl) (a1), fun j hj hk hn => (hP2.2.2.1 j hj (fun z => hk (wn_sub (by decide) z)) hn).trans (b1 j hj (wN_X8 2 (by decide) j hj (fun e => hn (by rw [e]; rfl)) hn)), fun j hj hn => wn_tr (hP2.2.2.2 j hj hn) (c1 j)⟩
  · exact fun j hj => absurd hj (Nat.not_lt_zero _)

set_option maxHeartbeats 4000000 in
theorem wn_Way_7 (lQ : Launch) (G : wm_G) (o a : Nat) (n : Int32) (V : Nat → Value) (Hz : Heap) (hO : wm_O G a 7 17 V Hz) : wn_Met lQ G yX7_init (ws_ yX7_init cX7_init 3 none) 2 0 0 Hz [Value.ref a, Value.ref o, Value.int n] (fun q => q = a) (wn_obj G a 7 17 Hz 0 (fun V' => V' 0 = .int n ∧ V' 1 = .ref o ∧ V' 2 = .ref o ∧ wP_fr TX9 17 o [0] V V')) := by
  refine wn_start (own := RX7) (by decide +kernel) (Nat.le_of_ble_eq_true rfl) rfl rfl (fun pQ eQ sQ mQ belowQ methQ cQ hx hb hml hr hlocks hts hin hown hK hN hHz hS ls hl => ?_)
  have hl : lv_has ls 3 [(0, .ref a), (1, .ref o), (2, .int n)] := hl
  have ha := hO.lt
  have zS : Hz.size = Hz.size + 0 := rfl
  have oS : ∀ q : Nat, q < Hz.size → q ≠ a → Hz[q]? = Hz[q]? := fun _ _ _ => rfl
  refine lv_aload_n hx hb dX7_init_0 rfl (lv_at hl 0 rfl) ?_
  refine lv_aload_n hx hb dX7_init_1 rfl (lv_at hl 1 rfl) ?_
  refine wm_putFs (v := .ref o) hx hb hts in_X9 tyX9 tyX9_ok hown hK (ci := 7) rfl hO hS rfl 2 (by decide) q500 (fun _ h => h) rfl hin rfl rfl rfl dX7_init_2 (fun V1 H1 locs1 a1 b1 c1 hO zH oH hS => ?_)
  have zS : H1.size = Hz.size + 0 := zH.trans zS
  have oS : ∀ q : Nat, q < Hz.size → q ≠ a → H1[q]? = Hz[q]? := fun q h1 h2 => (oH q h2).trans (oS q h1 h2)
  generalize hHc2 : H1 = Hw at hO hS oS zS ⊢
  clear zH oH hHc2
  refine lv_aload_n hx hb dX7_init_5 rfl (lv_at hl 0 rfl) ?_
  refine lv_aload_n hx hb dX7_init_6 rfl (lv_at hl 1 rfl) ?_
  refine lv_iload_n hx hb dX7_init_7 rfl (lv_at hl 2 rfl) ?_
  refine wn_callI (As := [.ref o, .int n]) (rest := []) (n := 2) ⟨hx, hb, hml, hown, hts⟩ hK hN (wn_Body_7 lQ G o a n V1 _ hO) q484 q93 q499 q483 rfl (by decide +kernel) rfl ⟨Nat.le_of_ble_eq_true rfl, Nat.le_of_ble_eq_true rfl⟩ hl.1 rfl (by decide) dX7_init_8 ⟨Nat.le_of_ble_eq_true rfl, Nat.le_of_ble_eq_true rfl⟩ hS (fun q h => h) (fun H1 locs1 hp _ hS => ?_)
  obtain ⟨V2, hO, hP2, zH, oH, hAr⟩ := hp
  have zS0 := zS
  have zS : H1.size = Hz.size + 0 := by rw [zH, zS]
  have oS : ∀ q : Nat, q < Hz.size → q ≠ a → H1[q]? = Hz[q]? := fun q h1 h2 => (oH q (by rw [zS0]; omega) h2).trans (oS q h1 h2)
  clear zS0 zH oH hAr
  generalize hHc8 : H1 = Hw at hO hS oS zS ⊢
  clear hHc8
  refine wn_ret hx hb hr hlocks hS ?_ (Nat.le_of_ble_eq_true rfl) (Nat.le_of_ble_eq_true rfl) dX7_init_11
  refine ⟨V2, hO, ?_, zS, oS, ?_⟩
  · exact ⟨hP2.1, hP2.2.1, wn_o (hP2.2.2.2 2 (by decide) rfl) (a1), fun j hj hk hn => (hP2.2.2.1 j hj (fun z => hk (wn_sub (by decide) z)) hn).trans (b1 j hj (wN_X9 2 (by decide) j hj (fun e => hn (by rw [e]; rfl)) hn)), fun j hj hn => wn_tr (hP2.2.2.2 j hj hn) (c1 j)⟩
  · exact fun j hj => absurd hj (Nat.not_lt_zero _)

set_option maxHeartbeats 4000000 in
theorem wn_Way_8 (lQ : Launch) (G : wm_G) (o a : Nat) (n : Int32) (V : Nat → Value) (Hz : Heap) (hO : wm_O G a 8 16 V Hz) : wn_Met lQ G yX7_init (ws_ yX7_init cX7_init 3 none) 2 0 0 Hz [Value.ref a, Value.ref o, Value.int n] (fun q => q = a) (wn_obj G a 8 16 Hz 0 (fun V' => V' 0 = .int n ∧ V' 1 = .ref o ∧ V' 2 = .ref o ∧ wP_fr TX10 16 o [0] V V')) := by
  refine wn_start (own := RX7) (by decide +kernel) (Nat.le_of_ble_eq_true rfl) rfl rfl (fun pQ eQ sQ mQ belowQ methQ cQ hx hb hml hr hlocks hts hin hown hK hN hHz hS ls hl => ?_)
  have hl : lv_has ls 3 [(0, .ref a), (1, .ref o), (2, .int n)] := hl
  have ha := hO.lt
  have zS : Hz.size = Hz.size + 0 := rfl
  have oS : ∀ q : Nat, q < Hz.size → q ≠ a → Hz[q]? = Hz[q]? := fun _ _ _ => rfl
  refine lv_aload_n hx hb dX7_init_0 rfl (lv_at hl 0 rfl) ?_
  refine lv_aload_n hx hb dX7_init_1 rfl (lv_at hl 1 rfl) ?_
  refine wm_putFs (v := .ref o) hx hb hts in_X10 tyX10 tyX10_ok hown hK (ci := 8) rfl hO hS rfl 2 (by decide) q500 (fun _ h => h) rfl hin rfl rfl rfl dX7_init_2 (fun V1 H1 locs1 a1 b1 c1 hO zH oH hS => ?_)
  have zS : H1.size = Hz.size + 0 := zH.trans zS
  have oS : ∀ q : Nat, q < Hz.size → q ≠ a → H1[q]? = Hz[q]? := fun q h1 h2 => (oH q h2).trans (oS q h1 h2)
  generalize hHc2 : H1 = Hw at hO hS oS zS ⊢
  clear zH oH hHc2
  refine lv_aload_n hx hb dX7_init_5 rfl (lv_at hl 0 rfl) ?_
  refine lv_aload_n hx hb dX7_init_6 rfl (lv_at hl 1 rfl) ?_
  refine lv_iload_n hx hb dX7_init_7 rfl (lv_at hl 2 rfl) ?_
  refine wn_callI (As := [.ref o, .int n]) (rest := []) (n := 2) ⟨hx, hb, hml, hown, hts⟩ hK hN (wn_Body_8 lQ G o a n V1 _ hO) q484 q93 q499 q483 rfl (by decide +kernel) rfl ⟨Nat.le_of_ble_eq_true rfl, Nat.le_of_ble_eq_true rfl⟩ hl.1 rfl (by decide) dX7_init_8 ⟨Nat.le_of_ble_eq_true rfl, Nat.le_of_ble_eq_true rfl⟩ hS (fun q h => h) (fun H1 locs1 hp _ hS => ?_)
  obtain ⟨V2, hO, hP2, zH, oH, hAr⟩ := hp
  have zS0 := zS
  have zS : H1.size = Hz.size + 0 := by rw [zH, zS]
  have oS : ∀ q : Nat, q < Hz.size → q ≠ a → H1[q]? = Hz[q]? := fun q h1 h2 => (oH q (by rw [zS0]; omega) h2).trans (oS q h1 h2)
  clear zS0 zH oH hAr
  generalize hHc8 : H1 = Hw at hO hS oS zS ⊢
  clear hHc8
  refine wn_ret hx hb hr hlocks hS ?_ (Nat.le_of_ble_eq_true rfl) (Nat.le_of_ble_eq_true rfl) dX7_init_11
  refine ⟨V2, hO, ?_, zS, oS, ?_⟩
  · exact ⟨hP2.1, hP2.2.1, wn_o (hP2.2.2.2 2 (by decide) rfl) (a1), fun j hj hk hn => (hP2.2.2.1 j hj (fun z => hk (wn_sub (by decide) z)) hn).trans (b1 j hj (wN_X10 2 (by decide) j hj (fun e => hn (by rw [e]; rfl)) hn)), fun j hj hn => wn_tr (hP2.2.2.2 j hj hn) (c1 j)⟩
  · exact fun j hj => absurd hj (Nat.not_lt_zero _)

set_option maxHeartbeats 4000000 in
theorem wn_Way_9 (lQ : Launch) (G : wm_G) (o a : Nat) (n : Int32) (V : Nat → Value) (Hz : Heap) (hO : wm_O G a 9 17 V Hz) : wn_Met lQ G yX7_init (ws_ yX7_init cX7_init 3 none) 2 0 0 Hz [Value.ref a, Value.ref o, Value.int n] (fun q => q = a) (wn_obj G a 9 17 Hz 0 (fun V' => V' 0 = .int n ∧ V' 1 = .ref o ∧ V' 2 = .ref o ∧ wP_fr TX11 17 o [0] V V')) := by
  refine wn_start (own := RX7) (by decide +kernel) (Nat.le_of_ble_eq_true rfl) rfl rfl (fun pQ eQ sQ mQ belowQ methQ cQ hx hb hml hr hlocks hts hin hown hK hN hHz hS ls hl => ?_)
  have hl : lv_has ls 3 [(0, .ref a), (1, .ref o), (2, .int n)] := hl
  have ha := hO.lt
  have zS : Hz.size = Hz.size + 0 := rfl
  have oS : ∀ q : Nat, q < Hz.size → q ≠ a → Hz[q]? = Hz[q]? := fun _ _ _ => rfl
  refine lv_aload_n hx hb dX7_init_0 rfl (lv_at hl 0 rfl) ?_
  refine lv_aload_n hx hb dX7_init_1 rfl (lv_at hl 1 rfl) ?_
  refine wm_putFs (v := .ref o) hx hb hts in_X11 tyX11 tyX11_ok hown hK (ci := 9) rfl hO hS rfl 2 (by decide) q500 (fun _ h => h) rfl hin rfl rfl rfl dX7_init_2 (fun V1 H1 locs1 a1 b1 c1 hO zH oH hS => ?_)
  have zS : H1.size = Hz.size + 0 := zH.trans zS
  have oS : ∀ q : Nat, q < Hz.size → q ≠ a → H1[q]? = Hz[q]? := fun q h1 h2 => (oH q h2).trans (oS q h1 h2)
  generalize hHc2 : H1 = Hw at hO hS oS zS ⊢
  clear zH oH hHc2
  refine lv_aload_n hx hb dX7_init_5 rfl (lv_at hl 0 rfl) ?_
  refine lv_aload_n hx hb dX7_init_6 rfl (lv_at hl 1 rfl) ?_
  refine lv_iload_n hx hb dX7_init_7 rfl (lv_at hl 2 rfl) ?_
  refine wn_callI (As := [.ref o, .int n]) (rest := []) (n := 2) ⟨hx, hb, hml, hown, hts⟩ hK hN (wn_Body_9 lQ G o a n V1 _ hO) q484 q93 q499 q483 rfl (by decide +kernel) rfl ⟨Nat.le_of_ble_eq_true rfl, Nat.le_of_ble_eq_true rfl⟩ hl.1 rfl (by decide) dX7_init_8 ⟨Nat.le_of_ble_eq_true rfl, Nat.le_of_ble_eq_true rfl⟩ hS (fun q h => h) (fun H1 locs1 hp _ hS => ?_)
  obtain ⟨V2, hO, hP2, zH, oH, hAr⟩ := hp
  have zS0 := zS
  have zS : H1.size = Hz.size + 0 := by rw [zH, zS]
  have oS : ∀ q : Nat, q < Hz.size → q ≠ a → H1[q]? = Hz[q]? := fun q h1 h2 => (oH q (by rw [zS0]; omega) h2).trans (oS q h1 h2)
  clear zS0 zH oH hAr
  generalize hHc8 : H1 = Hw at hO hS oS zS ⊢
  clear hHc8
  refine wn_ret hx hb hr hlocks hS ?_ (Nat.le_of_ble_eq_true rfl) (Nat.le_of_ble_eq_true rfl) dX7_init_11
  refine ⟨V2, hO, ?_, zS, oS, ?_⟩
  · exact ⟨hP2.1, hP2.2.1, wn_o (hP2.2.2.2 2 (by decide) rfl) (a1), fun j hj hk hn => (hP2.2.2.1 j hj (fun z => hk (wn_sub (by decide) z)) hn).trans (b1 j hj (wN_X11 2 (by decide) j hj (fun e => hn (by rw [e]; rfl)) hn)), fun j hj hn => wn_tr (hP2.2.2.2 j hj hn) (c1 j)⟩
  · exact fun j hj => absurd hj (Nat.not_lt_zero _)

set_option maxHeartbeats 4000000 in
theorem wn_Way_10 (lQ : Launch) (G : wm_G) (o a : Nat) (n : Int32) (V : Nat → Value) (Hz : Heap) (hO : wm_O G a 10 8 V Hz) : wn_Met lQ G yX7_init (ws_ yX7_init cX7_init 3 none) 2 0 0 Hz [Value.ref a, Value.ref o, Value.int n] (fun q => q = a) (wn_obj G a 10 8 Hz 0 (fun V' => V' 0 = .int n ∧ V' 1 = .ref o ∧ V' 2 = .ref o ∧ wP_fr TX12 8 o [0] V V')) := by
  refine wn_start (own := RX7) (by decide +kernel) (Nat.le_of_ble_eq_true rfl) rfl rfl (fun pQ eQ sQ mQ belowQ methQ cQ hx hb hml hr hlocks hts hin hown hK hN hHz hS ls hl => ?_)
  have hl : lv_has ls 3 [(0, .ref a), (1, .ref o), (2, .int n)] := hl
  have ha := hO.lt
  have zS : Hz.size = Hz.size + 0 := rfl
  have oS : ∀ q : Nat, q < Hz.size → q ≠ a → Hz[q]? = Hz[q]? := fun _ _ _ => rfl
  refine lv_aload_n hx hb dX7_init_0 rfl (lv_at hl 0 rfl) ?_
  refine lv_aload_n hx hb dX7_init_1 rfl (lv_at hl 1 rfl) ?_
  refine wm_putFs (v := .ref o) hx hb hts in_X12 tyX12 tyX12_ok hown hK (ci := 10) rfl hO hS rfl 2 (by decide) q500 (fun _ h => h) rfl hin rfl rfl rfl dX7_init_2 (fun V1 H1 locs1 a1 b1 c1 hO zH oH hS => ?_)
  have zS : H1.size = Hz.size + 0 := zH.trans zS
  have oS : ∀ q : Nat, q < Hz.size → q ≠ a → H1[q]? = Hz[q]? := fun q h1 h2 => (oH q h2).trans (oS q h1 h2)
  generalize hHc2 : H1 = Hw at hO hS oS zS ⊢
  clear zH oH hHc2
  refine lv_aload_n hx hb dX7_init_5 rfl (lv_at hl 0 rfl) ?_
  refine lv_aload_n hx hb dX7_init_6 rfl (lv_at hl 1 rfl) ?_
  refine lv_iload_n hx hb dX7_init_7 rfl (lv_at hl 2 rfl) ?_
  refine wn_callI (As := [.ref o, .int n]) (rest := []) (n := 2) ⟨hx, hb, hml, hown, hts⟩ hK hN (wn_Body_10 lQ G o a n V1 _ hO) q484 q93 q499 q483 rfl (by decide +kernel) rfl ⟨Nat.le_of_ble_eq_true rfl, Nat.le_of_ble_eq_true rfl⟩ hl.1 rfl (by decide) dX7_init_8 ⟨Nat.le_of_ble_eq_true rfl, Nat.le_of_ble_eq_true rfl⟩ hS (fun q h => h) (fun H1 locs1 hp _ hS => ?_)
  obtain ⟨V2, hO, hP2, zH, oH, hAr⟩ := hp
  have zS0 := zS
  have zS : H1.size = Hz.size + 0 := by rw [zH, zS]
  have oS : ∀ q : Nat, q < Hz.size → q ≠ a → H1[q]? = Hz[q]? := fun q h1 h2 => (oH q (by rw [zS0]; omega) h2).trans (oS q h1 h2)
  clear zS0 zH oH hAr
  generalize hHc8 : H1 = Hw at hO hS oS zS ⊢
  clear hHc8
  refine wn_ret hx hb hr hlocks hS ?_ (Nat.le_of_ble_eq_true rfl) (Nat.le_of_ble_eq_true rfl) dX7_init_11
  refine ⟨V2, hO, ?_, zS, oS, ?_⟩
  · exact ⟨hP2.1, hP2.2.1, wn_o (hP2.2.2.2 2 (by decide) rfl) (a1), fun j hj hk hn => (hP2.2.2.1 j hj (fun z => hk (wn_sub (by decide) z)) hn).trans (b1 j hj (wN_X12 2 (by decide) j hj (fun e => hn (by rw [e]; rfl)) hn)), fun j hj hn => wn_tr (hP2.2.2.2 j hj hn) (c1 j)⟩
  · exact fun j hj => absurd hj (Nat.not_lt_zero _)
