set_option maxHeartbeats 4000000 in
theorem xc_begins (lQ : Launch) (G : wm_G) (o d0 : Nat) (X : mm_S) (E : mm_E) (D : xg) (b : Int32) (q : Nat) (hi : xa_in X b q) (t : Int32) (hr0 : xa_r 900 X) : xw_Met lQ G o d0 yX6_begins (ws_ yX6_begins cX6_begins 2 none) 0 X E D [Value.ref (xb_ D b), .int t] (none) (xa_beg X t) E := by
  refine xw_start (own := RX6) (by decide +kernel) (Nat.le_of_ble_eq_true rfl) rfl (fun pQ eQ sQ mQ belowQ methQ cQ hx hb hml hr hlocks hts hown hK hN H hW hS ls hl => ?_)
  have hl : lv_has ls 2 [(0, .ref (xb_ D b)), (1, .int t)] := hl
  generalize hlc : ([] : List Loc) = locs at hS ⊢
  have h70 := hr0.1
  refine lv_aload_n hx hb dX6_begins_0 rfl (lv_at hl 0 rfl) ?_
  refine xb_get hx hb hts hown hK hW hi.1 (k := 1) (xf_body _ (xq_lt hW hi.1) 1 (by decide)) q488 rfl (xb_vo (xf_body _ (xq_lt hW hi.1) 1 (by decide)) (by decide)) dX6_begins_1 ?_
  refine xx_getiN hx hb hts hown hK hW 7 rfl rfl (by decide) (by decide) (hN.nf q275) dX6_begins_4 ?_
  refine lv_bipush (v := 24) hx hb dX6_begins_7 (by decide) ?_
  refine lv_icmp_ge (tgt := 28) hx hb dX6_begins_9 (by decide) (fun c9 => ?_) (fun c9 => ?_)
  · have t9 : 24 ≤ ((fd_ X 7)).toInt := ww_le c9
    refine lv_aload_n hx hb dX6_begins_28 rfl (lv_at hl 0 rfl) ?_
    refine xb_get hx hb hts hown hK hW hi.1 (k := 1) (xf_body _ (xq_lt hW hi.1) 1 (by decide)) q488 rfl (xb_vo (xf_body _ (xq_lt hW hi.1) 1 (by decide)) (by decide)) dX6_begins_29 ?_
    refine lv_dup hx hb dX6_begins_32 rfl ?_
    refine xx_getiN hx hb hts hown hK hW 7 rfl rfl (by decide) (by decide) (hN.nf q275) dX6_begins_33 ?_
    refine lv_iconst (v := 1) hx hb dX6_begins_36 (by decide) ?_
    refine nv_iadd hx hb dX6_begins_37 (fun v37 e37 => ?_)
    refine xx_putiN hx hb hts hown hK hW hS 7 rfl rfl (by decide) (by decide) (by decide) rfl rfl rfl (hN.nf q275) dX6_begins_38 (fun X38 H locs f38 hW hS => ?_)
    have hi : xa_in X38 b q := by rw [f38]; exact xa_fw hi (by decide) (by decide)
    refine xw_vret hx hb hr hlocks hW hS ?_ dX6_begins_41
    have hres : xa_beg X t = X38 := by subst e37 f38; simp only [xa_beg, if_pos c9]
    exact ⟨hres.symm, rfl⟩
  · have t9 : ((fd_ X 7)).toInt < 24 := ww_nle c9
    refine lv_aload_n hx hb dX6_begins_12 rfl (lv_at hl 0 rfl) ?_
    refine xb_get hx hb hts hown hK hW hi.1 (k := 1) (xf_body _ (xq_lt hW hi.1) 1 (by decide)) q488 rfl (xb_vo (xf_body _ (xq_lt hW hi.1) 1 (by decide)) (by decide)) dX6_begins_13 ?_
    refine xx_getaN hx hb hts hown hK hW 6 rfl (hN.nf q274) dX6_begins_16 ?_
    refine lv_aload_n hx hb dX6_begins_19 rfl (lv_at hl 0 rfl) ?_
    refine xb_get hx hb hts hown hK hW hi.1 (k := 1) (xf_body _ (xq_lt hW hi.1) 1 (by decide)) q488 rfl (xb_vo (xf_body _ (xq_lt hW hi.1) 1 (by decide)) (by decide)) dX6_begins_20 ?_
    refine xx_getiN hx hb hts hown hK hW 7 rfl rfl (by decide) (by decide) (hN.nf q275) dX6_begins_23 ?_
    refine lv_iload_n hx hb dX6_begins_26 rfl (lv_at hl 1 rfl) ?_
    refine xx_iast hx hb hK hW hS 6 rfl (ww_in (by omega) (by omega)) dX6_begins_27 (fun X27 H locs f27 hW hS => ?_)
    have hi : xa_in X27 b q := by rw [f27]; exact xa_wr hi (by decide) (by decide)
    refine lv_aload_n hx hb dX6_begins_28 rfl (lv_at hl 0 rfl) ?_
    refine xb_get hx hb hts hown hK hW hi.1 (k := 1) (xf_body _ (xq_lt hW hi.1) 1 (by decide)) q488 rfl (xb_vo (xf_body _ (xq_lt hW hi.1) 1 (by decide)) (by decide)) dX6_begins_29 ?_
    refine lv_dup hx hb dX6_begins_32 rfl ?_
    refine xx_getiN hx hb hts hown hK hW 7 rfl rfl (by decide) (by decide) (hN.nf q275) dX6_begins_33 ?_
    refine lv_iconst (v := 1) hx hb dX6_begins_36 (by decide) ?_
    refine nv_iadd hx hb dX6_begins_37 (fun v37 e37 => ?_)
    refine xx_putiN hx hb hts hown hK hW hS 7 rfl rfl (by decide) (by decide) (by decide) rfl rfl rfl (hN.nf q275) dX6_begins_38 (fun X38 H locs f38 hW hS => ?_)
    have hi : xa_in X38 b q := by rw [f38]; exact xa_fw hi (by decide) (by decide)
    refine xw_vret hx hb hr hlocks hW hS ?_ dX6_begins_41
    have hres : xa_beg X t = X38 := by subst f27 e37 f38; simp only [xa_beg, if_neg c9]
    exact ⟨hres.symm, rfl⟩

set_option maxHeartbeats 4000000 in
theorem xc_number (lQ : Launch) (G : wm_G) (o d0 : Nat) (X : mm_S) (E : mm_E) (D : xg) (b : Int32) (q : Nat) (hi : xa_in X b q) : xw_Met lQ G o d0 yX6_number (ws_ yX6_number cX6_number 1 (some .int)) 0 X E D [Value.ref (xb_ D b)] (some (.int (b))) X E := by
  refine xw_start (own := RX6) (by decide +kernel) (Nat.le_of_ble_eq_true rfl) rfl (fun pQ eQ sQ mQ belowQ methQ cQ hx hb hml hr hlocks hts hown hK hN H hW hS ls hl => ?_)
  have hl : lv_has ls 1 [(0, .ref (xb_ D b))] := hl
  generalize hlc : ([] : List Loc) = locs at hS ⊢
  refine lv_aload_n hx hb dX6_number_0 rfl (lv_at hl 0 rfl) ?_
  refine xb_get hx hb hts hown hK hW hi.1 (k := 0) (xf_body _ (xq_lt hW hi.1) 0 (by decide)) q486 rfl (xb_vn hi.1.1) dX6_number_1 ?_
  refine xw_iret hx hb hr hlocks hW hS ?_ dX6_number_4
  have hres : b = b := by rfl
  exact ⟨by rw [hres], rfl, rfl⟩

section XD10
variable {p : Program} {l : Launch} {e : Env} {R : Room} {s : State} {m : MethodId} {args : Array Value} {below : List Frame} {meth : Method} {c : Code} {H : Heap} {locs : List Loc} {cells slots : Nat} {Q : State → Prop}
variable {cc : ByteArray} {pc : Nat} {ls : Array Slot} {rest st0 : List Value} {G : wm_G} {o d0 : Nat} {H0 : Heap} {X : mm_S} {E : mm_E} {D : xg} {nL : Nat}
set_option maxHeartbeats 4000000 in
theorem xd_begins_X6 (l : Launch) (F : CallFix p m c cc nL s args lw_all RX6) (hK : wm_K G s) (hN : xn_T s) (hW : xx_W G o d0 X E D H) {b : Int32} {q : Nat} (hi : xa_in X b q) (hk : q < 8) (t : Int32) (hr0 : xa_r 900 X) (hR : 1 ≤ R.frames ∧ 21 ≤ R.locals) (hsz : ls.size = nL) (hst : st0 = ([.int t] : List Value).reverse ++ .ref (xb_ D b) :: rest) (hrest : (rest.map fun v => v.category).sum ≤ 8) (hd : decode cc pc = .ok (.invokevirtual 26, 3)) (hroom : cells ≤ R.cells ∧ slots ≤ R.slots) : xw_Run p l e R s m args below meth c H locs cells slots (F0 m pc ls st0) rest G o d0 D (none) (xa_beg X t) E := by
  have hk : q = 0 ∨ q = 1 ∨ q = 2 ∨ q = 3 ∨ q = 4 ∨ q = 5 ∨ q = 6 ∨ q = 7 := by omega
  rcases hk with rfl | rfl | rfl | rfl | rfl | rfl | rfl | rfl
  · exact xw_rU (C := RX6) (owner := "ThirtyThreeBelow$Body") (x := ({ cls := "ThirtyThreeBelow$Body", name := "begins", desc := "(I)V" } : Jvm.MethodName)) (n := 1) F hK hN hW (xc_begins l G o d0 X E D b 0 hi t (hr0.le (by decide))) (lw_app (List.forall_mem_cons.mpr ⟨q1423, List.forall_mem_cons.mpr ⟨q2425, List.forall_mem_cons.mpr ⟨q2426, List.forall_mem_cons.mpr ⟨q1328, List.forall_mem_cons.mpr ⟨q93, fun _ h => absurd h List.not_mem_nil⟩⟩⟩⟩⟩) (lw_meth q1329)) rfl (xr_body hK hW hi.1 hi.2) (by decide +kernel) rfl ⟨Nat.le_trans (by decide) hR.1, Nat.le_trans (by decide) hR.2⟩ hsz hst hrest hd hroom
  · exact xw_rU (C := RX7) (owner := "ThirtyThreeBelow$Body") (x := ({ cls := "ThirtyThreeBelow$Body", name := "begins", desc := "(I)V" } : Jvm.MethodName)) (n := 1) F hK hN hW (xc_begins l G o d0 X E D b 1 hi t (hr0.le (by decide))) (lw_app (List.forall_mem_cons.mpr ⟨q1423, List.forall_mem_cons.mpr ⟨q2425, List.forall_mem_cons.mpr ⟨q2433, List.forall_mem_cons.mpr ⟨q1328, List.forall_mem_cons.mpr ⟨q93, fun _ h => absurd h List.not_mem_nil⟩⟩⟩⟩⟩) (lw_meth q1329)) rfl (xr_body hK hW hi.1 hi.2) (by decide +kernel) rfl ⟨Nat.le_trans (by decide) hR.1, Nat.le_trans (by decide) hR.2⟩ hsz hst hrest hd hroom
  · exact xw_rU (C := RX8) (owner := "ThirtyThreeBelow$Body") (x := ({ cls := "ThirtyThreeBelow$Body", name := "begins", desc := "(I)V" } : Jvm.MethodName)) (n := 1) F hK hN hW (xc_begins l G o d0 X E D b 2 hi t (hr0.le (by decide))) (lw_app (List.forall_mem_cons.mpr ⟨q1423, List.forall_mem_cons.mpr ⟨q2425, List.forall_mem_cons.mpr ⟨q2427, List.forall_mem_cons.mpr ⟨q1328, List.forall_mem_cons.mpr ⟨q93, fun _ h => absurd h List.not_mem_nil⟩⟩⟩⟩⟩) (lw_meth q1329)) rfl (xr_body hK hW hi.1 hi.2) (by decide +kernel) rfl ⟨Nat.le_trans (by decide) hR.1, Nat.le_trans (by decide) hR.2⟩ hsz hst hrest hd hroom
  · exact xw_rU (C := RX9) (owner := "ThirtyThreeBelow$Body") (x := ({ cls := "ThirtyThreeBelow$Body", name := "begins", desc := "(I)V" } : Jvm.MethodName)) (n := 1) F hK hN hW (xc_begins l G o d0 X E D b 3 hi t (hr0.le (by decide))) (lw_app (List.forall_mem_cons.mpr ⟨q1423, List.forall_mem_cons.mpr ⟨q2425, List.forall_mem_cons.mpr ⟨q2432, List.forall_mem_cons.mpr ⟨q1328, List.forall_mem_cons.mpr ⟨q93, fun _ h => absurd h List.not_mem_nil⟩⟩⟩⟩⟩) (lw_meth q1329)) rfl (xr_body hK hW hi.1 hi.2) (by decide +kernel) rfl ⟨Nat.le_trans (by decide) hR.1, Nat.le_trans (by decide) hR.2⟩ hsz hst hrest hd hroom
  · exact xw_rU (C := RX10) (owner := "ThirtyThreeBelow$Body") (x := ({ cls := "ThirtyThreeBelow$Body", name := "begins", desc := "(I)V" } : Jvm.MethodName)) (n := 1) F hK hN hW (xc_begins l G o d0 X E D b 4 hi t (hr0.le (by decide))) (lw_app (List.forall_mem_cons.mpr ⟨q1423, List.forall_mem_cons.mpr ⟨q2425, List.forall_mem_cons.mpr ⟨q2430, List.forall_mem_cons.mpr ⟨q1328, List.forall_mem_cons.mpr ⟨q93, fun _ h => absurd h List.not_mem_nil⟩⟩⟩⟩⟩) (lw_meth q1329)) rfl (xr_body hK hW hi.1 hi.2) (by decide +kernel) rfl ⟨Nat.le_trans (by decide) hR.1, Nat.le_trans (by decide) hR.2⟩ hsz hst hrest hd hroom
  · exact xw_rU (C := RX11) (owner := "ThirtyThreeBelow$Body") (x := ({ cls := "ThirtyThreeBelow$Body", name := "begins", desc := "(I)V" } : Jvm.MethodName)) (n := 1) F hK hN hW (xc_begins l G o d0 X E D b 5 hi t (hr0.le (by decide))) (lw_app (List.forall_mem_cons.mpr ⟨q1423, List.forall_mem_cons.mpr ⟨q2425, List.forall_mem_cons.mpr ⟨q2428, List.forall_mem_cons.mpr ⟨q1328, List.forall_mem_cons.mpr ⟨q93, fun _ h => absurd h List.not_mem_nil⟩⟩⟩⟩⟩) (lw_meth q1329)) rfl (xr_body hK hW hi.1 hi.2) (by decide +kernel) rfl ⟨Nat.le_trans (by decide) hR.1, Nat.le_trans (by decide) hR.2⟩ hsz hst hrest hd hroom
  · exact xw_rU (C := RX12) (owner := "ThirtyThreeBelow$Body") (x := ({ cls := "ThirtyThreeBelow$Body", name := "begins", desc := "(I)V" } : Jvm.MethodName)) (n := 1) F hK hN hW (xc_begins l G o d0 X E D b 6 hi t (hr0.le (by decide))) (lw_app (List.forall_mem_cons.mpr ⟨q1423, List.forall_mem_cons.mpr ⟨q2425, List.forall_mem_cons.mpr ⟨q2431, List.forall_mem_cons.mpr ⟨q1328, List.forall_mem_cons.mpr ⟨q93, fun _ h => absurd h List.not_mem_nil⟩⟩⟩⟩⟩) (lw_meth q1329)) rfl (xr_body hK hW hi.1 hi.2) (by decide +kernel) rfl ⟨Nat.le_trans (by decide) hR.1, Nat.le_trans (by decide) hR.2⟩ hsz hst hrest hd hroom
  · exact xw_rU (C := RX13) (owner := "ThirtyThreeBelow$Body") (x := ({ cls := "ThirtyThreeBelow$Body", name := "begins", desc := "(I)V" } : Jvm.MethodName)) (n := 1) F hK hN hW (xc_begins l G o d0 X E D b 7 hi t (hr0.le (by decide))) (lw_app (List.forall_mem_cons.mpr ⟨q1423, List.forall_mem_cons.mpr ⟨q2425, List.forall_mem_cons.mpr ⟨q2429, List.forall_mem_cons.mpr ⟨q1328, List.forall_mem_cons.mpr ⟨q93, fun _ h => absurd h List.not_mem_nil⟩⟩⟩⟩⟩) (lw_meth q1329)) rfl (xr_body hK hW hi.1 hi.2) (by decide +kernel) rfl ⟨Nat.le_trans (by decide) hR.1, Nat.le_trans (by decide) hR.2⟩ hsz hst hrest hd hroom

set_option maxHeartbeats 4000000 in
theorem xd_begins_X7 (l : Launch) (F : CallFix p m c cc nL s args lw_all RX7) (hK : wm_K G s) (hN : xn_T s) (hW : xx_W G o d0 X E D H) {b : Int32} {q : Nat} (hi : xa_in X b q) (hk : q = 1 ∨ q = 2 ∨ q = 3 ∨ q = 4 ∨ q = 5 ∨ q = 6) (t : Int32) (hr0 : xa_r 900 X) (hR : 1 ≤ R.frames ∧ 21 ≤ R.locals) (hsz : ls.size = nL) (hst : st0 = ([.int t] : List Value).reverse ++ .ref (xb_ D b) :: rest) (hrest : (rest.map fun v => v.category).sum ≤ 8) (hd : decode cc pc = .ok (.invokevirtual 17, 3)) (hroom : cells ≤ R.cells ∧ slots ≤ R.slots) : xw_Run p l e R s m args below meth c H locs cells slots (F0 m pc ls st0) rest G o d0 D (none) (xa_beg X t) E := by
  rcases hk with rfl | rfl | rfl | rfl | rfl | rfl
  · exact xw_rU (C := RX7) (owner := "ThirtyThreeBelow$Body") (x := ({ cls := "ThirtyThreeBelow$Way", name := "begins", desc := "(I)V" } : Jvm.MethodName)) (n := 1) F hK hN hW (xc_begins l G o d0 X E D b 1 hi t (hr0.le (by decide))) (lw_app (List.forall_mem_cons.mpr ⟨q1319, List.forall_mem_cons.mpr ⟨q1320, List.forall_mem_cons.mpr ⟨q1327, List.forall_mem_cons.mpr ⟨q1328, List.forall_mem_cons.mpr ⟨q93, fun _ h => absurd h List.not_mem_nil⟩⟩⟩⟩⟩) (lw_meth q1329)) rfl (xr_body hK hW hi.1 hi.2) (by decide +kernel) rfl ⟨Nat.le_trans (by decide) hR.1, Nat.le_trans (by decide) hR.2⟩ hsz hst hrest hd hroom
  · exact xw_rU (C := RX8) (owner := "ThirtyThreeBelow$Body") (x := ({ cls := "ThirtyThreeBelow$Way", name := "begins", desc := "(I)V" } : Jvm.MethodName)) (n := 1) F hK hN hW (xc_begins l G o d0 X E D b 2 hi t (hr0.le (by decide))) (lw_app (List.forall_mem_cons.mpr ⟨q1319, List.forall_mem_cons.mpr ⟨q1320, List.forall_mem_cons.mpr ⟨q1322, List.forall_mem_cons.mpr ⟨q1328, List.forall_mem_cons.mpr ⟨q93, fun _ h => absurd h List.not_mem_nil⟩⟩⟩⟩⟩) (lw_meth q1329)) rfl (xr_body hK hW hi.1 hi.2) (by decide +kernel) rfl ⟨Nat.le_trans (by decide) hR.1, Nat.le_trans (by decide) hR.2⟩ hsz hst hrest hd hroom
  · exact xw_rU (C := RX9) (owner := "ThirtyThreeBelow$Body") (x := ({ cls := "ThirtyThreeBelow$Way", name := "begins", desc := "(I)V" } : Jvm.MethodName)) (n := 1) F hK hN hW (xc_begins l G o d0 X E D b 3 hi t (hr0.le (by decide))) (lw_app (List.forall_mem_cons.mpr ⟨q1319, List.forall_mem_cons.mpr ⟨q1320, List.forall_mem_cons.mpr ⟨q1326, List.forall_mem_cons.mpr ⟨q1328, List.forall_mem_cons.mpr ⟨q93, fun _ h => absurd h List.not_mem_nil⟩⟩⟩⟩⟩) (lw_meth q1329)) rfl (xr_body hK hW hi.1 hi.2) (by decide +kernel) rfl ⟨Nat.le_trans (by decide) hR.1, Nat.le_trans (by decide) hR.2⟩ hsz hst hrest hd hroom
  · exact xw_rU (C := RX10) (owner := "ThirtyThreeBelow$Body") (x := ({ cls := "ThirtyThreeBelow$Way", name := "begins", desc := "(I)V" } : Jvm.MethodName)) (n := 1) F hK hN hW (xc_begins l G o d0 X E D b 4 hi t (hr0.le (by decide))) (lw_app (List.forall_mem_cons.mpr ⟨q1319, List.forall_mem_cons.mpr ⟨q1320, List.forall_mem_cons.mpr ⟨q1324, List.forall_mem_cons.mpr ⟨q1328, List.forall_mem_cons.mpr ⟨q93, fun _ h => absurd h List.not_mem_nil⟩⟩⟩⟩⟩) (lw_meth q1329)) rfl (xr_body hK hW hi.1 hi.2) (by decide +kernel) rfl ⟨Nat.le_trans (by decide) hR.1, Nat.le_trans (by decide) hR.2⟩ hsz hst hrest hd hroom
  · exact xw_rU (C := RX11) (owner := "ThirtyThreeBelow$Body") (x := ({ cls := "ThirtyThreeBelow$Way", name := "begins", desc := "(I)V" } : Jvm.MethodName)) (n := 1) F hK hN hW (xc_begins l G o d0 X E D b 5 hi t (hr0.le (by decide))) (lw_app (List.forall_mem_cons.mpr ⟨q1319, List.forall_mem_cons.mpr ⟨q1320, List.forall_mem_cons.mpr ⟨q1323, List.forall_mem_cons.mpr ⟨q1328, List.forall_mem_cons.mpr ⟨q93, fun _ h => absurd h List.not_mem_nil⟩⟩⟩⟩⟩) (lw_meth q1329)) rfl (xr_body hK hW hi.1 hi.2) (by decide +kernel) rfl ⟨Nat.le_trans (by decide) hR.1, Nat.le_trans (by decide) hR.2⟩ hsz hst hrest hd hroom
  · exact xw_rU (C := RX12) (owner := "ThirtyThreeBelow$Body") (x := ({ cls := "ThirtyThreeBelow$Way", name := "begins", desc := "(I)V" } : Jvm.MethodName)) (n := 1) F hK hN hW (xc_begins l G o d0 X E D b 6 hi t (hr0.le (by decide))) (lw_app (List.forall_mem_cons.mpr ⟨q1319, List.forall_mem_cons.mpr ⟨q1320, List.forall_mem_cons.mpr ⟨q1325, List.forall_mem_cons.mpr ⟨q1328, List.forall_mem_cons.mpr ⟨q93, fun _ h => absurd h List.not_mem_nil⟩⟩⟩⟩⟩) (lw_meth q1329)) rfl (xr_body hK hW hi.1 hi.2) (by decide +kernel) rfl ⟨Nat.le_trans (by decide) hR.1, Nat.le_trans (by decide) hR.2⟩ hsz hst hrest hd hroom

set_option maxHeartbeats 4000000 in
theorem xd_begins_X8 (l : Launch) (F : CallFix p m c cc nL s args lw_all RX8) (hK : wm_K G s) (hN : xn_T s) (hW : xx_W G o d0 X E D H) {b : Int32} {q : Nat} (hi : xa_in X b q) (hk : q = 2 ∨ q = 3 ∨ q = 4 ∨ q = 5) (t : Int32) (hr0 : xa_r 900 X) (hR : 1 ≤ R.frames ∧ 21 ≤ R.locals) (hsz : ls.size = nL) (hst : st0 = ([.int t] : List Value).reverse ++ .ref (xb_ D b) :: rest) (hrest : (rest.map fun v => v.category).sum ≤ 8) (hd : decode cc pc = .ok (.invokevirtual 46, 3)) (hroom : cells ≤ R.cells ∧ slots ≤ R.slots) : xw_Run p l e R s m args below meth c H locs cells slots (F0 m pc ls st0) rest G o d0 D (none) (xa_beg X t) E := by
  rcases hk with rfl | rfl | rfl | rfl
  · exact xw_rU (C := RX8) (owner := "ThirtyThreeBelow$Body") (x := ({ cls := "ThirtyThreeBelow$Hole", name := "begins", desc := "(I)V" } : Jvm.MethodName)) (n := 1) F hK hN hW (xc_begins l G o d0 X E D b 2 hi t (hr0.le (by decide))) (lw_app (List.forall_mem_cons.mpr ⟨q1413, List.forall_mem_cons.mpr ⟨q1414, List.forall_mem_cons.mpr ⟨q1415, List.forall_mem_cons.mpr ⟨q1328, List.forall_mem_cons.mpr ⟨q93, fun _ h => absurd h List.not_mem_nil⟩⟩⟩⟩⟩) (lw_meth q1329)) rfl (xr_body hK hW hi.1 hi.2) (by decide +kernel) rfl ⟨Nat.le_trans (by decide) hR.1, Nat.le_trans (by decide) hR.2⟩ hsz hst hrest hd hroom
  · exact xw_rU (C := RX9) (owner := "ThirtyThreeBelow$Body") (x := ({ cls := "ThirtyThreeBelow$Hole", name := "begins", desc := "(I)V" } : Jvm.MethodName)) (n := 1) F hK hN hW (xc_begins l G o d0 X E D b 3 hi t (hr0.le (by decide))) (lw_app (List.forall_mem_cons.mpr ⟨q1413, List.forall_mem_cons.mpr ⟨q1414, List.forall_mem_cons.mpr ⟨q1418, List.forall_mem_cons.mpr ⟨q1328, List.forall_mem_cons.mpr ⟨q93, fun _ h => absurd h List.not_mem_nil⟩⟩⟩⟩⟩) (lw_meth q1329)) rfl (xr_body hK hW hi.1 hi.2) (by decide +kernel) rfl ⟨Nat.le_trans (by decide) hR.1, Nat.le_trans (by decide) hR.2⟩ hsz hst hrest hd hroom
  · exact xw_rU (C := RX10) (owner := "ThirtyThreeBelow$Body") (x := ({ cls := "ThirtyThreeBelow$Hole", name := "begins", desc := "(I)V" } : Jvm.MethodName)) (n := 1) F hK hN hW (xc_begins l G o d0 X E D b 4 hi t (hr0.le (by decide))) (lw_app (List.forall_mem_cons.mpr ⟨q1413, List.forall_mem_cons.mpr ⟨q1414, List.forall_mem_cons.mpr ⟨q1417, List.forall_mem_cons.mpr ⟨q1328, List.forall_mem_cons.mpr ⟨q93, fun _ h => absurd h List.not_mem_nil⟩⟩⟩⟩⟩) (lw_meth q1329)) rfl (xr_body hK hW hi.1 hi.2) (by decide +kernel) rfl ⟨Nat.le_trans (by decide) hR.1, Nat.le_trans (by decide) hR.2⟩ hsz hst hrest hd hroom
  · exact xw_rU (C := RX11) (owner := "ThirtyThreeBelow$Body") (x := ({ cls := "ThirtyThreeBelow$Hole", name := "begins", desc := "(I)V" } : Jvm.MethodName)) (n := 1) F hK hN hW (xc_begins l G o d0 X E D b 5 hi t (hr0.le (by decide))) (lw_app (List.forall_mem_cons.mpr ⟨q1413, List.forall_mem_cons.mpr ⟨q1414, List.forall_mem_cons.mpr ⟨q1416, List.forall_mem_cons.mpr ⟨q1328, List.forall_mem_cons.mpr ⟨q93, fun _ h => absurd h List.not_mem_nil⟩⟩⟩⟩⟩) (lw_meth q1329)) rfl (xr_body hK hW hi.1 hi.2) (by decide +kernel) rfl ⟨Nat.le_trans (by decide) hR.1, Nat.le_trans (by decide) hR.2⟩ hsz hst hrest hd hroom

set_option maxHeartbeats 4000000 in
theorem xd_begins_X9 (l : Launch) (F : CallFix p m c cc nL s args lw_all RX9) (hK : wm_K G s) (hN : xn_T s) (hW : xx_W G o d0 X E D H) {b : Int32} {q : Nat} (hi : xa_in X b q) (hk : q = 3) (t : Int32) (hr0 : xa_r 900 X) (hR : 1 ≤ R.frames ∧ 21 ≤ R.locals) (hsz : ls.size = nL) (hst : st0 = ([.int t] : List Value).reverse ++ .ref (xb_ D b) :: rest) (hrest : (rest.map fun v => v.category).sum ≤ 8) (hd : decode cc pc = .ok (.invokevirtual 17, 3)) (hroom : cells ≤ R.cells ∧ slots ≤ R.slots) : xw_Run p l e R s m args below meth c H locs cells slots (F0 m pc ls st0) rest G o d0 D (none) (xa_beg X t) E := by
  subst hk
  · exact xw_rU (C := RX9) (owner := "ThirtyThreeBelow$Body") (x := ({ cls := "ThirtyThreeBelow$Tube", name := "begins", desc := "(I)V" } : Jvm.MethodName)) (n := 1) F hK hN hW (xc_begins l G o d0 X E D b 3 hi t (hr0.le (by decide))) (lw_app (List.forall_mem_cons.mpr ⟨q1462, List.forall_mem_cons.mpr ⟨q1463, List.forall_mem_cons.mpr ⟨q1464, List.forall_mem_cons.mpr ⟨q1328, List.forall_mem_cons.mpr ⟨q93, fun _ h => absurd h List.not_mem_nil⟩⟩⟩⟩⟩) (lw_meth q1329)) rfl (xr_body hK hW hi.1 hi.2) (by decide +kernel) rfl ⟨Nat.le_trans (by decide) hR.1, Nat.le_trans (by decide) hR.2⟩ hsz hst hrest hd hroom

set_option maxHeartbeats 4000000 in
theorem xd_begins_X10 (l : Launch) (F : CallFix p m c cc nL s args lw_all RX10) (hK : wm_K G s) (hN : xn_T s) (hW : xx_W G o d0 X E D H) {b : Int32} {q : Nat} (hi : xa_in X b q) (hk : q = 4 ∨ q = 5) (t : Int32) (hr0 : xa_r 900 X) (hR : 1 ≤ R.frames ∧ 21 ≤ R.locals) (hsz : ls.size = nL) (hst : st0 = ([.int t] : List Value).reverse ++ .ref (xb_ D b) :: rest) (hrest : (rest.map fun v => v.category).sum ≤ 8) (hd : decode cc pc = .ok (.invokevirtual 17, 3)) (hroom : cells ≤ R.cells ∧ slots ≤ R.slots) : xw_Run p l e R s m args below meth c H locs cells slots (F0 m pc ls st0) rest G o d0 D (none) (xa_beg X t) E := by
  rcases hk with rfl | rfl
  · exact xw_rU (C := RX10) (owner := "ThirtyThreeBelow$Body") (x := ({ cls := "ThirtyThreeBelow$Shaft", name := "begins", desc := "(I)V" } : Jvm.MethodName)) (n := 1) F hK hN hW (xc_begins l G o d0 X E D b 4 hi t (hr0.le (by decide))) (lw_app (List.forall_mem_cons.mpr ⟨q1393, List.forall_mem_cons.mpr ⟨q1394, List.forall_mem_cons.mpr ⟨q1396, List.forall_mem_cons.mpr ⟨q1328, List.forall_mem_cons.mpr ⟨q93, fun _ h => absurd h List.not_mem_nil⟩⟩⟩⟩⟩) (lw_meth q1329)) rfl (xr_body hK hW hi.1 hi.2) (by decide +kernel) rfl ⟨Nat.le_trans (by decide) hR.1, Nat.le_trans (by decide) hR.2⟩ hsz hst hrest hd hroom
  · exact xw_rU (C := RX11) (owner := "ThirtyThreeBelow$Body") (x := ({ cls := "ThirtyThreeBelow$Shaft", name := "begins", desc := "(I)V" } : Jvm.MethodName)) (n := 1) F hK hN hW (xc_begins l G o d0 X E D b 5 hi t (hr0.le (by decide))) (lw_app (List.forall_mem_cons.mpr ⟨q1393, List.forall_mem_cons.mpr ⟨q1394, List.forall_mem_cons.mpr ⟨q1395, List.forall_mem_cons.mpr ⟨q1328, List.forall_mem_cons.mpr ⟨q93, fun _ h => absurd h List.not_mem_nil⟩⟩⟩⟩⟩) (lw_meth q1329)) rfl (xr_body hK hW hi.1 hi.2) (by decide +kernel) rfl ⟨Nat.le_trans (by decide) hR.1, Nat.le_trans (by decide) hR.2⟩ hsz hst hrest hd hroom

set_option maxHeartbeats 4000000 in
theorem xd_begins_X11 (l : Launch) (F : CallFix p m c cc nL s args lw_all RX11) (hK : wm_K G s) (hN : xn_T s) (hW : xx_W G o d0 X E D H) {b : Int32} {q : Nat} (hi : xa_in X b q) (hk : q = 5) (t : Int32) (hr0 : xa_r 900 X) (hR : 1 ≤ R.frames ∧ 21 ≤ R.locals) (hsz : ls.size = nL) (hst : st0 = ([.int t] : List Value).reverse ++ .ref (xb_ D b) :: rest) (hrest : (rest.map fun v => v.category).sum ≤ 8) (hd : decode cc pc = .ok (.invokevirtual 17, 3)) (hroom : cells ≤ R.cells ∧ slots ≤ R.slots) : xw_Run p l e R s m args below meth c H locs cells slots (F0 m pc ls st0) rest G o d0 D (none) (xa_beg X t) E := by
  subst hk
  · exact xw_rU (C := RX11) (owner := "ThirtyThreeBelow$Body") (x := ({ cls := "ThirtyThreeBelow$Liner", name := "begins", desc := "(I)V" } : Jvm.MethodName)) (n := 1) F hK hN hW (xc_begins l G o d0 X E D b 5 hi t (hr0.le (by decide))) (lw_app (List.forall_mem_cons.mpr ⟨q1387, List.forall_mem_cons.mpr ⟨q1388, List.forall_mem_cons.mpr ⟨q1389, List.forall_mem_cons.mpr ⟨q1328, List.forall_mem_cons.mpr ⟨q93, fun _ h => absurd h List.not_mem_nil⟩⟩⟩⟩⟩) (lw_meth q1329)) rfl (xr_body hK hW hi.1 hi.2) (by decide +kernel) rfl ⟨Nat.le_trans (by decide) hR.1, Nat.le_trans (by decide) hR.2⟩ hsz hst hrest hd hroom

set_option maxHeartbeats 4000000 in
theorem xd_begins_X12 (l : Launch) (F : CallFix p m c cc nL s args lw_all RX12) (hK : wm_K G s) (hN : xn_T s) (hW : xx_W G o d0 X E D H) {b : Int32} {q : Nat} (hi : xa_in X b q) (hk : q = 6) (t : Int32) (hr0 : xa_r 900 X) (hR : 1 ≤ R.frames ∧ 21 ≤ R.locals) (hsz : ls.size = nL) (hst : st0 = ([.int t] : List Value).reverse ++ .ref (xb_ D b) :: rest) (hrest : (rest.map fun v => v.category).sum ≤ 8) (hd : decode cc pc = .ok (.invokevirtual 27, 3)) (hroom : cells ≤ R.cells ∧ slots ≤ R.slots) : xw_Run p l e R s m args below meth c H locs cells slots (F0 m pc ls st0) rest G o d0 D (none) (xa_beg X t) E := by
  subst hk
  · exact xw_rU (C := RX12) (owner := "ThirtyThreeBelow$Body") (x := ({ cls := "ThirtyThreeBelow$Shelter", name := "begins", desc := "(I)V" } : Jvm.MethodName)) (n := 1) F hK hN hW (xc_begins l G o d0 X E D b 6 hi t (hr0.le (by decide))) (lw_app (List.forall_mem_cons.mpr ⟨q1453, List.forall_mem_cons.mpr ⟨q1454, List.forall_mem_cons.mpr ⟨q1455, List.forall_mem_cons.mpr ⟨q1328, List.forall_mem_cons.mpr ⟨q93, fun _ h => absurd h List.not_mem_nil⟩⟩⟩⟩⟩) (lw_meth q1329)) rfl (xr_body hK hW hi.1 hi.2) (by decide +kernel) rfl ⟨Nat.le_trans (by decide) hR.1, Nat.le_trans (by decide) hR.2⟩ hsz hst hrest hd hroom

set_option maxHeartbeats 4000000 in
theorem xd_begins_X13 (l : Launch) (F : CallFix p m c cc nL s args lw_all RX13) (hK : wm_K G s) (hN : xn_T s) (hW : xx_W G o d0 X E D H) {b : Int32} {q : Nat} (hi : xa_in X b q) (hk : q = 7) (t : Int32) (hr0 : xa_r 900 X) (hR : 1 ≤ R.frames ∧ 21 ≤ R.locals) (hsz : ls.size = nL) (hst : st0 = ([.int t] : List Value).reverse ++ .ref (xb_ D b) :: rest) (hrest : (rest.map fun v => v.category).sum ≤ 8) (hd : decode cc pc = .ok (.invokevirtual 27, 3)) (hroom : cells ≤ R.cells ∧ slots ≤ R.slots) : xw_Run p l e R s m args below meth c H locs cells slots (F0 m pc ls st0) rest G o d0 D (none) (xa_beg X t) E := by
  subst hk
  · exact xw_rU (C := RX13) (owner := "ThirtyThreeBelow$Body") (x := ({ cls := "ThirtyThreeBelow$Man", name := "begins", desc := "(I)V" } : Jvm.MethodName)) (n := 1) F hK hN hW (xc_begins l G o d0 X E D b 7 hi t (hr0.le (by decide))) (lw_app (List.forall_mem_cons.mpr ⟨q1428, List.forall_mem_cons.mpr ⟨q1429, List.forall_mem_cons.mpr ⟨q1430, List.forall_mem_cons.mpr ⟨q1328, List.forall_mem_cons.mpr ⟨q93, fun _ h => absurd h List.not_mem_nil⟩⟩⟩⟩⟩) (lw_meth q1329)) rfl (xr_body hK hW hi.1 hi.2) (by decide +kernel) rfl ⟨Nat.le_trans (by decide) hR.1, Nat.le_trans (by decide) hR.2⟩ hsz hst hrest hd hroom

set_option maxHeartbeats 4000000 in
theorem xd_begins_X19 (l : Launch) (F : CallFix p m c cc nL s args lw_all RX19) (hK : wm_K G s) (hN : xn_T s) (hW : xx_W G o d0 X E D H) {b : Int32} {q : Nat} (hi : xa_in X b q) (hk : q < 8) (t : Int32) (hr0 : xa_r 900 X) (hR : 1 ≤ R.frames ∧ 21 ≤ R.locals) (hsz : ls.size = nL) (hst : st0 = ([.int t] : List Value).reverse ++ .ref (xb_ D b) :: rest) (hrest : (rest.map fun v => v.category).sum ≤ 8) (hd : decode cc pc = .ok (.invokeinterface 1 2, 5)) (hroom : cells ≤ R.cells ∧ slots ≤ R.slots) : xw_Run5 p l e R s m args below meth c H locs cells slots (F0 m pc ls st0) rest G o d0 D (none) (xa_beg X t) E := by
  have hk : q = 0 ∨ q = 1 ∨ q = 2 ∨ q = 3 ∨ q = 4 ∨ q = 5 ∨ q = 6 ∨ q = 7 := by omega
  rcases hk with rfl | rfl | rfl | rfl | rfl | rfl | rfl | rfl
  · exact xw_rF (C := RX6) (x := ({ cls := "ThirtyThreeBelow$Bores", name := "begins", desc := "(I)V" } : Jvm.MethodName)) (n := 1) (hK.1 _ _ (xk_cl 0 (by decide))).2 F hK hN hW (xc_begins l G o d0 X E D b 0 hi t (hr0.le (by decide))) (lw_app (List.forall_mem_cons.mpr ⟨q1333, List.forall_mem_cons.mpr ⟨q1337, List.forall_mem_cons.mpr ⟨q1328, List.forall_mem_cons.mpr ⟨q93, fun _ h => absurd h List.not_mem_nil⟩⟩⟩⟩) (lw_meth q1329)) (hN.fw (C := RX6) (x := ({ cls := "ThirtyThreeBelow$Bores", name := "begins", desc := "(I)V" } : Jvm.MethodName)) (y := yX6_begins) ⟨by decide, by decide⟩ q1335 q1334 q1339 q1338 q1336) (xr_body hK hW hi.1 hi.2) (by decide +kernel) rfl ⟨Nat.le_trans (by decide) hR.1, Nat.le_trans (by decide) hR.2⟩ hsz hst hrest hd hroom
  · exact xw_rF (C := RX7) (x := ({ cls := "ThirtyThreeBelow$Bores", name := "begins", desc := "(I)V" } : Jvm.MethodName)) (n := 1) (hK.1 _ _ (xk_cl 1 (by decide))).2 F hK hN hW (xc_begins l G o d0 X E D b 1 hi t (hr0.le (by decide))) (lw_app (List.forall_mem_cons.mpr ⟨q1333, List.forall_mem_cons.mpr ⟨q1359, List.forall_mem_cons.mpr ⟨q1328, List.forall_mem_cons.mpr ⟨q93, fun _ h => absurd h List.not_mem_nil⟩⟩⟩⟩) (lw_meth q1329)) (hN.fw (C := RX7) (x := ({ cls := "ThirtyThreeBelow$Bores", name := "begins", desc := "(I)V" } : Jvm.MethodName)) (y := yX6_begins) ⟨by decide, by decide⟩ q1335 q1334 q1339 q1360 q1358) (xr_body hK hW hi.1 hi.2) (by decide +kernel) rfl ⟨Nat.le_trans (by decide) hR.1, Nat.le_trans (by decide) hR.2⟩ hsz hst hrest hd hroom
  · exact xw_rF (C := RX8) (x := ({ cls := "ThirtyThreeBelow$Bores", name := "begins", desc := "(I)V" } : Jvm.MethodName)) (n := 1) (hK.1 _ _ (xk_cl 2 (by decide))).2 F hK hN hW (xc_begins l G o d0 X E D b 2 hi t (hr0.le (by decide))) (lw_app (List.forall_mem_cons.mpr ⟨q1333, List.forall_mem_cons.mpr ⟨q1341, List.forall_mem_cons.mpr ⟨q1328, List.forall_mem_cons.mpr ⟨q93, fun _ h => absurd h List.not_mem_nil⟩⟩⟩⟩) (lw_meth q1329)) (hN.fw (C := RX8) (x := ({ cls := "ThirtyThreeBelow$Bores", name := "begins", desc := "(I)V" } : Jvm.MethodName)) (y := yX6_begins) ⟨by decide, by decide⟩ q1335 q1334 q1339 q1342 q1340) (xr_body hK hW hi.1 hi.2) (by decide +kernel) rfl ⟨Nat.le_trans (by decide) hR.1, Nat.le_trans (by decide) hR.2⟩ hsz hst hrest hd hroom
  · exact xw_rF (C := RX9) (x := ({ cls := "ThirtyThreeBelow$Bores", name := "begins", desc := "(I)V" } : Jvm.MethodName)) (n := 1) (hK.1 _ _ (xk_cl 3 (by decide))).2 F hK hN hW (xc_begins l G o d0 X E D b 3 hi t (hr0.le (by decide))) (lw_app (List.forall_mem_cons.mpr ⟨q1333, List.forall_mem_cons.mpr ⟨q1356, List.forall_mem_cons.mpr ⟨q1328, List.forall_mem_cons.mpr ⟨q93, fun _ h => absurd h List.not_mem_nil⟩⟩⟩⟩) (lw_meth q1329)) (hN.fw (C := RX9) (x := ({ cls := "ThirtyThreeBelow$Bores", name := "begins", desc := "(I)V" } : Jvm.MethodName)) (y := yX6_begins) ⟨by decide, by decide⟩ q1335 q1334 q1339 q1357 q1355) (xr_body hK hW hi.1 hi.2) (by decide +kernel) rfl ⟨Nat.le_trans (by decide) hR.1, Nat.le_trans (by decide) hR.2⟩ hsz hst hrest hd hroom
  · exact xw_rF (C := RX10) (x := ({ cls := "ThirtyThreeBelow$Bores", name := "begins", desc := "(I)V" } : Jvm.MethodName)) (n := 1) (hK.1 _ _ (xk_cl 4 (by decide))).2 F hK hN hW (xc_begins l G o d0 X E D b 4 hi t (hr0.le (by decide))) (lw_app (List.forall_mem_cons.mpr ⟨q1333, List.forall_mem_cons.mpr ⟨q1350, List.forall_mem_cons.mpr ⟨q1328, List.forall_mem_cons.mpr ⟨q93, fun _ h => absurd h List.not_mem_nil⟩⟩⟩⟩) (lw_meth q1329)) (hN.fw (C := RX10) (x := ({ cls := "ThirtyThreeBelow$Bores", name := "begins", desc := "(I)V" } : Jvm.MethodName)) (y := yX6_begins) ⟨by decide, by decide⟩ q1335 q1334 q1339 q1351 q1349) (xr_body hK hW hi.1 hi.2) (by decide +kernel) rfl ⟨Nat.le_trans (by decide) hR.1, Nat.le_trans (by decide) hR.2⟩ hsz hst hrest hd hroom
  · exact xw_rF (C := RX11) (x := ({ cls := "ThirtyThreeBelow$Bores", name := "begins", desc := "(I)V" } : Jvm.MethodName)) (n := 1) (hK.1 _ _ (xk_cl 5 (by decide))).2 F hK hN hW (xc_begins l G o d0 X E D b 5 hi t (hr0.le (by decide))) (lw_app (List.forall_mem_cons.mpr ⟨q1333, List.forall_mem_cons.mpr ⟨q1344, List.forall_mem_cons.mpr ⟨q1328, List.forall_mem_cons.mpr ⟨q93, fun _ h => absurd h List.not_mem_nil⟩⟩⟩⟩) (lw_meth q1329)) (hN.fw (C := RX11) (x := ({ cls := "ThirtyThreeBelow$Bores", name := "begins", desc := "(I)V" } : Jvm.MethodName)) (y := yX6_begins) ⟨by decide, by decide⟩ q1335 q1334 q1339 q1345 q1343) (xr_body hK hW hi.1 hi.2) (by decide +kernel) rfl ⟨Nat.le_trans (by decide) hR.1, Nat.le_trans (by decide) hR.2⟩ hsz hst hrest hd hroom
  · exact xw_rF (C := RX12) (x := ({ cls := "ThirtyThreeBelow$Bores", name := "begins", desc := "(I)V" } : Jvm.MethodName)) (n := 1) (hK.1 _ _ (xk_cl 6 (by decide))).2 F hK hN hW (xc_begins l G o d0 X E D b 6 hi t (hr0.le (by decide))) (lw_app (List.forall_mem_cons.mpr ⟨q1333, List.forall_mem_cons.mpr ⟨q1353, List.forall_mem_cons.mpr ⟨q1328, List.forall_mem_cons.mpr ⟨q93, fun _ h => absurd h List.not_mem_nil⟩⟩⟩⟩) (lw_meth q1329)) (hN.fw (C := RX12) (x := ({ cls := "ThirtyThreeBelow$Bores", name := "begins", desc := "(I)V" } : Jvm.MethodName)) (y := yX6_begins) ⟨by decide, by decide⟩ q1335 q1334 q1339 q1354 q1352) (xr_body hK hW hi.1 hi.2) (by decide +kernel) rfl ⟨Nat.le_trans (by decide) hR.1, Nat.le_trans (by decide) hR.2⟩ hsz hst hrest hd hroom
  · exact xw_rF (C := RX13) (x := ({ cls := "ThirtyThreeBelow$Bores", name := "begins", desc := "(I)V" } : Jvm.MethodName)) (n := 1) (hK.1 _ _ (xk_cl 7 (by decide))).2 F hK hN hW (xc_begins l G o d0 X E D b 7 hi t (hr0.le (by decide))) (lw_app (List.forall_mem_cons.mpr ⟨q1333, List.forall_mem_cons.mpr ⟨q1347, List.forall_mem_cons.mpr ⟨q1328, List.forall_mem_cons.mpr ⟨q93, fun _ h => absurd h List.not_mem_nil⟩⟩⟩⟩) (lw_meth q1329)) (hN.fw (C := RX13) (x := ({ cls := "ThirtyThreeBelow$Bores", name := "begins", desc := "(I)V" } : Jvm.MethodName)) (y := yX6_begins) ⟨by decide, by decide⟩ q1335 q1334 q1339 q1348 q1346) (xr_body hK hW hi.1 hi.2) (by decide +kernel) rfl ⟨Nat.le_trans (by decide) hR.1, Nat.le_trans (by decide) hR.2⟩ hsz hst hrest hd hroom

set_option maxHeartbeats 4000000 in
theorem xd_begins_X20 (l : Launch) (F : CallFix p m c cc nL s args lw_all RX20) (hK : wm_K G s) (hN : xn_T s) (hW : xx_W G o d0 X E D H) {b : Int32} {q : Nat} (hi : xa_in X b q) (hk : q < 8) (t : Int32) (hr0 : xa_r 900 X) (hR : 1 ≤ R.frames ∧ 21 ≤ R.locals) (hsz : ls.size = nL) (hst : st0 = ([.int t] : List Value).reverse ++ .ref (xb_ D b) :: rest) (hrest : (rest.map fun v => v.category).sum ≤ 8) (hd : decode cc pc = .ok (.invokeinterface 1 2, 5)) (hroom : cells ≤ R.cells ∧ slots ≤ R.slots) : xw_Run5 p l e R s m args below meth c H locs cells slots (F0 m pc ls st0) rest G o d0 D (none) (xa_beg X t) E := by
  have hk : q = 0 ∨ q = 1 ∨ q = 2 ∨ q = 3 ∨ q = 4 ∨ q = 5 ∨ q = 6 ∨ q = 7 := by omega
  rcases hk with rfl | rfl | rfl | rfl | rfl | rfl | rfl | rfl
  · exact xw_rF (C := RX6) (x := ({ cls := "ThirtyThreeBelow$Tells", name := "begins", desc := "(I)V" } : Jvm.MethodName)) (n := 1) (hK.1 _ _ (xk_cl 0 (by decide))).2 F hK hN hW (xc_begins l G o d0 X E D b 0 hi t (hr0.le (by decide))) (lw_app (List.forall_mem_cons.mpr ⟨q1481, List.forall_mem_cons.mpr ⟨q1485, List.forall_mem_cons.mpr ⟨q1328, List.forall_mem_cons.mpr ⟨q93, fun _ h => absurd h List.not_mem_nil⟩⟩⟩⟩) (lw_meth q1329)) (hN.fw (C := RX6) (x := ({ cls := "ThirtyThreeBelow$Tells", name := "begins", desc := "(I)V" } : Jvm.MethodName)) (y := yX6_begins) ⟨by decide, by decide⟩ q1483 q1482 q1339 q1338 q1484) (xr_body hK hW hi.1 hi.2) (by decide +kernel) rfl ⟨Nat.le_trans (by decide) hR.1, Nat.le_trans (by decide) hR.2⟩ hsz hst hrest hd hroom
  · exact xw_rF (C := RX7) (x := ({ cls := "ThirtyThreeBelow$Tells", name := "begins", desc := "(I)V" } : Jvm.MethodName)) (n := 1) (hK.1 _ _ (xk_cl 1 (by decide))).2 F hK hN hW (xc_begins l G o d0 X E D b 1 hi t (hr0.le (by decide))) (lw_app (List.forall_mem_cons.mpr ⟨q1481, List.forall_mem_cons.mpr ⟨q1499, List.forall_mem_cons.mpr ⟨q1328, List.forall_mem_cons.mpr ⟨q93, fun _ h => absurd h List.not_mem_nil⟩⟩⟩⟩) (lw_meth q1329)) (hN.fw (C := RX7) (x := ({ cls := "ThirtyThreeBelow$Tells", name := "begins", desc := "(I)V" } : Jvm.MethodName)) (y := yX6_begins) ⟨by decide, by decide⟩ q1483 q1482 q1339 q1360 q1498) (xr_body hK hW hi.1 hi.2) (by decide +kernel) rfl ⟨Nat.le_trans (by decide) hR.1, Nat.le_trans (by decide) hR.2⟩ hsz hst hrest hd hroom
  · exact xw_rF (C := RX8) (x := ({ cls := "ThirtyThreeBelow$Tells", name := "begins", desc := "(I)V" } : Jvm.MethodName)) (n := 1) (hK.1 _ _ (xk_cl 2 (by decide))).2 F hK hN hW (xc_begins l G o d0 X E D b 2 hi t (hr0.le (by decide))) (lw_app (List.forall_mem_cons.mpr ⟨q1481, List.forall_mem_cons.mpr ⟨q1487, List.forall_mem_cons.mpr ⟨q1328, List.forall_mem_cons.mpr ⟨q93, fun _ h => absurd h List.not_mem_nil⟩⟩⟩⟩) (lw_meth q1329)) (hN.fw (C := RX8) (x := ({ cls := "ThirtyThreeBelow$Tells", name := "begins", desc := "(I)V" } : Jvm.MethodName)) (y := yX6_begins) ⟨by decide, by decide⟩ q1483 q1482 q1339 q1342 q1486) (xr_body hK hW hi.1 hi.2) (by decide +kernel) rfl ⟨Nat.le_trans (by decide) hR.1, Nat.le_trans (by decide) hR.2⟩ hsz hst hrest hd hroom
  · exact xw_rF (C := RX9) (x := ({ cls := "ThirtyThreeBelow$Tells", name := "begins", desc := "(I)V" } : Jvm.MethodName)) (n := 1) (hK.1 _ _ (xk_cl 3 (by decide))).2 F hK hN hW (xc_begins l G o d0 X E D b 3 hi t (hr0.le (by decide))) (lw_app (List.forall_mem_cons.mpr ⟨q1481, List.forall_mem_cons.mpr ⟨q1497, List.forall_mem_cons.mpr ⟨q1328, List.forall_mem_cons.mpr ⟨q93, fun _ h => absurd h List.not_mem_nil⟩⟩⟩⟩) (lw_meth q1329)) (hN.fw (C := RX9) (x := ({ cls := "ThirtyThreeBelow$Tells", name := "begins", desc := "(I)V" } : Jvm.MethodName)) (y := yX6_begins) ⟨by decide, by decide⟩ q1483 q1482 q1339 q1357 q1496) (xr_body hK hW hi.1 hi.2) (by decide +kernel) rfl ⟨Nat.le_trans (by decide) hR.1, Nat.le_trans (by decide) hR.2⟩ hsz hst hrest hd hroom
  · exact xw_rF (C := RX10) (x := ({ cls := "ThirtyThreeBelow$Tells", name := "begins", desc := "(I)V" } : Jvm.MethodName)) (n := 1) (hK.1 _ _ (xk_cl 4 (by decide))).2 F hK hN hW (xc_begins l G o d0 X E D b 4 hi t (hr0.le (by decide))) (lw_app (List.forall_mem_cons.mpr ⟨q1481, List.forall_mem_cons.mpr ⟨q1493, List.forall_mem_cons.mpr ⟨q1328, List.forall_mem_cons.mpr ⟨q93, fun _ h => absurd h List.not_mem_nil⟩⟩⟩⟩) (lw_meth q1329)) (hN.fw (C := RX10) (x := ({ cls := "ThirtyThreeBelow$Tells", name := "begins", desc := "(I)V" } : Jvm.MethodName)) (y := yX6_begins) ⟨by decide, by decide⟩ q1483 q1482 q1339 q1351 q1492) (xr_body hK hW hi.1 hi.2) (by decide +kernel) rfl ⟨Nat.le_trans (by decide) hR.1, Nat.le_trans (by decide) hR.2⟩ hsz hst hrest hd hroom
  · exact xw_rF (C := RX11) (x := ({ cls := "ThirtyThreeBelow$Tells", name := "begins", desc := "(I)V" } : Jvm.MethodName)) (n := 1) (hK.1 _ _ (xk_cl 5 (by decide))).2 F hK hN hW (xc_begins l G o d0 X E D b 5 hi t (hr0.le (by decide))) (lw_app (List.forall_mem_cons.mpr ⟨q1481, List.forall_mem_cons.mpr ⟨q1489, List.forall_mem_cons.mpr ⟨q1328, List.forall_mem_cons.mpr ⟨q93, fun _ h => absurd h List.not_mem_nil⟩⟩⟩⟩) (lw_meth q1329)) (hN.fw (C := RX11) (x := ({ cls := "ThirtyThreeBelow$Tells", name := "begins", desc := "(I)V" } : Jvm.MethodName)) (y := yX6_begins) ⟨by decide, by decide⟩ q1483 q1482 q1339 q1345 q1488) (xr_body hK hW hi.1 hi.2) (by decide +kernel) rfl ⟨Nat.le_trans (by decide) hR.1, Nat.le_trans (by decide) hR.2⟩ hsz hst hrest hd hroom
  · exact xw_rF (C := RX12) (x := ({ cls := "ThirtyThreeBelow$Tells", name := "begins", desc := "(I)V" } : Jvm.MethodName)) (n := 1) (hK.1 _ _ (xk_cl 6 (by decide))).2 F hK hN hW (xc_begins l G o d0 X E D b 6 hi t (hr0.le (by decide))) (lw_app (List.forall_mem_cons.mpr ⟨q1481, List.forall_mem_cons.mpr ⟨q1495, List.forall_mem_cons.mpr ⟨q1328, List.forall_mem_cons.mpr ⟨q93, fun _ h => absurd h List.not_mem_nil⟩⟩⟩⟩) (lw_meth q1329)) (hN.fw (C := RX12) (x := ({ cls := "ThirtyThreeBelow$Tells", name := "begins", desc := "(I)V" } : Jvm.MethodName)) (y := yX6_begins) ⟨by decide, by decide⟩ q1483 q1482 q1339 q1354 q1494) (xr_body hK hW hi.1 hi.2) (by decide +kernel) rfl ⟨Nat.le_trans (by decide) hR.1, Nat.le_trans (by decide) hR.2⟩ hsz hst hrest hd hroom
  · exact xw_rF (C := RX13) (x := ({ cls := "ThirtyThreeBelow$Tells", name := "begins", desc := "(I)V" } : Jvm.MethodName)) (n := 1) (hK.1 _ _ (xk_cl 7 (by decide))).2 F hK hN hW (xc_begins l G o d0 X E D b 7 hi t (hr0.le (by decide))) (lw_app (List.forall_mem_cons.mpr ⟨q1481, List.forall_mem_cons.mpr ⟨q1491, List.forall_mem_cons.mpr ⟨q1328, List.forall_mem_cons.mpr ⟨q93, fun _ h => absurd h List.not_mem_nil⟩⟩⟩⟩) (lw_meth q1329)) (hN.fw (C := RX13) (x := ({ cls := "ThirtyThreeBelow$Tells", name := "begins", desc := "(I)V" } : Jvm.MethodName)) (y := yX6_begins) ⟨by decide, by decide⟩ q1483 q1482 q1339 q1348 q1490) (xr_body hK hW hi.1 hi.2) (by decide +kernel) rfl ⟨Nat.le_trans (by decide) hR.1, Nat.le_trans (by decide) hR.2⟩ hsz hst hrest hd hroom

set_option maxHeartbeats 4000000 in
theorem xd_number_X19 (l : Launch) (F : CallFix p m c cc nL s args lw_all RX19) (hK : wm_K G s) (hN : xn_T s) (hW : xx_W G o d0 X E D H) {b : Int32} {q : Nat} (hi : xa_in X b q) (hk : q < 8) (hR : 1 ≤ R.frames ∧ 20 ≤ R.locals) (hsz : ls.size = nL) (hst : st0 = ([] : List Value).reverse ++ .ref (xb_ D b) :: rest) (hrest : (rest.map fun v => v.category).sum ≤ 8) (hd : decode cc pc = .ok (.invokeinterface 7 1, 5)) (hroom : cells ≤ R.cells ∧ slots ≤ R.slots) : xw_Run5 p l e R s m args below meth c H locs cells slots (F0 m pc ls st0) rest G o d0 D (some (.int (b))) X E := by
  have hk : q = 0 ∨ q = 1 ∨ q = 2 ∨ q = 3 ∨ q = 4 ∨ q = 5 ∨ q = 6 ∨ q = 7 := by omega
  rcases hk with rfl | rfl | rfl | rfl | rfl | rfl | rfl | rfl
  · exact xw_rF (C := RX6) (x := ({ cls := "ThirtyThreeBelow$Bores", name := "number", desc := "()I" } : Jvm.MethodName)) (n := 0) (hK.1 _ _ (xk_cl 0 (by decide))).2 F hK hN hW (xc_number l G o d0 X E D b 0 hi) (lw_app (List.forall_mem_cons.mpr ⟨q1362, List.forall_mem_cons.mpr ⟨q1365, List.forall_mem_cons.mpr ⟨q1367, List.forall_mem_cons.mpr ⟨q93, fun _ h => absurd h List.not_mem_nil⟩⟩⟩⟩) (lw_meth q1369)) (hN.fw (C := RX6) (x := ({ cls := "ThirtyThreeBelow$Bores", name := "number", desc := "()I" } : Jvm.MethodName)) (y := yX6_number) ⟨by decide, by decide⟩ q1364 q1363 q1368 q1366 q1336) (xr_body hK hW hi.1 hi.2) (by decide +kernel) rfl ⟨Nat.le_trans (by decide) hR.1, Nat.le_trans (by decide) hR.2⟩ hsz hst hrest hd hroom
  · exact xw_rF (C := RX7) (x := ({ cls := "ThirtyThreeBelow$Bores", name := "number", desc := "()I" } : Jvm.MethodName)) (n := 0) (hK.1 _ _ (xk_cl 1 (by decide))).2 F hK hN hW (xc_number l G o d0 X E D b 1 hi) (lw_app (List.forall_mem_cons.mpr ⟨q1362, List.forall_mem_cons.mpr ⟨q1382, List.forall_mem_cons.mpr ⟨q1367, List.forall_mem_cons.mpr ⟨q93, fun _ h => absurd h List.not_mem_nil⟩⟩⟩⟩) (lw_meth q1369)) (hN.fw (C := RX7) (x := ({ cls := "ThirtyThreeBelow$Bores", name := "number", desc := "()I" } : Jvm.MethodName)) (y := yX6_number) ⟨by decide, by decide⟩ q1364 q1363 q1368 q1383 q1358) (xr_body hK hW hi.1 hi.2) (by decide +kernel) rfl ⟨Nat.le_trans (by decide) hR.1, Nat.le_trans (by decide) hR.2⟩ hsz hst hrest hd hroom
  · exact xw_rF (C := RX8) (x := ({ cls := "ThirtyThreeBelow$Bores", name := "number", desc := "()I" } : Jvm.MethodName)) (n := 0) (hK.1 _ _ (xk_cl 2 (by decide))).2 F hK hN hW (xc_number l G o d0 X E D b 2 hi) (lw_app (List.forall_mem_cons.mpr ⟨q1362, List.forall_mem_cons.mpr ⟨q1370, List.forall_mem_cons.mpr ⟨q1367, List.forall_mem_cons.mpr ⟨q93, fun _ h => absurd h List.not_mem_nil⟩⟩⟩⟩) (lw_meth q1369)) (hN.fw (C := RX8) (x := ({ cls := "ThirtyThreeBelow$Bores", name := "number", desc := "()I" } : Jvm.MethodName)) (y := yX6_number) ⟨by decide, by decide⟩ q1364 q1363 q1368 q1371 q1340) (xr_body hK hW hi.1 hi.2) (by decide +kernel) rfl ⟨Nat.le_trans (by decide) hR.1, Nat.le_trans (by decide) hR.2⟩ hsz hst hrest hd hroom
  · exact xw_rF (C := RX9) (x := ({ cls := "ThirtyThreeBelow$Bores", name := "number", desc := "()I" } : Jvm.MethodName)) (n := 0) (hK.1 _ _ (xk_cl 3 (by decide))).2 F hK hN hW (xc_number l G o d0 X E D b 3 hi) (lw_app (List.forall_mem_cons.mpr ⟨q1362, List.forall_mem_cons.mpr ⟨q1380, List.forall_mem_cons.mpr ⟨q1367, List.forall_mem_cons.mpr ⟨q93, fun _ h => absurd h List.not_mem_nil⟩⟩⟩⟩) (lw_meth q1369)) (hN.fw (C := RX9) (x := ({ cls := "ThirtyThreeBelow$Bores", name := "number", desc := "()I" } : Jvm.MethodName)) (y := yX6_number) ⟨by decide, by decide⟩ q1364 q1363 q1368 q1381 q1355) (xr_body hK hW hi.1 hi.2) (by decide +kernel) rfl ⟨Nat.le_trans (by decide) hR.1, Nat.le_trans (by decide) hR.2⟩ hsz hst hrest hd hroom
  · exact xw_rF (C := RX10) (x := ({ cls := "ThirtyThreeBelow$Bores", name := "number", desc := "()I" } : Jvm.MethodName)) (n := 0) (hK.1 _ _ (xk_cl 4 (by decide))).2 F hK hN hW (xc_number l G o d0 X E D b 4 hi) (lw_app (List.forall_mem_cons.mpr ⟨q1362, List.forall_mem_cons.mpr ⟨q1376, List.forall_mem_cons.mpr ⟨q1367, List.forall_mem_cons.mpr ⟨q93, fun _ h => absurd h List.not_mem_nil⟩⟩⟩⟩) (lw_meth q1369)) (hN.fw (C := RX10) (x := ({ cls := "ThirtyThreeBelow$Bores", name := "number", desc := "()I" } : Jvm.MethodName)) (y := yX6_number) ⟨by decide, by decide⟩ q1364 q1363 q1368 q1377 q1349) (xr_body hK hW hi.1 hi.2) (by decide +kernel) rfl ⟨Nat.le_trans (by decide) hR.1, Nat.le_trans (by decide) hR.2⟩ hsz hst hrest hd hroom
  · exact xw_rF (C := RX11) (x := ({ cls := "ThirtyThreeBelow$Bores", name := "number", desc := "()I" } : Jvm.MethodName)) (n := 0) (hK.1 _ _ (xk_cl 5 (by decide))).2 F hK hN hW (xc_number l G o d0 X E D b 5 hi) (lw_app (List.forall_mem_cons.mpr ⟨q1362, List.forall_mem_cons.mpr ⟨q1372, List.forall_mem_cons.mpr ⟨q1367, List.forall_mem_cons.mpr ⟨q93, fun _ h => absurd h List.not_mem_nil⟩⟩⟩⟩) (lw_meth q1369)) (hN.fw (C := RX11) (x := ({ cls := "ThirtyThreeBelow$Bores", name := "number", desc := "()I" } : Jvm.MethodName)) (y := yX6_number) ⟨by decide, by decide⟩ q1364 q1363 q1368 q1373 q1343) (xr_body hK hW hi.1 hi.2) (by decide +kernel) rfl ⟨Nat.le_trans (by decide) hR.1, Nat.le_trans (by decide) hR.2⟩ hsz hst hrest hd hroom
  · exact xw_rF (C := RX12) (x := ({ cls := "ThirtyThreeBelow$Bores", name := "number", desc := "()I" } : Jvm.MethodName)) (n := 0) (hK.1 _ _ (xk_cl 6 (by decide))).2 F hK hN hW (xc_number l G o d0 X E D b 6 hi) (lw_app (List.forall_mem_cons.mpr ⟨q1362, List.forall_mem_cons.mpr ⟨q1378, List.forall_mem_cons.mpr ⟨q1367, List.forall_mem_cons.mpr ⟨q93, fun _ h => absurd h List.not_mem_nil⟩⟩⟩⟩) (lw_meth q1369)) (hN.fw (C := RX12) (x := ({ cls := "ThirtyThreeBelow$Bores", name := "number", desc := "()I" } : Jvm.MethodName)) (y := yX6_number) ⟨by decide, by decide⟩ q1364 q1363 q1368 q1379 q1352) (xr_body hK hW hi.1 hi.2) (by decide +kernel) rfl ⟨Nat.le_trans (by decide) hR.1, Nat.le_trans (by decide) hR.2⟩ hsz hst hrest hd hroom
  · exact xw_rF (C := RX13) (x := ({ cls := "ThirtyThreeBelow$Bores", name := "number", desc := "()I" } : Jvm.MethodName)) (n := 0) (hK.1 _ _ (xk_cl 7 (by decide))).2 F hK hN hW (xc_number l G o d0 X E D b 7 hi) (lw_app (List.forall_mem_cons.mpr ⟨q1362, List.forall_mem_cons.mpr ⟨q1374, List.forall_mem_cons.mpr ⟨q1367, List.forall_mem_cons.mpr ⟨q93, fun _ h => absurd h List.not_mem_nil⟩⟩⟩⟩) (lw_meth q1369)) (hN.fw (C := RX13) (x := ({ cls := "ThirtyThreeBelow$Bores", name := "number", desc := "()I" } : Jvm.MethodName)) (y := yX6_number) ⟨by decide, by decide⟩ q1364 q1363 q1368 q1375 q1346) (xr_body hK hW hi.1 hi.2) (by decide +kernel) rfl ⟨Nat.le_trans (by decide) hR.1, Nat.le_trans (by decide) hR.2⟩ hsz hst hrest hd hroom

end XD10
set_option maxHeartbeats 4000000 in
theorem xc_bd (lQ : Launch) (G : wm_G) (o d0 : Nat) (X : mm_S) (E : mm_E) (D : xg) (b : Int32) (q : Nat) (hi : xa_in X b q) (x : Int32) (hr0 : xa_r 850 X) : xw_Met lQ G o d0 yX19_bores (ws_ yX19_bores cX19_bores 2 (some .int)) 1 X E D [Value.ref (xb_ D b), .int x] (some (.int (xa_bd X b x).1)) (xa_bd X b x).2 E := by
  refine xw_start (own := RX19) (by decide +kernel) (Nat.le_of_ble_eq_true rfl) rfl (fun pQ eQ sQ mQ belowQ methQ cQ hx hb hml hr hlocks hts hown hK hN H hW hS ls hl => ?_)
  have hl : lv_has ls 2 [(0, .ref (xb_ D b)), (1, .int x)] := hl
  generalize hlc : ([] : List Loc) = locs at hS ⊢
  refine lv_aload_n hx hb dX19_bores_0 rfl (lv_at hl 0 rfl) ?_
  refine lv_iconst (v := 1) hx hb dX19_bores_1 (by decide) ?_
  refine xw_v5 (xd_begins_X19 (rest := []) lQ ⟨hx, hb, hml, hown, hts⟩ hK hN hW hi (xa_8 hW hi) 1 (hr0.le (by decide)) ⟨Nat.le_of_ble_eq_true rfl, Nat.le_of_ble_eq_true rfl⟩ hl.1 rfl (Nat.le_of_ble_eq_true rfl) dX19_bores_2 ⟨Nat.le_of_ble_eq_true rfl, Nat.le_of_ble_eq_true rfl⟩) hS (fun X2 H locs f2 hW hS => ?_)
  have hi : xa_in X2 b q := by rw [f2]; exact xa_eq (xa_e (xa_beg_fr X 1)) hi
  have hr0 : xa_r 851 X2 := by rw [f2]; exact xa_beg_r hr0 (by decide) 1
  refine lv_iload_n hx hb dX19_bores_7 rfl (lv_at hl 1 rfl) ?_
  refine lv_aload_n hx hb dX19_bores_8 rfl (lv_at hl 0 rfl) ?_
  refine xw_p5 (xd_number_X19 (rest := [.int x]) lQ ⟨hx, hb, hml, hown, hts⟩ hK hN hW hi (xa_8 hW hi) ⟨Nat.le_of_ble_eq_true rfl, Nat.le_of_ble_eq_true rfl⟩ hl.1 rfl (Nat.le_of_ble_eq_true rfl) dX19_bores_9 ⟨Nat.le_of_ble_eq_true rfl, Nat.le_of_ble_eq_true rfl⟩) hS (fun v9 H locs e9 hW hS => ?_)
  refine nv_iadd hx hb dX19_bores_14 (fun v14 e14 => ?_)
  refine xw_iret hx hb hr hlocks hW hS ?_ dX19_bores_15
  have hres : xa_bd X b x = (v14, X2) := by subst f2 e9 e14; rfl
  exact ⟨by rw [hres], by rw [hres], rfl⟩

set_option maxHeartbeats 4000000 in
theorem xc_bw (lQ : Launch) (G : wm_G) (o d0 : Nat) (X : mm_S) (E : mm_E) (D : xg) (b : Int32) (q : Nat) (hi : xa_in X b q) (hw : q = 1 ∨ q = 2 ∨ q = 3 ∨ q = 4 ∨ q = 5 ∨ q = 6) (x : Int32) (hr0 : xa_r 840 X) : xw_Met lQ G o d0 yX7_bores (ws_ yX7_bores cX7_bores 2 (some .int)) 2 X E D [Value.ref (xb_ D b), .int x] (some (.int (xa_bw X b x).1)) (xa_bw X b x).2 E := by
  refine xw_start (own := RX7) (by decide +kernel) (Nat.le_of_ble_eq_true rfl) rfl (fun pQ eQ sQ mQ belowQ methQ cQ hx hb hml hr hlocks hts hown hK hN H hW hS ls hl => ?_)
  have hl : lv_has ls 2 [(0, .ref (xb_ D b)), (1, .int x)] := hl
  generalize hlc : ([] : List Loc) = locs at hS ⊢
  refine lv_aload_n hx hb dX7_bores_0 rfl (lv_at hl 0 rfl) ?_
  refine lv_bipush (v := 20) hx hb dX7_bores_1 (by decide) ?_
  refine xw_v (xd_begins_X7 (rest := []) lQ ⟨hx, hb, hml, hown, hts⟩ hK hN hW hi hw 20 (hr0.le (by decide)) ⟨Nat.le_of_ble_eq_true rfl, Nat.le_of_ble_eq_true rfl⟩ hl.1 rfl (Nat.le_of_ble_eq_true rfl) dX7_bores_3 ⟨Nat.le_of_ble_eq_true rfl, Nat.le_of_ble_eq_true rfl⟩) hS (fun X3 H locs f3 hW hS => ?_)
  have hi : xa_in X3 b q := by rw [f3]; exact xa_eq (xa_e (xa_beg_fr X 20)) hi
  have hr0 : xa_r 841 X3 := by rw [f3]; exact xa_beg_r hr0 (by decide) 20
  refine lv_aload_n hx hb dX7_bores_6 rfl (lv_at hl 0 rfl) ?_
  refine lv_iload_n hx hb dX7_bores_7 rfl (lv_at hl 1 rfl) ?_
  refine xw_i (xw_rSD (As := [.int x]) (rest := []) (C := xk_C q) (n := 1) (x := ({ cls := "ThirtyThreeBelow$Body", name := "bores", desc := "(I)I" } : Jvm.MethodName)) (hK.1 _ _ (xk_cl q (xa_8 hW hi))).2 ⟨hx, hb, hml, hown, hts⟩ hK hN hW (xc_bd lQ G o d0 X3 E D b q hi x (hr0.le (by decide))) (lw_meth q1331) q2437 q1330 (List.mem_of_getElem? (i := 2) rfl) (List.mem_of_getElem? (i := 1) rfl) ⟨rfl, rfl⟩ q505 (List.mem_of_getElem? (i := 0) rfl) (xr_body hK hW hi.1 hi.2) (by decide +kernel) rfl ⟨Nat.le_of_ble_eq_true rfl, Nat.le_of_ble_eq_true rfl⟩ hl.1 rfl (Nat.le_of_ble_eq_true rfl) dX7_bores_8 ⟨Nat.le_of_ble_eq_true rfl, Nat.le_of_ble_eq_true rfl⟩) hS (fun v8 X8 H locs e8 f8 hW hS => ?_)
  have hi : xa_in X8 b q := by rw [f8]; exact xa_eq (xa_e (xa_bd_ok b x X3).1) hi
  have hr0 : xa_r 842 X8 := by rw [f8]; exact (xa_bd_ok b x X3).2 841 (by decide) hr0
  refine lv_iconst (v := 2) hx hb dX7_bores_11 (by decide) ?_
  refine nv_imul hx hb dX7_bores_12 (fun v12 e12 => ?_)
  refine xw_iret hx hb hr hlocks hW hS ?_ dX7_bores_13
  have hres : xa_bw X b x = (v12, X8) := by subst f3 e8 f8 e12; rfl
  exact ⟨by rw [hres], by rw [hres], rfl⟩

set_option maxHeartbeats 4000000 in
theorem xc_bs (lQ : Launch) (G : wm_G) (o d0 : Nat) (X : mm_S) (E : mm_E) (D : xg) (b : Int32) (q : Nat) (hi : xa_in X b q) (hw : q = 4 ∨ q = 5) (x : Int32) (hr0 : xa_r 830 X) : xw_Met lQ G o d0 yX10_bores (ws_ yX10_bores cX10_bores 2 (some .int)) 3 X E D [Value.ref (xb_ D b), .int x] (some (.int (xa_bs X b x).1)) (xa_bs X b x).2 E := by
  refine xw_start (own := RX10) (by decide +kernel) (Nat.le_of_ble_eq_true rfl) rfl (fun pQ eQ sQ mQ belowQ methQ cQ hx hb hml hr hlocks hts hown hK hN H hW hS ls hl => ?_)
  have hl : lv_has ls 2 [(0, .ref (xb_ D b)), (1, .int x)] := hl
  generalize hlc : ([] : List Loc) = locs at hS ⊢
  refine lv_aload_n hx hb dX10_bores_0 rfl (lv_at hl 0 rfl) ?_
  refine lv_bipush (v := 50) hx hb dX10_bores_1 (by decide) ?_
  refine xw_v (xd_begins_X10 (rest := []) lQ ⟨hx, hb, hml, hown, hts⟩ hK hN hW hi hw 50 (hr0.le (by decide)) ⟨Nat.le_of_ble_eq_true rfl, Nat.le_of_ble_eq_true rfl⟩ hl.1 rfl (Nat.le_of_ble_eq_true rfl) dX10_bores_3 ⟨Nat.le_of_ble_eq_true rfl, Nat.le_of_ble_eq_true rfl⟩) hS (fun X3 H locs f3 hW hS => ?_)
  have hi : xa_in X3 b q := by rw [f3]; exact xa_eq (xa_e (xa_beg_fr X 50)) hi
  have hr0 : xa_r 831 X3 := by rw [f3]; exact xa_beg_r hr0 (by decide) 50
  refine lv_aload_n hx hb dX10_bores_6 rfl (lv_at hl 0 rfl) ?_
  refine lv_iload_n hx hb dX10_bores_7 rfl (lv_at hl 1 rfl) ?_
  refine lv_iconst (v := 1) hx hb dX10_bores_8 (by decide) ?_
  refine nv_iadd hx hb dX10_bores_9 (fun v9 e9 => ?_)
  refine xw_i (xw_rSX (As := [.int v9]) (rest := []) (C := xk_C q) (n := 1) (x := ({ cls := "ThirtyThreeBelow$Hole", name := "bores", desc := "(I)I" } : Jvm.MethodName)) (hK.1 _ _ (xk_cl q (xa_8 hW hi))).2 ⟨hx, hb, hml, hown, hts⟩ hK hN hW (xc_bw lQ G o d0 X3 E D b q hi (by omega) v9 (hr0.le (by decide))) (lw_meth q1318) q94 q1317 q1397 q1398 ⟨rfl, rfl⟩ q624 (xs_sub1 hts q571 rfl) (xr_body hK hW hi.1 hi.2) (by decide +kernel) rfl ⟨Nat.le_of_ble_eq_true rfl, Nat.le_of_ble_eq_true rfl⟩ hl.1 rfl (Nat.le_of_ble_eq_true rfl) dX10_bores_10 ⟨Nat.le_of_ble_eq_true rfl, Nat.le_of_ble_eq_true rfl⟩) hS (fun v10 X10 H locs e10 f10 hW hS => ?_)
  have hi : xa_in X10 b q := by rw [f10]; exact xa_eq (xa_e (xa_bw_ok b v9 X3).1) hi
  have hr0 : xa_r 833 X10 := by rw [f10]; exact (xa_bw_ok b v9 X3).2 831 (by decide) hr0
  refine xw_iret hx hb hr hlocks hW hS ?_ dX10_bores_13
  have hres : xa_bs X b x = (v10, X10) := by subst f3 e9 e10 f10; rfl
  exact ⟨by rw [hres], by rw [hres], rfl⟩

set_option maxHeartbeats 4000000 in
theorem xc_bl (lQ : Launch) (G : wm_G) (o d0 : Nat) (X : mm_S) (E : mm_E) (D : xg) (b : Int32) (q : Nat) (hi : xa_in X b q) (hw : q = 5) (x : Int32) (hr0 : xa_r 820 X) : xw_Met lQ G o d0 yX11_bores (ws_ yX11_bores cX11_bores 2 (some .int)) 4 X E D [Value.ref (xb_ D b), .int x] (some (.int (xa_bl X b x).1)) (xa_bl X b x).2 E := by
  refine xw_start (own := RX11) (by decide +kernel) (Nat.le_of_ble_eq_true rfl) rfl (fun pQ eQ sQ mQ belowQ methQ cQ hx hb hml hr hlocks hts hown hK hN H hW hS ls hl => ?_)
  have hl : lv_has ls 2 [(0, .ref (xb_ D b)), (1, .int x)] := hl
  generalize hlc : ([] : List Loc) = locs at hS ⊢
  refine lv_aload_n hx hb dX11_bores_0 rfl (lv_at hl 0 rfl) ?_
  refine lv_bipush (v := 61) hx hb dX11_bores_1 (by decide) ?_
  refine xw_v (xd_begins_X11 (rest := []) lQ ⟨hx, hb, hml, hown, hts⟩ hK hN hW hi hw 61 (hr0.le (by decide)) ⟨Nat.le_of_ble_eq_true rfl, Nat.le_of_ble_eq_true rfl⟩ hl.1 rfl (Nat.le_of_ble_eq_true rfl) dX11_bores_3 ⟨Nat.le_of_ble_eq_true rfl, Nat.le_of_ble_eq_true rfl⟩) hS (fun X3 H locs f3 hW hS => ?_)
  have hi : xa_in X3 b q := by rw [f3]; exact xa_eq (xa_e (xa_beg_fr X 61)) hi
  have hr0 : xa_r 821 X3 := by rw [f3]; exact xa_beg_r hr0 (by decide) 61
  refine lv_aload_n hx hb dX11_bores_6 rfl (lv_at hl 0 rfl) ?_
  refine lv_iload_n hx hb dX11_bores_7 rfl (lv_at hl 1 rfl) ?_
  refine xw_i (xw_rSU (As := [.int x]) (rest := []) (C := xk_C q) (n := 1) (hK.1 _ _ (xk_cl q (xa_8 hW hi))).2 ⟨hx, hb, hml, hown, hts⟩ hK hN hW (xc_bs lQ G o d0 X3 E D b q hi (by omega) x (hr0.le (by decide))) (lw_app (List.forall_mem_cons.mpr ⟨q1390, List.forall_mem_cons.mpr ⟨q2424, List.forall_mem_cons.mpr ⟨q650, List.forall_mem_cons.mpr ⟨q1391, List.forall_mem_cons.mpr ⟨q97, fun _ h => absurd h List.not_mem_nil⟩⟩⟩⟩⟩) (lw_meth q1392)) (xr_body hK hW hi.1 hi.2) (by decide +kernel) rfl ⟨Nat.le_of_ble_eq_true rfl, Nat.le_of_ble_eq_true rfl⟩ hl.1 rfl (Nat.le_of_ble_eq_true rfl) dX11_bores_8 ⟨Nat.le_of_ble_eq_true rfl, Nat.le_of_ble_eq_true rfl⟩) hS (fun v8 X8 H locs e8 f8 hW hS => ?_)
  have hi : xa_in X8 b q := by rw [f8]; exact xa_eq (xa_e (xa_bs_ok b x X3).1) hi
  have hr0 : xa_r 824 X8 := by rw [f8]; exact (xa_bs_ok b x X3).2 821 (by decide) hr0
  refine lv_bipush (v := 7) hx hb dX11_bores_11 (by decide) ?_
  refine nv_ixor hx hb dX11_bores_13 (fun v13 e13 => ?_)
  refine xw_iret hx hb hr hlocks hW hS ?_ dX11_bores_14
  have hres : xa_bl X b x = (v13, X8) := by subst f3 e8 f8 e13; rfl
  exact ⟨by rw [hres], by rw [hres], rfl⟩

section XD11
variable {p : Program} {l : Launch} {e : Env} {R : Room} {s : State} {m : MethodId} {args : Array Value} {below : List Frame} {meth : Method} {c : Code} {H : Heap} {locs : List Loc} {cells slots : Nat} {Q : State → Prop}
variable {cc : ByteArray} {pc : Nat} {ls : Array Slot} {rest st0 : List Value} {G : wm_G} {o d0 : Nat} {H0 : Heap} {X : mm_S} {E : mm_E} {D : xg} {nL : Nat}
set_option maxHeartbeats 4000000 in
theorem xd_bores_X6 (l : Launch) (F : CallFix p m c cc nL s args lw_all RX6) (hK : wm_K G s) (hN : xn_T s) (hW : xx_W G o d0 X E D H) {b : Int32} {q : Nat} (hi : xa_in X b q) (hk : q < 8) (x : Int32) (hr0 : xa_r 800 X) (hR : 5 ≤ R.frames ∧ 261 ≤ R.locals) (hsz : ls.size = nL) (hst : st0 = ([.int x] : List Value).reverse ++ .ref (xb_ D b) :: rest) (hrest : (rest.map fun v => v.category).sum ≤ 8) (hd : decode cc pc = .ok (.invokevirtual 30, 3)) (hroom : cells ≤ R.cells ∧ slots ≤ R.slots) : xw_Run p l e R s m args below meth c H locs cells slots (F0 m pc ls st0) rest G o d0 D (some (.int (xa_bores q X b x).1)) (xa_bores q X b x).2 E := by
  have hk : q = 0 ∨ q = 1 ∨ q = 2 ∨ q = 3 ∨ q = 4 ∨ q = 5 ∨ q = 6 ∨ q = 7 := by omega
  rcases hk with rfl | rfl | rfl | rfl | rfl | rfl | rfl | rfl
  · exact xw_rVD (C := RX6) (owner := "ThirtyThreeBelow$Bores") (x := ({ cls := "ThirtyThreeBelow$Body", name := "bores", desc := "(I)I" } : Jvm.MethodName)) (n := 1) F hK hN hW (xc_bd l G o d0 X E D b 0 hi x (hr0.le (by decide))) (lw_meth q1331) q2437 q1330 (List.mem_of_getElem? (i := 3) rfl) (List.mem_of_getElem? (i := 1) rfl) q1314 (List.mem_of_getElem? (i := 0) rfl) (xr_body hK hW hi.1 hi.2) (by decide +kernel) rfl ⟨Nat.le_trans (by decide) hR.1, Nat.le_trans (by decide) hR.2⟩ hsz hst hrest hd hroom
  · exact xw_rVC (C := RX7) (owner := "ThirtyThreeBelow$Bores") (x := ({ cls := "ThirtyThreeBelow$Body", name := "bores", desc := "(I)I" } : Jvm.MethodName)) (n := 1) F hK hN hW (xc_bw l G o d0 X E D b 1 hi (by decide) x (hr0.le (by decide))) (lw_meth q1318) q94 q1317 (List.mem_of_getElem? (i := 3) rfl) (List.mem_of_getElem? (i := 1) rfl) q1314 q1404 (xr_body hK hW hi.1 hi.2) (by decide +kernel) rfl ⟨Nat.le_trans (by decide) hR.1, Nat.le_trans (by decide) hR.2⟩ hsz hst hrest hd hroom
  · exact xw_rVC (C := RX8) (owner := "ThirtyThreeBelow$Bores") (x := ({ cls := "ThirtyThreeBelow$Body", name := "bores", desc := "(I)I" } : Jvm.MethodName)) (n := 1) F hK hN hW (xc_bw l G o d0 X E D b 2 hi (by decide) x (hr0.le (by decide))) (lw_meth q1318) q94 q1317 (List.mem_of_getElem? (i := 3) rfl) (List.mem_of_getElem? (i := 1) rfl) q1314 q1316 (xr_body hK hW hi.1 hi.2) (by decide +kernel) rfl ⟨Nat.le_trans (by decide) hR.1, Nat.le_trans (by decide) hR.2⟩ hsz hst hrest hd hroom
  · exact xw_rVC (C := RX9) (owner := "ThirtyThreeBelow$Bores") (x := ({ cls := "ThirtyThreeBelow$Body", name := "bores", desc := "(I)I" } : Jvm.MethodName)) (n := 1) F hK hN hW (xc_bw l G o d0 X E D b 3 hi (by decide) x (hr0.le (by decide))) (lw_meth q1318) q94 q1317 (List.mem_of_getElem? (i := 3) rfl) (List.mem_of_getElem? (i := 1) rfl) q1314 q1403 (xr_body hK hW hi.1 hi.2) (by decide +kernel) rfl ⟨Nat.le_trans (by decide) hR.1, Nat.le_trans (by decide) hR.2⟩ hsz hst hrest hd hroom
  · exact xw_rVC (C := RX10) (owner := "ThirtyThreeBelow$Bores") (x := ({ cls := "ThirtyThreeBelow$Body", name := "bores", desc := "(I)I" } : Jvm.MethodName)) (n := 1) F hK hN hW (xc_bs l G o d0 X E D b 4 hi (by decide) x (hr0.le (by decide))) (lw_meth q1392) q97 q1391 (List.mem_of_getElem? (i := 3) rfl) (List.mem_of_getElem? (i := 1) rfl) q1314 q1401 (xr_body hK hW hi.1 hi.2) (by decide +kernel) rfl ⟨Nat.le_trans (by decide) hR.1, Nat.le_trans (by decide) hR.2⟩ hsz hst hrest hd hroom
  · exact xw_rVC (C := RX11) (owner := "ThirtyThreeBelow$Bores") (x := ({ cls := "ThirtyThreeBelow$Body", name := "bores", desc := "(I)I" } : Jvm.MethodName)) (n := 1) F hK hN hW (xc_bl l G o d0 X E D b 5 hi (by decide) x (hr0.le (by decide))) (lw_meth q1386) q98 q1385 (List.mem_of_getElem? (i := 3) rfl) (List.mem_of_getElem? (i := 1) rfl) q1314 q1384 (xr_body hK hW hi.1 hi.2) (by decide +kernel) rfl ⟨Nat.le_trans (by decide) hR.1, Nat.le_trans (by decide) hR.2⟩ hsz hst hrest hd hroom
  · exact xw_rVC (C := RX12) (owner := "ThirtyThreeBelow$Bores") (x := ({ cls := "ThirtyThreeBelow$Body", name := "bores", desc := "(I)I" } : Jvm.MethodName)) (n := 1) F hK hN hW (xc_bw l G o d0 X E D b 6 hi (by decide) x (hr0.le (by decide))) (lw_meth q1318) q94 q1317 (List.mem_of_getElem? (i := 3) rfl) (List.mem_of_getElem? (i := 1) rfl) q1314 q1402 (xr_body hK hW hi.1 hi.2) (by decide +kernel) rfl ⟨Nat.le_trans (by decide) hR.1, Nat.le_trans (by decide) hR.2⟩ hsz hst hrest hd hroom
  · exact xw_rVD (C := RX13) (owner := "ThirtyThreeBelow$Bores") (x := ({ cls := "ThirtyThreeBelow$Body", name := "bores", desc := "(I)I" } : Jvm.MethodName)) (n := 1) F hK hN hW (xc_bd l G o d0 X E D b 7 hi x (hr0.le (by decide))) (lw_meth q1331) q2437 q1330 (List.mem_of_getElem? (i := 3) rfl) (List.mem_of_getElem? (i := 1) rfl) q1314 (List.mem_of_getElem? (i := 1) rfl) (xr_body hK hW hi.1 hi.2) (by decide +kernel) rfl ⟨Nat.le_trans (by decide) hR.1, Nat.le_trans (by decide) hR.2⟩ hsz hst hrest hd hroom

set_option maxHeartbeats 4000000 in
theorem xd_bores_X0 (l : Launch) (F : CallFix p m c cc nL s args lw_all RX0) (hK : wm_K G s) (hN : xn_T s) (hW : xx_W G o d0 X E D H) {b : Int32} {q : Nat} (hi : xa_in X b q) (hk : q < 8) (x : Int32) (hr0 : xa_r 800 X) (hR : 5 ≤ R.frames ∧ 261 ≤ R.locals) (hsz : ls.size = nL) (hst : st0 = ([.int x] : List Value).reverse ++ .ref (xb_ D b) :: rest) (hrest : (rest.map fun v => v.category).sum ≤ 8) (hd : decode cc pc = .ok (.invokevirtual 533, 3)) (hroom : cells ≤ R.cells ∧ slots ≤ R.slots) : xw_Run p l e R s m args below meth c H locs cells slots (F0 m pc ls st0) rest G o d0 D (some (.int (xa_bores q X b x).1)) (xa_bores q X b x).2 E := by
  have hk : q = 0 ∨ q = 1 ∨ q = 2 ∨ q = 3 ∨ q = 4 ∨ q = 5 ∨ q = 6 ∨ q = 7 := by omega
  rcases hk with rfl | rfl | rfl | rfl | rfl | rfl | rfl | rfl
  · exact xw_rVD (C := RX6) (owner := "ThirtyThreeBelow$Bores") (x := ({ cls := "ThirtyThreeBelow$Body", name := "bores", desc := "(I)I" } : Jvm.MethodName)) (n := 1) F hK hN hW (xc_bd l G o d0 X E D b 0 hi x (hr0.le (by decide))) (lw_meth q1331) q2437 q1330 (List.mem_of_getElem? (i := 0) rfl) (List.mem_of_getElem? (i := 1) rfl) q1314 (List.mem_of_getElem? (i := 0) rfl) (xr_body hK hW hi.1 hi.2) (by decide +kernel) rfl ⟨Nat.le_trans (by decide) hR.1, Nat.le_trans (by decide) hR.2⟩ hsz hst hrest hd hroom
  · exact xw_rVC (C := RX7) (owner := "ThirtyThreeBelow$Bores") (x := ({ cls := "ThirtyThreeBelow$Body", name := "bores", desc := "(I)I" } : Jvm.MethodName)) (n := 1) F hK hN hW (xc_bw l G o d0 X E D b 1 hi (by decide) x (hr0.le (by decide))) (lw_meth q1318) q94 q1317 (List.mem_of_getElem? (i := 0) rfl) (List.mem_of_getElem? (i := 1) rfl) q1314 q1404 (xr_body hK hW hi.1 hi.2) (by decide +kernel) rfl ⟨Nat.le_trans (by decide) hR.1, Nat.le_trans (by decide) hR.2⟩ hsz hst hrest hd hroom
  · exact xw_rVC (C := RX8) (owner := "ThirtyThreeBelow$Bores") (x := ({ cls := "ThirtyThreeBelow$Body", name := "bores", desc := "(I)I" } : Jvm.MethodName)) (n := 1) F hK hN hW (xc_bw l G o d0 X E D b 2 hi (by decide) x (hr0.le (by decide))) (lw_meth q1318) q94 q1317 (List.mem_of_getElem? (i := 0) rfl) (List.mem_of_getElem? (i := 1) rfl) q1314 q1316 (xr_body hK hW hi.1 hi.2) (by decide +kernel) rfl ⟨Nat.le_trans (by decide) hR.1, Nat.le_trans (by decide) hR.2⟩ hsz hst hrest hd hroom
  · exact xw_rVC (C := RX9) (owner := "ThirtyThreeBelow$Bores") (x := ({ cls := "ThirtyThreeBelow$Body", name := "bores", desc := "(I)I" } : Jvm.MethodName)) (n := 1) F hK hN hW (xc_bw l G o d0 X E D b 3 hi (by decide) x (hr0.le (by decide))) (lw_meth q1318) q94 q1317 (List.mem_of_getElem? (i := 0) rfl) (List.mem_of_getElem? (i := 1) rfl) q1314 q1403 (xr_body hK hW hi.1 hi.2) (by decide +kernel) rfl ⟨Nat.le_trans (by decide) hR.1, Nat.le_trans (by decide) hR.2⟩ hsz hst hrest hd hroom
  · exact xw_rVC (C := RX10) (owner := "ThirtyThreeBelow$Bores") (x := ({ cls := "ThirtyThreeBelow$Body", name := "bores", desc := "(I)I" } : Jvm.MethodName)) (n := 1) F hK hN hW (xc_bs l G o d0 X E D b 4 hi (by decide) x (hr0.le (by decide))) (lw_meth q1392) q97 q1391 (List.mem_of_getElem? (i := 0) rfl) (List.mem_of_getElem? (i := 1) rfl) q1314 q1401 (xr_body hK hW hi.1 hi.2) (by decide +kernel) rfl ⟨Nat.le_trans (by decide) hR.1, Nat.le_trans (by decide) hR.2⟩ hsz hst hrest hd hroom
  · exact xw_rVC (C := RX11) (owner := "ThirtyThreeBelow$Bores") (x := ({ cls := "ThirtyThreeBelow$Body", name := "bores", desc := "(I)I" } : Jvm.MethodName)) (n := 1) F hK hN hW (xc_bl l G o d0 X E D b 5 hi (by decide) x (hr0.le (by decide))) (lw_meth q1386) q98 q1385 (List.mem_of_getElem? (i := 0) rfl) (List.mem_of_getElem? (i := 1) rfl) q1314 q1384 (xr_body hK hW hi.1 hi.2) (by decide +kernel) rfl ⟨Nat.le_trans (by decide) hR.1, Nat.le_trans (by decide) hR.2⟩ hsz hst hrest hd hroom
  · exact xw_rVC (C := RX12) (owner := "ThirtyThreeBelow$Bores") (x := ({ cls := "ThirtyThreeBelow$Body", name := "bores", desc := "(I)I" } : Jvm.MethodName)) (n := 1) F hK hN hW (xc_bw l G o d0 X E D b 6 hi (by decide) x (hr0.le (by decide))) (lw_meth q1318) q94 q1317 (List.mem_of_getElem? (i := 0) rfl) (List.mem_of_getElem? (i := 1) rfl) q1314 q1402 (xr_body hK hW hi.1 hi.2) (by decide +kernel) rfl ⟨Nat.le_trans (by decide) hR.1, Nat.le_trans (by decide) hR.2⟩ hsz hst hrest hd hroom
  · exact xw_rVD (C := RX13) (owner := "ThirtyThreeBelow$Bores") (x := ({ cls := "ThirtyThreeBelow$Body", name := "bores", desc := "(I)I" } : Jvm.MethodName)) (n := 1) F hK hN hW (xc_bd l G o d0 X E D b 7 hi x (hr0.le (by decide))) (lw_meth q1331) q2437 q1330 (List.mem_of_getElem? (i := 0) rfl) (List.mem_of_getElem? (i := 1) rfl) q1314 (List.mem_of_getElem? (i := 1) rfl) (xr_body hK hW hi.1 hi.2) (by decide +kernel) rfl ⟨Nat.le_trans (by decide) hR.1, Nat.le_trans (by decide) hR.2⟩ hsz hst hrest hd hroom

end XD11
set_option maxHeartbeats 4000000 in
theorem xc_cb (lQ : Launch) (G : wm_G) (o d0 : Nat) (X : mm_S) (E : mm_E) (D : xg) (b : Int32) (q : Nat) (hi : xa_in X b q) (x : Int32) (hr0 : xa_r 700 X) : xw_Met lQ G o d0 yX6_carries (ws_ yX6_carries cX6_carries 2 (some .int)) 5 X E D [Value.ref (xb_ D b), .int x] (some (.int (xa_cb q X b x).1)) (xa_cb q X b x).2 E := by
  refine xw_start (own := RX6) (by decide +kernel) (Nat.le_of_ble_eq_true rfl) rfl (fun pQ eQ sQ mQ belowQ methQ cQ hx hb hml hr hlocks hts hown hK hN H hW hS ls hl => ?_)
  have hl : lv_has ls 2 [(0, .ref (xb_ D b)), (1, .int x)] := hl
  generalize hlc : ([] : List Loc) = locs at hS ⊢
  refine lv_aload_n hx hb dX6_carries_0 rfl (lv_at hl 0 rfl) ?_
  refine lv_bipush (v := 10) hx hb dX6_carries_1 (by decide) ?_
  refine xw_v (xd_begins_X6 (rest := []) lQ ⟨hx, hb, hml, hown, hts⟩ hK hN hW hi (xa_8 hW hi) 10 (hr0.le (by decide)) ⟨Nat.le_of_ble_eq_true rfl, Nat.le_of_ble_eq_true rfl⟩ hl.1 rfl (Nat.le_of_ble_eq_true rfl) dX6_carries_3 ⟨Nat.le_of_ble_eq_true rfl, Nat.le_of_ble_eq_true rfl⟩) hS (fun X3 H locs f3 hW hS => ?_)
  have hi : xa_in X3 b q := by rw [f3]; exact xa_eq (xa_e (xa_beg_fr X 10)) hi
  have hr0 : xa_r 701 X3 := by rw [f3]; exact xa_beg_r hr0 (by decide) 10
  refine lv_aload_n hx hb dX6_carries_6 rfl (lv_at hl 0 rfl) ?_
  refine lv_iload_n hx hb dX6_carries_7 rfl (lv_at hl 1 rfl) ?_
  refine xw_i (xd_bores_X6 (rest := []) lQ ⟨hx, hb, hml, hown, hts⟩ hK hN hW hi (xa_8 hW hi) x (hr0.le (by decide)) ⟨Nat.le_of_ble_eq_true rfl, Nat.le_of_ble_eq_true rfl⟩ hl.1 rfl (Nat.le_of_ble_eq_true rfl) dX6_carries_8 ⟨Nat.le_of_ble_eq_true rfl, Nat.le_of_ble_eq_true rfl⟩) hS (fun v8 X8 H locs e8 f8 hW hS => ?_)
  have hi : xa_in X8 b q := by rw [f8]; exact xa_eq (xa_e (xa_bores_ok q b x X3).1) hi
  have hr0 : xa_r 705 X8 := by rw [f8]; exact (xa_bores_ok q b x X3).2 701 (by decide) hr0
  refine lv_iconst (v := 1) hx hb dX6_carries_11 (by decide) ?_
  refine nv_isub hx hb dX6_carries_12 (fun v12 e12 => ?_)
  refine xw_iret hx hb hr hlocks hW hS ?_ dX6_carries_13
  have hres : xa_cb q X b x = (v12, X8) := by subst f3 e8 f8 e12; rfl
  exact ⟨by rw [hres], by rw [hres], rfl⟩

set_option maxHeartbeats 4000000 in
theorem xc_ch (lQ : Launch) (G : wm_G) (o d0 : Nat) (X : mm_S) (E : mm_E) (D : xg) (b : Int32) (q : Nat) (hi : xa_in X b q) (hw : q = 2 ∨ q = 3 ∨ q = 4 ∨ q = 5) (x : Int32) (hr0 : xa_r 690 X) : xw_Met lQ G o d0 yX8_carries (ws_ yX8_carries cX8_carries 2 (some .int)) 6 X E D [Value.ref (xb_ D b), .int x] (some (.int (xa_ch q X b x).1)) (xa_ch q X b x).2 E := by
  refine xw_start (own := RX8) (by decide +kernel) (Nat.le_of_ble_eq_true rfl) rfl (fun pQ eQ sQ mQ belowQ methQ cQ hx hb hml hr hlocks hts hown hK hN H hW hS ls hl => ?_)
  have hl : lv_has ls 2 [(0, .ref (xb_ D b)), (1, .int x)] := hl
  generalize hlc : ([] : List Loc) = locs at hS ⊢
  refine lv_aload_n hx hb dX8_carries_0 rfl (lv_at hl 0 rfl) ?_
  refine lv_bipush (v := 30) hx hb dX8_carries_1 (by decide) ?_
  refine xw_v (xd_begins_X8 (rest := []) lQ ⟨hx, hb, hml, hown, hts⟩ hK hN hW hi hw 30 (hr0.le (by decide)) ⟨Nat.le_of_ble_eq_true rfl, Nat.le_of_ble_eq_true rfl⟩ hl.1 rfl (Nat.le_of_ble_eq_true rfl) dX8_carries_3 ⟨Nat.le_of_ble_eq_true rfl, Nat.le_of_ble_eq_true rfl⟩) hS (fun X3 H locs f3 hW hS => ?_)
  have hi : xa_in X3 b q := by rw [f3]; exact xa_eq (xa_e (xa_beg_fr X 30)) hi
  have hr0 : xa_r 691 X3 := by rw [f3]; exact xa_beg_r hr0 (by decide) 30
  refine lv_aload_n hx hb dX8_carries_6 rfl (lv_at hl 0 rfl) ?_
  refine lv_iload_n hx hb dX8_carries_7 rfl (lv_at hl 1 rfl) ?_
  refine xw_i (xw_rSX (As := [.int x]) (rest := []) (C := xk_C q) (n := 1) (x := ({ cls := "ThirtyThreeBelow$Way", name := "carries", desc := "(I)I" } : Jvm.MethodName)) (hK.1 _ _ (xk_cl q (xa_8 hW hi))).2 ⟨hx, hb, hml, hown, hts⟩ hK hN hW (xc_cb lQ G o d0 X3 E D b q hi x (hr0.le (by decide))) (lw_meth q1422) q93 q1407 q1419 q1420 ⟨rfl, rfl⟩ q571 (xs_sub1 hts q505 rfl) (xr_body hK hW hi.1 hi.2) (by decide +kernel) rfl ⟨Nat.le_of_ble_eq_true rfl, Nat.le_of_ble_eq_true rfl⟩ hl.1 rfl (Nat.le_of_ble_eq_true rfl) dX8_carries_8 ⟨Nat.le_of_ble_eq_true rfl, Nat.le_of_ble_eq_true rfl⟩) hS (fun v8 X8 H locs e8 f8 hW hS => ?_)
  have hi : xa_in X8 b q := by rw [f8]; exact xa_eq (xa_e (xa_cb_ok q b x X3).1) hi
  have hr0 : xa_r 696 X8 := by rw [f8]; exact (xa_cb_ok q b x X3).2 691 (by decide) hr0
  have hh : xh_in X8 b := ⟨hi.1, by rw [hi.2]; omega⟩
  refine lv_aload_n hx hb dX8_carries_11 rfl (lv_at hl 0 rfl) ?_
  refine xb_get hx hb hts hown hK hW hh.1 (k := 4) (xf_hole hh.2 (k := 4) (by decide)) q523 rfl (xb_vi (f := 62) (xf_hole hh.2 (k := 4) (by decide)) (by decide)) dX8_carries_12 ?_
  refine nv_iadd hx hb dX8_carries_15 (fun v15 e15 => ?_)
  refine xw_iret hx hb hr hlocks hW hS ?_ dX8_carries_16
  have hres : xa_ch q X b x = (v15, X8) := by subst f3 e8 f8 e15; rfl
  exact ⟨by rw [hres], by rw [hres], rfl⟩

set_option maxHeartbeats 4000000 in
theorem xc_cm (lQ : Launch) (G : wm_G) (o d0 : Nat) (X : mm_S) (E : mm_E) (D : xg) (b : Int32) (q : Nat) (hi : xa_in X b q) (hw : q = 7) (x : Int32) (hr0 : xa_r 690 X) : xw_Met lQ G o d0 yX13_carries (ws_ yX13_carries cX13_carries 2 (some .int)) 6 X E D [Value.ref (xb_ D b), .int x] (some (.int (xa_cm q X b x).1)) (xa_cm q X b x).2 E := by
  refine xw_start (own := RX13) (by decide +kernel) (Nat.le_of_ble_eq_true rfl) rfl (fun pQ eQ sQ mQ belowQ methQ cQ hx hb hml hr hlocks hts hown hK hN H hW hS ls hl => ?_)
  have hl : lv_has ls 2 [(0, .ref (xb_ D b)), (1, .int x)] := hl
  generalize hlc : ([] : List Loc) = locs at hS ⊢
  refine lv_aload_n hx hb dX13_carries_0 rfl (lv_at hl 0 rfl) ?_
  refine lv_bipush (v := 80) hx hb dX13_carries_1 (by decide) ?_
  refine xw_v (xd_begins_X13 (rest := []) lQ ⟨hx, hb, hml, hown, hts⟩ hK hN hW hi hw 80 (hr0.le (by decide)) ⟨Nat.le_of_ble_eq_true rfl, Nat.le_of_ble_eq_true rfl⟩ hl.1 rfl (Nat.le_of_ble_eq_true rfl) dX13_carries_3 ⟨Nat.le_of_ble_eq_true rfl, Nat.le_of_ble_eq_true rfl⟩) hS (fun X3 H locs f3 hW hS => ?_)
  have hi : xa_in X3 b q := by rw [f3]; exact xa_eq (xa_e (xa_beg_fr X 80)) hi
  have hr0 : xa_r 691 X3 := by rw [f3]; exact xa_beg_r hr0 (by decide) 80
  refine lv_aload_n hx hb dX13_carries_6 rfl (lv_at hl 0 rfl) ?_
  refine lv_iload_n hx hb dX13_carries_7 rfl (lv_at hl 1 rfl) ?_
  refine xw_i (xw_rSU (As := [.int x]) (rest := []) (C := xk_C q) (n := 1) (hK.1 _ _ (xk_cl q (xa_8 hW hi))).2 ⟨hx, hb, hml, hown, hts⟩ hK hN hW (xc_cb lQ G o d0 X3 E D b q hi x (hr0.le (by decide))) (lw_app (List.forall_mem_cons.mpr ⟨q1431, List.forall_mem_cons.mpr ⟨q1409, List.forall_mem_cons.mpr ⟨q718, List.forall_mem_cons.mpr ⟨q1407, List.forall_mem_cons.mpr ⟨q93, fun _ h => absurd h List.not_mem_nil⟩⟩⟩⟩⟩) (lw_meth q1422)) (xr_body hK hW hi.1 hi.2) (by decide +kernel) rfl ⟨Nat.le_of_ble_eq_true rfl, Nat.le_of_ble_eq_true rfl⟩ hl.1 rfl (Nat.le_of_ble_eq_true rfl) dX13_carries_8 ⟨Nat.le_of_ble_eq_true rfl, Nat.le_of_ble_eq_true rfl⟩) hS (fun v8 X8 H locs e8 f8 hW hS => ?_)
  have hi : xa_in X8 b q := by rw [f8]; exact xa_eq (xa_e (xa_cb_ok q b x X3).1) hi
  have hr0 : xa_r 696 X8 := by rw [f8]; exact (xa_cb_ok q b x X3).2 691 (by decide) hr0
  have hh : xm_in X8 b := ⟨hi.1, by rw [hi.2]; exact hw⟩
  refine lv_aload_n hx hb dX13_carries_11 rfl (lv_at hl 0 rfl) ?_
  refine xb_get hx hb hts hown hK hW hh.1 (k := 2) (xf_man hh.2 (k := 2) (by decide)) q698 rfl (xb_vi (f := 77) (xf_man hh.2 (k := 2) (by decide)) (by decide)) dX13_carries_12 ?_
  refine nv_isub hx hb dX13_carries_15 (fun v15 e15 => ?_)
  refine xw_iret hx hb hr hlocks hW hS ?_ dX13_carries_16
  have hres : xa_cm q X b x = (v15, X8) := by subst f3 e8 f8 e15; rfl
  exact ⟨by rw [hres], by rw [hres], rfl⟩

section XD12
variable {p : Program} {l : Launch} {e : Env} {R : Room} {s : State} {m : MethodId} {args : Array Value} {below : List Frame} {meth : Method} {c : Code} {H : Heap} {locs : List Loc} {cells slots : Nat} {Q : State → Prop}
variable {cc : ByteArray} {pc : Nat} {ls : Array Slot} {rest st0 : List Value} {G : wm_G} {o d0 : Nat} {H0 : Heap} {X : mm_S} {E : mm_E} {D : xg} {nL : Nat}
set_option maxHeartbeats 4000000 in
theorem xd_carries_X0 (l : Launch) (F : CallFix p m c cc nL s args lw_all RX0) (hK : wm_K G s) (hN : xn_T s) (hW : xx_W G o d0 X E D H) {b : Int32} {q : Nat} (hi : xa_in X b q) (hk : q < 8) (x : Int32) (hr0 : xa_r 650 X) (hR : 7 ≤ R.frames ∧ 381 ≤ R.locals) (hsz : ls.size = nL) (hst : st0 = ([.int x] : List Value).reverse ++ .ref (xb_ D b) :: rest) (hrest : (rest.map fun v => v.category).sum ≤ 8) (hd : decode cc pc = .ok (.invokevirtual 536, 3)) (hroom : cells ≤ R.cells ∧ slots ≤ R.slots) : xw_Run p l e R s m args below meth c H locs cells slots (F0 m pc ls st0) rest G o d0 D (some (.int (xa_carries q X b x).1)) (xa_carries q X b x).2 E := by
  have hk : q = 0 ∨ q = 1 ∨ q = 2 ∨ q = 3 ∨ q = 4 ∨ q = 5 ∨ q = 6 ∨ q = 7 := by omega
  rcases hk with rfl | rfl | rfl | rfl | rfl | rfl | rfl | rfl
  · exact xw_rU (C := RX6) (owner := "ThirtyThreeBelow$Body") (x := ({ cls := "ThirtyThreeBelow$Body", name := "carries", desc := "(I)I" } : Jvm.MethodName)) (n := 1) F hK hN hW (xc_cb l G o d0 X E D b 0 hi x (hr0.le (by decide))) (lw_app (List.forall_mem_cons.mpr ⟨q1406, List.forall_mem_cons.mpr ⟨q1409, List.forall_mem_cons.mpr ⟨q1408, List.forall_mem_cons.mpr ⟨q1407, List.forall_mem_cons.mpr ⟨q93, fun _ h => absurd h List.not_mem_nil⟩⟩⟩⟩⟩) (lw_meth q1422)) rfl (xr_body hK hW hi.1 hi.2) (by decide +kernel) rfl ⟨Nat.le_trans (by decide) hR.1, Nat.le_trans (by decide) hR.2⟩ hsz hst hrest hd hroom
  · exact xw_rU (C := RX7) (owner := "ThirtyThreeBelow$Body") (x := ({ cls := "ThirtyThreeBelow$Body", name := "carries", desc := "(I)I" } : Jvm.MethodName)) (n := 1) F hK hN hW (xc_cb l G o d0 X E D b 1 hi x (hr0.le (by decide))) (lw_app (List.forall_mem_cons.mpr ⟨q1406, List.forall_mem_cons.mpr ⟨q1409, List.forall_mem_cons.mpr ⟨q1435, List.forall_mem_cons.mpr ⟨q1407, List.forall_mem_cons.mpr ⟨q93, fun _ h => absurd h List.not_mem_nil⟩⟩⟩⟩⟩) (lw_meth q1422)) rfl (xr_body hK hW hi.1 hi.2) (by decide +kernel) rfl ⟨Nat.le_trans (by decide) hR.1, Nat.le_trans (by decide) hR.2⟩ hsz hst hrest hd hroom
  · exact xw_rO (C := RX8) (owner := "ThirtyThreeBelow$Body") (x := ({ cls := "ThirtyThreeBelow$Body", name := "carries", desc := "(I)I" } : Jvm.MethodName)) (n := 1) F hK hN hW (xc_ch l G o d0 X E D b 2 hi (by decide) x (hr0.le (by decide))) (lw_app (List.forall_mem_cons.mpr ⟨q1406, List.forall_mem_cons.mpr ⟨q1409, List.forall_mem_cons.mpr ⟨q1407, List.forall_mem_cons.mpr ⟨q1410, List.forall_mem_cons.mpr ⟨q1411, List.forall_mem_cons.mpr ⟨q95, fun _ h => absurd h List.not_mem_nil⟩⟩⟩⟩⟩⟩) (lw_meth q1412)) q1422 (xr_body hK hW hi.1 hi.2) (by decide +kernel) rfl ⟨Nat.le_trans (by decide) hR.1, Nat.le_trans (by decide) hR.2⟩ hsz hst hrest hd hroom
  · exact xw_rO (C := RX9) (owner := "ThirtyThreeBelow$Body") (x := ({ cls := "ThirtyThreeBelow$Body", name := "carries", desc := "(I)I" } : Jvm.MethodName)) (n := 1) F hK hN hW (xc_ch l G o d0 X E D b 3 hi (by decide) x (hr0.le (by decide))) (lw_app (List.forall_mem_cons.mpr ⟨q1406, List.forall_mem_cons.mpr ⟨q1409, List.forall_mem_cons.mpr ⟨q1407, List.forall_mem_cons.mpr ⟨q1434, List.forall_mem_cons.mpr ⟨q1411, List.forall_mem_cons.mpr ⟨q95, fun _ h => absurd h List.not_mem_nil⟩⟩⟩⟩⟩⟩) (lw_meth q1412)) q1422 (xr_body hK hW hi.1 hi.2) (by decide +kernel) rfl ⟨Nat.le_trans (by decide) hR.1, Nat.le_trans (by decide) hR.2⟩ hsz hst hrest hd hroom
  · exact xw_rO (C := RX10) (owner := "ThirtyThreeBelow$Body") (x := ({ cls := "ThirtyThreeBelow$Body", name := "carries", desc := "(I)I" } : Jvm.MethodName)) (n := 1) F hK hN hW (xc_ch l G o d0 X E D b 4 hi (by decide) x (hr0.le (by decide))) (lw_app (List.forall_mem_cons.mpr ⟨q1406, List.forall_mem_cons.mpr ⟨q1409, List.forall_mem_cons.mpr ⟨q1407, List.forall_mem_cons.mpr ⟨q1432, List.forall_mem_cons.mpr ⟨q1411, List.forall_mem_cons.mpr ⟨q95, fun _ h => absurd h List.not_mem_nil⟩⟩⟩⟩⟩⟩) (lw_meth q1412)) q1422 (xr_body hK hW hi.1 hi.2) (by decide +kernel) rfl ⟨Nat.le_trans (by decide) hR.1, Nat.le_trans (by decide) hR.2⟩ hsz hst hrest hd hroom
  · exact xw_rO (C := RX11) (owner := "ThirtyThreeBelow$Body") (x := ({ cls := "ThirtyThreeBelow$Body", name := "carries", desc := "(I)I" } : Jvm.MethodName)) (n := 1) F hK hN hW (xc_ch l G o d0 X E D b 5 hi (by decide) x (hr0.le (by decide))) (lw_app (List.forall_mem_cons.mpr ⟨q1406, List.forall_mem_cons.mpr ⟨q1409, List.forall_mem_cons.mpr ⟨q1407, List.forall_mem_cons.mpr ⟨q1424, List.forall_mem_cons.mpr ⟨q1411, List.forall_mem_cons.mpr ⟨q95, fun _ h => absurd h List.not_mem_nil⟩⟩⟩⟩⟩⟩) (lw_meth q1412)) q1422 (xr_body hK hW hi.1 hi.2) (by decide +kernel) rfl ⟨Nat.le_trans (by decide) hR.1, Nat.le_trans (by decide) hR.2⟩ hsz hst hrest hd hroom
  · exact xw_rU (C := RX12) (owner := "ThirtyThreeBelow$Body") (x := ({ cls := "ThirtyThreeBelow$Body", name := "carries", desc := "(I)I" } : Jvm.MethodName)) (n := 1) F hK hN hW (xc_cb l G o d0 X E D b 6 hi x (hr0.le (by decide))) (lw_app (List.forall_mem_cons.mpr ⟨q1406, List.forall_mem_cons.mpr ⟨q1409, List.forall_mem_cons.mpr ⟨q1433, List.forall_mem_cons.mpr ⟨q1407, List.forall_mem_cons.mpr ⟨q93, fun _ h => absurd h List.not_mem_nil⟩⟩⟩⟩⟩) (lw_meth q1422)) rfl (xr_body hK hW hi.1 hi.2) (by decide +kernel) rfl ⟨Nat.le_trans (by decide) hR.1, Nat.le_trans (by decide) hR.2⟩ hsz hst hrest hd hroom
  · exact xw_rO (C := RX13) (owner := "ThirtyThreeBelow$Body") (x := ({ cls := "ThirtyThreeBelow$Body", name := "carries", desc := "(I)I" } : Jvm.MethodName)) (n := 1) F hK hN hW (xc_cm l G o d0 X E D b 7 hi rfl x (hr0.le (by decide))) (lw_app (List.forall_mem_cons.mpr ⟨q1406, List.forall_mem_cons.mpr ⟨q1409, List.forall_mem_cons.mpr ⟨q1407, List.forall_mem_cons.mpr ⟨q1425, List.forall_mem_cons.mpr ⟨q1426, List.forall_mem_cons.mpr ⟨q100, fun _ h => absurd h List.not_mem_nil⟩⟩⟩⟩⟩⟩) (lw_meth q1427)) q1422 (xr_body hK hW hi.1 hi.2) (by decide +kernel) rfl ⟨Nat.le_trans (by decide) hR.1, Nat.le_trans (by decide) hR.2⟩ hsz hst hrest hd hroom

set_option maxHeartbeats 4000000 in
theorem xd_carries_X9 (l : Launch) (F : CallFix p m c cc nL s args lw_all RX9) (hK : wm_K G s) (hN : xn_T s) (hW : xx_W G o d0 X E D H) {b : Int32} {q : Nat} (hi : xa_in X b q) (hk : q = 3) (x : Int32) (hr0 : xa_r 650 X) (hR : 7 ≤ R.frames ∧ 381 ≤ R.locals) (hsz : ls.size = nL) (hst : st0 = ([.int x] : List Value).reverse ++ .ref (xb_ D b) :: rest) (hrest : (rest.map fun v => v.category).sum ≤ 8) (hd : decode cc pc = .ok (.invokevirtual 25, 3)) (hroom : cells ≤ R.cells ∧ slots ≤ R.slots) : xw_Run p l e R s m args below meth c H locs cells slots (F0 m pc ls st0) rest G o d0 D (some (.int (xa_carries q X b x).1)) (xa_carries q X b x).2 E := by
  subst hk
  · exact xw_rU (C := RX9) (owner := "ThirtyThreeBelow$Hole") (x := ({ cls := "ThirtyThreeBelow$Tube", name := "carries", desc := "(I)I" } : Jvm.MethodName)) (n := 1) F hK hN hW (xc_ch l G o d0 X E D b 3 hi (by decide) x (hr0.le (by decide))) (lw_app (List.forall_mem_cons.mpr ⟨q1467, List.forall_mem_cons.mpr ⟨q1468, List.forall_mem_cons.mpr ⟨q1470, List.forall_mem_cons.mpr ⟨q1411, List.forall_mem_cons.mpr ⟨q95, fun _ h => absurd h List.not_mem_nil⟩⟩⟩⟩⟩) (lw_meth q1412)) rfl (xr_body hK hW hi.1 hi.2) (by decide +kernel) rfl ⟨Nat.le_trans (by decide) hR.1, Nat.le_trans (by decide) hR.2⟩ hsz hst hrest hd hroom

set_option maxHeartbeats 4000000 in
theorem xd_carries_X20 (l : Launch) (F : CallFix p m c cc nL s args lw_all RX20) (hK : wm_K G s) (hN : xn_T s) (hW : xx_W G o d0 X E D H) {b : Int32} {q : Nat} (hi : xa_in X b q) (hk : q < 8) (x : Int32) (hr0 : xa_r 650 X) (hR : 7 ≤ R.frames ∧ 381 ≤ R.locals) (hsz : ls.size = nL) (hst : st0 = ([.int x] : List Value).reverse ++ .ref (xb_ D b) :: rest) (hrest : (rest.map fun v => v.category).sum ≤ 8) (hd : decode cc pc = .ok (.invokeinterface 7 2, 5)) (hroom : cells ≤ R.cells ∧ slots ≤ R.slots) : xw_Run5 p l e R s m args below meth c H locs cells slots (F0 m pc ls st0) rest G o d0 D (some (.int (xa_carries q X b x).1)) (xa_carries q X b x).2 E := by
  have hk : q = 0 ∨ q = 1 ∨ q = 2 ∨ q = 3 ∨ q = 4 ∨ q = 5 ∨ q = 6 ∨ q = 7 := by omega
  rcases hk with rfl | rfl | rfl | rfl | rfl | rfl | rfl | rfl
  · exact xw_rF (C := RX6) (x := ({ cls := "ThirtyThreeBelow$Tells", name := "carries", desc := "(I)I" } : Jvm.MethodName)) (n := 1) (hK.1 _ _ (xk_cl 0 (by decide))).2 F hK hN hW (xc_cb l G o d0 X E D b 0 hi x (hr0.le (by decide))) (lw_app (List.forall_mem_cons.mpr ⟨q1501, List.forall_mem_cons.mpr ⟨q1504, List.forall_mem_cons.mpr ⟨q1407, List.forall_mem_cons.mpr ⟨q93, fun _ h => absurd h List.not_mem_nil⟩⟩⟩⟩) (lw_meth q1422)) (hN.fw (C := RX6) (x := ({ cls := "ThirtyThreeBelow$Tells", name := "carries", desc := "(I)I" } : Jvm.MethodName)) (y := yX6_carries) ⟨by decide, by decide⟩ q1503 q1502 q1506 q1505 q1484) (xr_body hK hW hi.1 hi.2) (by decide +kernel) rfl ⟨Nat.le_trans (by decide) hR.1, Nat.le_trans (by decide) hR.2⟩ hsz hst hrest hd hroom
  · exact xw_rF (C := RX7) (x := ({ cls := "ThirtyThreeBelow$Tells", name := "carries", desc := "(I)I" } : Jvm.MethodName)) (n := 1) (hK.1 _ _ (xk_cl 1 (by decide))).2 F hK hN hW (xc_cb l G o d0 X E D b 1 hi x (hr0.le (by decide))) (lw_app (List.forall_mem_cons.mpr ⟨q1501, List.forall_mem_cons.mpr ⟨q1521, List.forall_mem_cons.mpr ⟨q1407, List.forall_mem_cons.mpr ⟨q93, fun _ h => absurd h List.not_mem_nil⟩⟩⟩⟩) (lw_meth q1422)) (hN.fw (C := RX7) (x := ({ cls := "ThirtyThreeBelow$Tells", name := "carries", desc := "(I)I" } : Jvm.MethodName)) (y := yX6_carries) ⟨by decide, by decide⟩ q1503 q1502 q1506 q1522 q1498) (xr_body hK hW hi.1 hi.2) (by decide +kernel) rfl ⟨Nat.le_trans (by decide) hR.1, Nat.le_trans (by decide) hR.2⟩ hsz hst hrest hd hroom
  · exact xw_rF (C := RX8) (x := ({ cls := "ThirtyThreeBelow$Tells", name := "carries", desc := "(I)I" } : Jvm.MethodName)) (n := 1) (hK.1 _ _ (xk_cl 2 (by decide))).2 F hK hN hW (xc_ch l G o d0 X E D b 2 hi (by decide) x (hr0.le (by decide))) (lw_app (List.forall_mem_cons.mpr ⟨q1501, List.forall_mem_cons.mpr ⟨q1507, List.forall_mem_cons.mpr ⟨q1411, List.forall_mem_cons.mpr ⟨q95, fun _ h => absurd h List.not_mem_nil⟩⟩⟩⟩) (lw_meth q1412)) (hN.fw (C := RX8) (x := ({ cls := "ThirtyThreeBelow$Tells", name := "carries", desc := "(I)I" } : Jvm.MethodName)) (y := yX8_carries) ⟨by decide, by decide⟩ q1503 q1502 q1509 q1508 q1486) (xr_body hK hW hi.1 hi.2) (by decide +kernel) rfl ⟨Nat.le_trans (by decide) hR.1, Nat.le_trans (by decide) hR.2⟩ hsz hst hrest hd hroom
  · exact xw_rF (C := RX9) (x := ({ cls := "ThirtyThreeBelow$Tells", name := "carries", desc := "(I)I" } : Jvm.MethodName)) (n := 1) (hK.1 _ _ (xk_cl 3 (by decide))).2 F hK hN hW (xc_ch l G o d0 X E D b 3 hi (by decide) x (hr0.le (by decide))) (lw_app (List.forall_mem_cons.mpr ⟨q1501, List.forall_mem_cons.mpr ⟨q1519, List.forall_mem_cons.mpr ⟨q1411, List.forall_mem_cons.mpr ⟨q95, fun _ h => absurd h List.not_mem_nil⟩⟩⟩⟩) (lw_meth q1412)) (hN.fw (C := RX9) (x := ({ cls := "ThirtyThreeBelow$Tells", name := "carries", desc := "(I)I" } : Jvm.MethodName)) (y := yX8_carries) ⟨by decide, by decide⟩ q1503 q1502 q1509 q1520 q1496) (xr_body hK hW hi.1 hi.2) (by decide +kernel) rfl ⟨Nat.le_trans (by decide) hR.1, Nat.le_trans (by decide) hR.2⟩ hsz hst hrest hd hroom
  · exact xw_rF (C := RX10) (x := ({ cls := "ThirtyThreeBelow$Tells", name := "carries", desc := "(I)I" } : Jvm.MethodName)) (n := 1) (hK.1 _ _ (xk_cl 4 (by decide))).2 F hK hN hW (xc_ch l G o d0 X E D b 4 hi (by decide) x (hr0.le (by decide))) (lw_app (List.forall_mem_cons.mpr ⟨q1501, List.forall_mem_cons.mpr ⟨q1515, List.forall_mem_cons.mpr ⟨q1411, List.forall_mem_cons.mpr ⟨q95, fun _ h => absurd h List.not_mem_nil⟩⟩⟩⟩) (lw_meth q1412)) (hN.fw (C := RX10) (x := ({ cls := "ThirtyThreeBelow$Tells", name := "carries", desc := "(I)I" } : Jvm.MethodName)) (y := yX8_carries) ⟨by decide, by decide⟩ q1503 q1502 q1509 q1516 q1492) (xr_body hK hW hi.1 hi.2) (by decide +kernel) rfl ⟨Nat.le_trans (by decide) hR.1, Nat.le_trans (by decide) hR.2⟩ hsz hst hrest hd hroom
  · exact xw_rF (C := RX11) (x := ({ cls := "ThirtyThreeBelow$Tells", name := "carries", desc := "(I)I" } : Jvm.MethodName)) (n := 1) (hK.1 _ _ (xk_cl 5 (by decide))).2 F hK hN hW (xc_ch l G o d0 X E D b 5 hi (by decide) x (hr0.le (by decide))) (lw_app (List.forall_mem_cons.mpr ⟨q1501, List.forall_mem_cons.mpr ⟨q1510, List.forall_mem_cons.mpr ⟨q1411, List.forall_mem_cons.mpr ⟨q95, fun _ h => absurd h List.not_mem_nil⟩⟩⟩⟩) (lw_meth q1412)) (hN.fw (C := RX11) (x := ({ cls := "ThirtyThreeBelow$Tells", name := "carries", desc := "(I)I" } : Jvm.MethodName)) (y := yX8_carries) ⟨by decide, by decide⟩ q1503 q1502 q1509 q1511 q1488) (xr_body hK hW hi.1 hi.2) (by decide +kernel) rfl ⟨Nat.le_trans (by decide) hR.1, Nat.le_trans (by decide) hR.2⟩ hsz hst hrest hd hroom
  · exact xw_rF (C := RX12) (x := ({ cls := "ThirtyThreeBelow$Tells", name := "carries", desc := "(I)I" } : Jvm.MethodName)) (n := 1) (hK.1 _ _ (xk_cl 6 (by decide))).2 F hK hN hW (xc_cb l G o d0 X E D b 6 hi x (hr0.le (by decide))) (lw_app (List.forall_mem_cons.mpr ⟨q1501, List.forall_mem_cons.mpr ⟨q1517, List.forall_mem_cons.mpr ⟨q1407, List.forall_mem_cons.mpr ⟨q93, fun _ h => absurd h List.not_mem_nil⟩⟩⟩⟩) (lw_meth q1422)) (hN.fw (C := RX12) (x := ({ cls := "ThirtyThreeBelow$Tells", name := "carries", desc := "(I)I" } : Jvm.MethodName)) (y := yX6_carries) ⟨by decide, by decide⟩ q1503 q1502 q1506 q1518 q1494) (xr_body hK hW hi.1 hi.2) (by decide +kernel) rfl ⟨Nat.le_trans (by decide) hR.1, Nat.le_trans (by decide) hR.2⟩ hsz hst hrest hd hroom
  · exact xw_rF (C := RX13) (x := ({ cls := "ThirtyThreeBelow$Tells", name := "carries", desc := "(I)I" } : Jvm.MethodName)) (n := 1) (hK.1 _ _ (xk_cl 7 (by decide))).2 F hK hN hW (xc_cm l G o d0 X E D b 7 hi rfl x (hr0.le (by decide))) (lw_app (List.forall_mem_cons.mpr ⟨q1501, List.forall_mem_cons.mpr ⟨q1512, List.forall_mem_cons.mpr ⟨q1426, List.forall_mem_cons.mpr ⟨q100, fun _ h => absurd h List.not_mem_nil⟩⟩⟩⟩) (lw_meth q1427)) (hN.fw (C := RX13) (x := ({ cls := "ThirtyThreeBelow$Tells", name := "carries", desc := "(I)I" } : Jvm.MethodName)) (y := yX13_carries) ⟨by decide, by decide⟩ q1503 q1502 q1514 q1513 q1490) (xr_body hK hW hi.1 hi.2) (by decide +kernel) rfl ⟨Nat.le_trans (by decide) hR.1, Nat.le_trans (by decide) hR.2⟩ hsz hst hrest hd hroom

end XD12
set_option maxHeartbeats 4000000 in
theorem xc_hb (lQ : Launch) (G : wm_G) (o d0 : Nat) (X : mm_S) (E : mm_E) (D : xg) (b : Int32) (q : Nat) (hi : xa_in X b q) (x : Int32) (hr0 : xa_r 850 X) : xw_Met lQ G o d0 yX6_holds (ws_ yX6_holds cX6_holds 2 (some .int)) 1 X E D [Value.ref (xb_ D b), .int x] (some (.int (xa_hb X b x).1)) (xa_hb X b x).2 E := by
  refine xw_start (own := RX6) (by decide +kernel) (Nat.le_of_ble_eq_true rfl) rfl (fun pQ eQ sQ mQ belowQ methQ cQ hx hb hml hr hlocks hts hown hK hN H hW hS ls hl => ?_)
  have hl : lv_has ls 2 [(0, .ref (xb_ D b)), (1, .int x)] := hl
  generalize hlc : ([] : List Loc) = locs at hS ⊢
  refine lv_aload_n hx hb dX6_holds_0 rfl (lv_at hl 0 rfl) ?_
  refine lv_bipush (v := 11) hx hb dX6_holds_1 (by decide) ?_
  refine xw_v (xd_begins_X6 (rest := []) lQ ⟨hx, hb, hml, hown, hts⟩ hK hN hW hi (xa_8 hW hi) 11 (hr0.le (by decide)) ⟨Nat.le_of_ble_eq_true rfl, Nat.le_of_ble_eq_true rfl⟩ hl.1 rfl (Nat.le_of_ble_eq_true rfl) dX6_holds_3 ⟨Nat.le_of_ble_eq_true rfl, Nat.le_of_ble_eq_true rfl⟩) hS (fun X3 H locs f3 hW hS => ?_)
  have hi : xa_in X3 b q := by rw [f3]; exact xa_eq (xa_e (xa_beg_fr X 11)) hi
  have hr0 : xa_r 851 X3 := by rw [f3]; exact xa_beg_r hr0 (by decide) 11
  refine lv_iload_n hx hb dX6_holds_6 rfl (lv_at hl 1 rfl) ?_
  refine lv_aload_n hx hb dX6_holds_7 rfl (lv_at hl 0 rfl) ?_
  refine xb_get hx hb hts hown hK hW hi.1 (k := 0) (xf_body _ (xq_lt hW hi.1) 0 (by decide)) q486 rfl (xb_vn hi.1.1) dX6_holds_8 ?_
  refine nv_ixor hx hb dX6_holds_11 (fun v11 e11 => ?_)
  refine xw_iret hx hb hr hlocks hW hS ?_ dX6_holds_12
  have hres : xa_hb X b x = (v11, X3) := by subst f3 e11; rfl
  exact ⟨by rw [hres], by rw [hres], rfl⟩

set_option maxHeartbeats 4000000 in
theorem xc_ht (lQ : Launch) (G : wm_G) (o d0 : Nat) (X : mm_S) (E : mm_E) (D : xg) (b : Int32) (q : Nat) (hi : xa_in X b q) (hw : q = 3) (x : Int32) (hr0 : xa_r 600 X) : xw_Met lQ G o d0 yX9_holds (ws_ yX9_holds cX9_holds 3 (some .int)) 7 X E D [Value.ref (xb_ D b), .int x] (some (.int (xa_ht q X b x).1)) (xa_ht q X b x).2 E := by
  refine xw_start (own := RX9) (by decide +kernel) (Nat.le_of_ble_eq_true rfl) rfl (fun pQ eQ sQ mQ belowQ methQ cQ hx hb hml hr hlocks hts hown hK hN H hW hS ls hl => ?_)
  have hl : lv_has ls 3 [(0, .ref (xb_ D b)), (1, .int x)] := hl
  generalize hlc : ([] : List Loc) = locs at hS ⊢
  refine lv_aload_n hx hb dX9_holds_0 rfl (lv_at hl 0 rfl) ?_
  refine lv_bipush (v := 40) hx hb dX9_holds_1 (by decide) ?_
  refine xw_v (xd_begins_X9 (rest := []) lQ ⟨hx, hb, hml, hown, hts⟩ hK hN hW hi hw 40 (hr0.le (by decide)) ⟨Nat.le_of_ble_eq_true rfl, Nat.le_of_ble_eq_true rfl⟩ hl.1 rfl (Nat.le_of_ble_eq_true rfl) dX9_holds_3 ⟨Nat.le_of_ble_eq_true rfl, Nat.le_of_ble_eq_true rfl⟩) hS (fun X3 H locs f3 hW hS => ?_)
  have hi : xa_in X3 b q := by rw [f3]; exact xa_eq (xa_e (xa_beg_fr X 40)) hi
  have hr0 : xa_r 601 X3 := by rw [f3]; exact xa_beg_r hr0 (by decide) 40
  refine lv_aload_n hx hb dX9_holds_6 rfl (lv_at hl 0 rfl) ?_
  refine lv_iload_n hx hb dX9_holds_7 rfl (lv_at hl 1 rfl) ?_
  refine xw_i (xw_rSX (As := [.int x]) (rest := []) (C := xk_C q) (n := 1) (x := ({ cls := "ThirtyThreeBelow$Hole", name := "holds", desc := "(I)I" } : Jvm.MethodName)) (hK.1 _ _ (xk_cl q (xa_8 hW hi))).2 ⟨hx, hb, hml, hown, hts⟩ hK hN hW (xc_hb lQ G o d0 X3 E D b q hi x (hr0.le (by decide))) (lw_meth q1447) q93 q1437 q1465 q1466 ⟨rfl, rfl⟩ q599 (xs_sub hts (hN.ca q2443) q571 q493 rfl) (xr_body hK hW hi.1 hi.2) (by decide +kernel) rfl ⟨Nat.le_of_ble_eq_true rfl, Nat.le_of_ble_eq_true rfl⟩ hl.1 rfl (Nat.le_of_ble_eq_true rfl) dX9_holds_8 ⟨Nat.le_of_ble_eq_true rfl, Nat.le_of_ble_eq_true rfl⟩) hS (fun v8 X8 H locs e8 f8 hW hS => ?_)
  have hi : xa_in X8 b q := by rw [f8]; exact xa_eq (xa_e (xa_hb_ok b x X3).1) hi
  have hr0 : xa_r 602 X8 := by rw [f8]; exact (xa_hb_ok b x X3).2 601 (by decide) hr0
  refine lv_istore_n (lv' := [(2, .int v8), (0, .ref (xb_ D b)), (1, .int x)]) hx hb dX9_holds_11 rfl hl (by decide) rfl (fun ls hl => ?_)
  refine lv_iload_n hx hb dX9_holds_12 rfl (lv_at hl 0 rfl) ?_
  refine lv_aload_n hx hb dX9_holds_13 rfl (lv_at hl 1 rfl) ?_
  refine lv_iconst (v := 1) hx hb dX9_holds_14 (by decide) ?_
  refine xw_i (xd_carries_X9 (rest := [.int v8]) lQ ⟨hx, hb, hml, hown, hts⟩ hK hN hW hi hw 1 (hr0.le (by decide)) ⟨Nat.le_of_ble_eq_true rfl, Nat.le_of_ble_eq_true rfl⟩ hl.1 rfl (Nat.le_of_ble_eq_true rfl) dX9_holds_15 ⟨Nat.le_of_ble_eq_true rfl, Nat.le_of_ble_eq_true rfl⟩) hS (fun v15 X15 H locs e15 f15 hW hS => ?_)
  have hi : xa_in X15 b q := by rw [f15]; exact xa_eq (xa_e (xa_carries_ok q b 1 X8).1) hi
  have hr0 : xa_r 608 X15 := by rw [f15]; exact (xa_carries_ok q b 1 X8).2 602 (by decide) hr0
  refine nv_isub hx hb dX9_holds_18 (fun v18 e18 => ?_)
  refine xw_iret hx hb hr hlocks hW hS ?_ dX9_holds_19
  have hres : xa_ht q X b x = (v18, X15) := by subst f3 e8 f8 e15 f15 e18; rfl
  exact ⟨by rw [hres], by rw [hres], rfl⟩

set_option maxHeartbeats 4000000 in
theorem xc_hl (lQ : Launch) (G : wm_G) (o d0 : Nat) (X : mm_S) (E : mm_E) (D : xg) (b : Int32) (q : Nat) (hi : xa_in X b q) (hw : q = 5) (x : Int32) (hr0 : xa_r 600 X) : xw_Met lQ G o d0 yX11_holds (ws_ yX11_holds cX11_holds 2 (some .int)) 2 X E D [Value.ref (xb_ D b), .int x] (some (.int (xa_hl X b x).1)) (xa_hl X b x).2 E := by
  refine xw_start (own := RX11) (by decide +kernel) (Nat.le_of_ble_eq_true rfl) rfl (fun pQ eQ sQ mQ belowQ methQ cQ hx hb hml hr hlocks hts hown hK hN H hW hS ls hl => ?_)
  have hl : lv_has ls 2 [(0, .ref (xb_ D b)), (1, .int x)] := hl
  generalize hlc : ([] : List Loc) = locs at hS ⊢
  refine lv_aload_n hx hb dX11_holds_0 rfl (lv_at hl 0 rfl) ?_
  refine lv_bipush (v := 60) hx hb dX11_holds_1 (by decide) ?_
  refine xw_v (xd_begins_X11 (rest := []) lQ ⟨hx, hb, hml, hown, hts⟩ hK hN hW hi hw 60 (hr0.le (by decide)) ⟨Nat.le_of_ble_eq_true rfl, Nat.le_of_ble_eq_true rfl⟩ hl.1 rfl (Nat.le_of_ble_eq_true rfl) dX11_holds_3 ⟨Nat.le_of_ble_eq_true rfl, Nat.le_of_ble_eq_true rfl⟩) hS (fun X3 H locs f3 hW hS => ?_)
  have hi : xa_in X3 b q := by rw [f3]; exact xa_eq (xa_e (xa_beg_fr X 60)) hi
  have hr0 : xa_r 601 X3 := by rw [f3]; exact xa_beg_r hr0 (by decide) 60
  refine lv_aload_n hx hb dX11_holds_6 rfl (lv_at hl 0 rfl) ?_
  refine lv_iload_n hx hb dX11_holds_7 rfl (lv_at hl 1 rfl) ?_
  refine xw_i (xw_rSX (As := [.int x]) (rest := []) (C := xk_C q) (n := 1) (x := ({ cls := "ThirtyThreeBelow$Shaft", name := "holds", desc := "(I)I" } : Jvm.MethodName)) (hK.1 _ _ (xk_cl q (xa_8 hW hi))).2 ⟨hx, hb, hml, hown, hts⟩ hK hN hW (xc_hb lQ G o d0 X3 E D b q hi x (hr0.le (by decide))) (lw_meth q1447) q93 q1437 q1444 q1445 ⟨rfl, rfl⟩ q650 (xs_sub hts (hN.ca q2446) q624 q493 rfl) (xr_body hK hW hi.1 hi.2) (by decide +kernel) rfl ⟨Nat.le_of_ble_eq_true rfl, Nat.le_of_ble_eq_true rfl⟩ hl.1 rfl (Nat.le_of_ble_eq_true rfl) dX11_holds_8 ⟨Nat.le_of_ble_eq_true rfl, Nat.le_of_ble_eq_true rfl⟩) hS (fun v8 X8 H locs e8 f8 hW hS => ?_)
  have hi : xa_in X8 b q := by rw [f8]; exact xa_eq (xa_e (xa_hb_ok b x X3).1) hi
  have hr0 : xa_r 602 X8 := by rw [f8]; exact (xa_hb_ok b x X3).2 601 (by decide) hr0
  refine nv_ineg hx hb dX11_holds_11 (fun v11 e11 => ?_)
  refine xw_iret hx hb hr hlocks hW hS ?_ dX11_holds_12
  have hres : xa_hl X b x = (v11, X8) := by subst f3 e8 f8 e11; rfl
  exact ⟨by rw [hres], by rw [hres], rfl⟩

set_option maxHeartbeats 4000000 in
theorem xc_hs (lQ : Launch) (G : wm_G) (o d0 : Nat) (X : mm_S) (E : mm_E) (D : xg) (b : Int32) (q : Nat) (hi : xa_in X b q) (hw : q = 6) (x : Int32) (hr0 : xa_r 600 X) : xw_Met lQ G o d0 yX12_holds (ws_ yX12_holds cX12_holds 3 (some .int)) 6 X E D [Value.ref (xb_ D b), .int x] (some (.int (xa_hs q X b x).1)) (xa_hs q X b x).2 E := by
  refine xw_start (own := RX12) (by decide +kernel) (Nat.le_of_ble_eq_true rfl) rfl (fun pQ eQ sQ mQ belowQ methQ cQ hx hb hml hr hlocks hts hown hK hN H hW hS ls hl => ?_)
  have hl : lv_has ls 3 [(0, .ref (xb_ D b)), (1, .int x)] := hl
  generalize hlc : ([] : List Loc) = locs at hS ⊢
  refine lv_aload_n hx hb dX12_holds_0 rfl (lv_at hl 0 rfl) ?_
  refine lv_bipush (v := 70) hx hb dX12_holds_1 (by decide) ?_
  refine xw_v (xd_begins_X12 (rest := []) lQ ⟨hx, hb, hml, hown, hts⟩ hK hN hW hi hw 70 (hr0.le (by decide)) ⟨Nat.le_of_ble_eq_true rfl, Nat.le_of_ble_eq_true rfl⟩ hl.1 rfl (Nat.le_of_ble_eq_true rfl) dX12_holds_3 ⟨Nat.le_of_ble_eq_true rfl, Nat.le_of_ble_eq_true rfl⟩) hS (fun X3 H locs f3 hW hS => ?_)
  have hi : xa_in X3 b q := by rw [f3]; exact xa_eq (xa_e (xa_beg_fr X 70)) hi
  have hr0 : xa_r 601 X3 := by rw [f3]; exact xa_beg_r hr0 (by decide) 70
  refine lv_aload_n hx hb dX12_holds_6 rfl (lv_at hl 0 rfl) ?_
  refine lv_iload_n hx hb dX12_holds_7 rfl (lv_at hl 1 rfl) ?_
  refine xw_i (xw_rSX (As := [.int x]) (rest := []) (C := xk_C q) (n := 1) (x := ({ cls := "ThirtyThreeBelow$Way", name := "holds", desc := "(I)I" } : Jvm.MethodName)) (hK.1 _ _ (xk_cl q (xa_8 hW hi))).2 ⟨hx, hb, hml, hown, hts⟩ hK hN hW (xc_hb lQ G o d0 X3 E D b q hi x (hr0.le (by decide))) (lw_meth q1447) q93 q1437 q1456 q1457 ⟨rfl, rfl⟩ q685 (xs_sub1 hts q505 rfl) (xr_body hK hW hi.1 hi.2) (by decide +kernel) rfl ⟨Nat.le_of_ble_eq_true rfl, Nat.le_of_ble_eq_true rfl⟩ hl.1 rfl (Nat.le_of_ble_eq_true rfl) dX12_holds_8 ⟨Nat.le_of_ble_eq_true rfl, Nat.le_of_ble_eq_true rfl⟩) hS (fun v8 X8 H locs e8 f8 hW hS => ?_)
  have hi : xa_in X8 b q := by rw [f8]; exact xa_eq (xa_e (xa_hb_ok b x X3).1) hi
  have hr0 : xa_r 602 X8 := by rw [f8]; exact (xa_hb_ok b x X3).2 601 (by decide) hr0
  refine lv_istore_n (lv' := [(2, .int v8), (0, .ref (xb_ D b)), (1, .int x)]) hx hb dX12_holds_11 rfl hl (by decide) rfl (fun ls hl => ?_)
  refine lv_iload_n hx hb dX12_holds_12 rfl (lv_at hl 0 rfl) ?_
  refine lv_aload_n hx hb dX12_holds_13 rfl (lv_at hl 1 rfl) ?_
  refine lv_iload_n hx hb dX12_holds_14 rfl (lv_at hl 2 rfl) ?_
  refine xw_i (xw_rSX (As := [.int x]) (rest := [.int v8]) (C := xk_C q) (n := 1) (x := ({ cls := "ThirtyThreeBelow$Way", name := "carries", desc := "(I)I" } : Jvm.MethodName)) (hK.1 _ _ (xk_cl q (xa_8 hW hi))).2 ⟨hx, hb, hml, hown, hts⟩ hK hN hW (xc_cb lQ G o d0 X8 E D b q hi x (hr0.le (by decide))) (lw_meth q1422) q93 q1407 q1458 q1420 ⟨rfl, rfl⟩ q685 (xs_sub1 hts q505 rfl) (xr_body hK hW hi.1 hi.2) (by decide +kernel) rfl ⟨Nat.le_of_ble_eq_true rfl, Nat.le_of_ble_eq_true rfl⟩ hl.1 rfl (Nat.le_of_ble_eq_true rfl) dX12_holds_15 ⟨Nat.le_of_ble_eq_true rfl, Nat.le_of_ble_eq_true rfl⟩) hS (fun v15 X15 H locs e15 f15 hW hS => ?_)
  have hi : xa_in X15 b q := by rw [f15]; exact xa_eq (xa_e (xa_cb_ok q b x X8).1) hi
  have hr0 : xa_r 607 X15 := by rw [f15]; exact (xa_cb_ok q b x X8).2 602 (by decide) hr0
  refine nv_iadd hx hb dX12_holds_18 (fun v18 e18 => ?_)
  refine xw_iret hx hb hr hlocks hW hS ?_ dX12_holds_19
  have hres : xa_hs q X b x = (v18, X15) := by subst f3 e8 f8 e15 f15 e18; rfl
  exact ⟨by rw [hres], by rw [hres], rfl⟩

section XD13
variable {p : Program} {l : Launch} {e : Env} {R : Room} {s : State} {m : MethodId} {args : Array Value} {below : List Frame} {meth : Method} {c : Code} {H : Heap} {locs : List Loc} {cells slots : Nat} {Q : State → Prop}
variable {cc : ByteArray} {pc : Nat} {ls : Array Slot} {rest st0 : List Value} {G : wm_G} {o d0 : Nat} {H0 : Heap} {X : mm_S} {E : mm_E} {D : xg} {nL : Nat}
set_option maxHeartbeats 4000000 in
theorem xd_holds_X0 (l : Launch) (F : CallFix p m c cc nL s args lw_all RX0) (hK : wm_K G s) (hN : xn_T s) (hW : xx_W G o d0 X E D H) {b : Int32} {q : Nat} (hi : xa_in X b q) (hk : q < 8) (x : Int32) (hr0 : xa_r 590 X) (hR : 8 ≤ R.frames ∧ 442 ≤ R.locals) (hsz : ls.size = nL) (hst : st0 = ([.int x] : List Value).reverse ++ .ref (xb_ D b) :: rest) (hrest : (rest.map fun v => v.category).sum ≤ 8) (hd : decode cc pc = .ok (.invokevirtual 539, 3)) (hroom : cells ≤ R.cells ∧ slots ≤ R.slots) : xw_Run p l e R s m args below meth c H locs cells slots (F0 m pc ls st0) rest G o d0 D (some (.int (xa_holds q X b x).1)) (xa_holds q X b x).2 E := by
  have hk : q = 0 ∨ q = 1 ∨ q = 2 ∨ q = 3 ∨ q = 4 ∨ q = 5 ∨ q = 6 ∨ q = 7 := by omega
  rcases hk with rfl | rfl | rfl | rfl | rfl | rfl | rfl | rfl
  · exact xw_rU (C := RX6) (owner := "ThirtyThreeBelow$Body") (x := ({ cls := "ThirtyThreeBelow$Body", name := "holds", desc := "(I)I" } : Jvm.MethodName)) (n := 1) F hK hN hW (xc_hb l G o d0 X E D b 0 hi x (hr0.le (by decide))) (lw_app (List.forall_mem_cons.mpr ⟨q1436, List.forall_mem_cons.mpr ⟨q1439, List.forall_mem_cons.mpr ⟨q1438, List.forall_mem_cons.mpr ⟨q1437, List.forall_mem_cons.mpr ⟨q93, fun _ h => absurd h List.not_mem_nil⟩⟩⟩⟩⟩) (lw_meth q1447)) rfl (xr_body hK hW hi.1 hi.2) (by decide +kernel) rfl ⟨Nat.le_trans (by decide) hR.1, Nat.le_trans (by decide) hR.2⟩ hsz hst hrest hd hroom
  · exact xw_rU (C := RX7) (owner := "ThirtyThreeBelow$Body") (x := ({ cls := "ThirtyThreeBelow$Body", name := "holds", desc := "(I)I" } : Jvm.MethodName)) (n := 1) F hK hN hW (xc_hb l G o d0 X E D b 1 hi x (hr0.le (by decide))) (lw_app (List.forall_mem_cons.mpr ⟨q1436, List.forall_mem_cons.mpr ⟨q1439, List.forall_mem_cons.mpr ⟨q1471, List.forall_mem_cons.mpr ⟨q1437, List.forall_mem_cons.mpr ⟨q93, fun _ h => absurd h List.not_mem_nil⟩⟩⟩⟩⟩) (lw_meth q1447)) rfl (xr_body hK hW hi.1 hi.2) (by decide +kernel) rfl ⟨Nat.le_trans (by decide) hR.1, Nat.le_trans (by decide) hR.2⟩ hsz hst hrest hd hroom
  · exact xw_rU (C := RX8) (owner := "ThirtyThreeBelow$Body") (x := ({ cls := "ThirtyThreeBelow$Body", name := "holds", desc := "(I)I" } : Jvm.MethodName)) (n := 1) F hK hN hW (xc_hb l G o d0 X E D b 2 hi x (hr0.le (by decide))) (lw_app (List.forall_mem_cons.mpr ⟨q1436, List.forall_mem_cons.mpr ⟨q1439, List.forall_mem_cons.mpr ⟨q1440, List.forall_mem_cons.mpr ⟨q1437, List.forall_mem_cons.mpr ⟨q93, fun _ h => absurd h List.not_mem_nil⟩⟩⟩⟩⟩) (lw_meth q1447)) rfl (xr_body hK hW hi.1 hi.2) (by decide +kernel) rfl ⟨Nat.le_trans (by decide) hR.1, Nat.le_trans (by decide) hR.2⟩ hsz hst hrest hd hroom
  · exact xw_rO (C := RX9) (owner := "ThirtyThreeBelow$Body") (x := ({ cls := "ThirtyThreeBelow$Body", name := "holds", desc := "(I)I" } : Jvm.MethodName)) (n := 1) F hK hN hW (xc_ht l G o d0 X E D b 3 hi rfl x (hr0.le (by decide))) (lw_app (List.forall_mem_cons.mpr ⟨q1436, List.forall_mem_cons.mpr ⟨q1439, List.forall_mem_cons.mpr ⟨q1437, List.forall_mem_cons.mpr ⟨q1459, List.forall_mem_cons.mpr ⟨q1460, List.forall_mem_cons.mpr ⟨q96, fun _ h => absurd h List.not_mem_nil⟩⟩⟩⟩⟩⟩) (lw_meth q1461)) q1447 (xr_body hK hW hi.1 hi.2) (by decide +kernel) rfl ⟨Nat.le_trans (by decide) hR.1, Nat.le_trans (by decide) hR.2⟩ hsz hst hrest hd hroom
  · exact xw_rU (C := RX10) (owner := "ThirtyThreeBelow$Body") (x := ({ cls := "ThirtyThreeBelow$Body", name := "holds", desc := "(I)I" } : Jvm.MethodName)) (n := 1) F hK hN hW (xc_hb l G o d0 X E D b 4 hi x (hr0.le (by decide))) (lw_app (List.forall_mem_cons.mpr ⟨q1436, List.forall_mem_cons.mpr ⟨q1439, List.forall_mem_cons.mpr ⟨q1449, List.forall_mem_cons.mpr ⟨q1437, List.forall_mem_cons.mpr ⟨q93, fun _ h => absurd h List.not_mem_nil⟩⟩⟩⟩⟩) (lw_meth q1447)) rfl (xr_body hK hW hi.1 hi.2) (by decide +kernel) rfl ⟨Nat.le_trans (by decide) hR.1, Nat.le_trans (by decide) hR.2⟩ hsz hst hrest hd hroom
  · exact xw_rO (C := RX11) (owner := "ThirtyThreeBelow$Body") (x := ({ cls := "ThirtyThreeBelow$Body", name := "holds", desc := "(I)I" } : Jvm.MethodName)) (n := 1) F hK hN hW (xc_hl l G o d0 X E D b 5 hi rfl x (hr0.le (by decide))) (lw_app (List.forall_mem_cons.mpr ⟨q1436, List.forall_mem_cons.mpr ⟨q1439, List.forall_mem_cons.mpr ⟨q1437, List.forall_mem_cons.mpr ⟨q1441, List.forall_mem_cons.mpr ⟨q1442, List.forall_mem_cons.mpr ⟨q98, fun _ h => absurd h List.not_mem_nil⟩⟩⟩⟩⟩⟩) (lw_meth q1443)) q1447 (xr_body hK hW hi.1 hi.2) (by decide +kernel) rfl ⟨Nat.le_trans (by decide) hR.1, Nat.le_trans (by decide) hR.2⟩ hsz hst hrest hd hroom
  · exact xw_rO (C := RX12) (owner := "ThirtyThreeBelow$Body") (x := ({ cls := "ThirtyThreeBelow$Body", name := "holds", desc := "(I)I" } : Jvm.MethodName)) (n := 1) F hK hN hW (xc_hs l G o d0 X E D b 6 hi rfl x (hr0.le (by decide))) (lw_app (List.forall_mem_cons.mpr ⟨q1436, List.forall_mem_cons.mpr ⟨q1439, List.forall_mem_cons.mpr ⟨q1437, List.forall_mem_cons.mpr ⟨q1450, List.forall_mem_cons.mpr ⟨q1451, List.forall_mem_cons.mpr ⟨q99, fun _ h => absurd h List.not_mem_nil⟩⟩⟩⟩⟩⟩) (lw_meth q1452)) q1447 (xr_body hK hW hi.1 hi.2) (by decide +kernel) rfl ⟨Nat.le_trans (by decide) hR.1, Nat.le_trans (by decide) hR.2⟩ hsz hst hrest hd hroom
  · exact xw_rU (C := RX13) (owner := "ThirtyThreeBelow$Body") (x := ({ cls := "ThirtyThreeBelow$Body", name := "holds", desc := "(I)I" } : Jvm.MethodName)) (n := 1) F hK hN hW (xc_hb l G o d0 X E D b 7 hi x (hr0.le (by decide))) (lw_app (List.forall_mem_cons.mpr ⟨q1436, List.forall_mem_cons.mpr ⟨q1439, List.forall_mem_cons.mpr ⟨q1448, List.forall_mem_cons.mpr ⟨q1437, List.forall_mem_cons.mpr ⟨q93, fun _ h => absurd h List.not_mem_nil⟩⟩⟩⟩⟩) (lw_meth q1447)) rfl (xr_body hK hW hi.1 hi.2) (by decide +kernel) rfl ⟨Nat.le_trans (by decide) hR.1, Nat.le_trans (by decide) hR.2⟩ hsz hst hrest hd hroom

set_option maxHeartbeats 4000000 in
theorem xd_holds_X20 (l : Launch) (F : CallFix p m c cc nL s args lw_all RX20) (hK : wm_K G s) (hN : xn_T s) (hW : xx_W G o d0 X E D H) {b : Int32} {q : Nat} (hi : xa_in X b q) (hk : q < 8) (x : Int32) (hr0 : xa_r 590 X) (hR : 8 ≤ R.frames ∧ 442 ≤ R.locals) (hsz : ls.size = nL) (hst : st0 = ([.int x] : List Value).reverse ++ .ref (xb_ D b) :: rest) (hrest : (rest.map fun v => v.category).sum ≤ 8) (hd : decode cc pc = .ok (.invokeinterface 11 2, 5)) (hroom : cells ≤ R.cells ∧ slots ≤ R.slots) : xw_Run5 p l e R s m args below meth c H locs cells slots (F0 m pc ls st0) rest G o d0 D (some (.int (xa_holds q X b x).1)) (xa_holds q X b x).2 E := by
  have hk : q = 0 ∨ q = 1 ∨ q = 2 ∨ q = 3 ∨ q = 4 ∨ q = 5 ∨ q = 6 ∨ q = 7 := by omega
  rcases hk with rfl | rfl | rfl | rfl | rfl | rfl | rfl | rfl
  · exact xw_rF (C := RX6) (x := ({ cls := "ThirtyThreeBelow$Tells", name := "holds", desc := "(I)I" } : Jvm.MethodName)) (n := 1) (hK.1 _ _ (xk_cl 0 (by decide))).2 F hK hN hW (xc_hb l G o d0 X E D b 0 hi x (hr0.le (by decide))) (lw_app (List.forall_mem_cons.mpr ⟨q1524, List.forall_mem_cons.mpr ⟨q1527, List.forall_mem_cons.mpr ⟨q1437, List.forall_mem_cons.mpr ⟨q93, fun _ h => absurd h List.not_mem_nil⟩⟩⟩⟩) (lw_meth q1447)) (hN.fw (C := RX6) (x := ({ cls := "ThirtyThreeBelow$Tells", name := "holds", desc := "(I)I" } : Jvm.MethodName)) (y := yX6_holds) ⟨by decide, by decide⟩ q1526 q1525 q1529 q1528 q1484) (xr_body hK hW hi.1 hi.2) (by decide +kernel) rfl ⟨Nat.le_trans (by decide) hR.1, Nat.le_trans (by decide) hR.2⟩ hsz hst hrest hd hroom
  · exact xw_rF (C := RX7) (x := ({ cls := "ThirtyThreeBelow$Tells", name := "holds", desc := "(I)I" } : Jvm.MethodName)) (n := 1) (hK.1 _ _ (xk_cl 1 (by decide))).2 F hK hN hW (xc_hb l G o d0 X E D b 1 hi x (hr0.le (by decide))) (lw_app (List.forall_mem_cons.mpr ⟨q1524, List.forall_mem_cons.mpr ⟨q1545, List.forall_mem_cons.mpr ⟨q1437, List.forall_mem_cons.mpr ⟨q93, fun _ h => absurd h List.not_mem_nil⟩⟩⟩⟩) (lw_meth q1447)) (hN.fw (C := RX7) (x := ({ cls := "ThirtyThreeBelow$Tells", name := "holds", desc := "(I)I" } : Jvm.MethodName)) (y := yX6_holds) ⟨by decide, by decide⟩ q1526 q1525 q1529 q1546 q1498) (xr_body hK hW hi.1 hi.2) (by decide +kernel) rfl ⟨Nat.le_trans (by decide) hR.1, Nat.le_trans (by decide) hR.2⟩ hsz hst hrest hd hroom
  · exact xw_rF (C := RX8) (x := ({ cls := "ThirtyThreeBelow$Tells", name := "holds", desc := "(I)I" } : Jvm.MethodName)) (n := 1) (hK.1 _ _ (xk_cl 2 (by decide))).2 F hK hN hW (xc_hb l G o d0 X E D b 2 hi x (hr0.le (by decide))) (lw_app (List.forall_mem_cons.mpr ⟨q1524, List.forall_mem_cons.mpr ⟨q1530, List.forall_mem_cons.mpr ⟨q1437, List.forall_mem_cons.mpr ⟨q93, fun _ h => absurd h List.not_mem_nil⟩⟩⟩⟩) (lw_meth q1447)) (hN.fw (C := RX8) (x := ({ cls := "ThirtyThreeBelow$Tells", name := "holds", desc := "(I)I" } : Jvm.MethodName)) (y := yX6_holds) ⟨by decide, by decide⟩ q1526 q1525 q1529 q1531 q1486) (xr_body hK hW hi.1 hi.2) (by decide +kernel) rfl ⟨Nat.le_trans (by decide) hR.1, Nat.le_trans (by decide) hR.2⟩ hsz hst hrest hd hroom
  · exact xw_rF (C := RX9) (x := ({ cls := "ThirtyThreeBelow$Tells", name := "holds", desc := "(I)I" } : Jvm.MethodName)) (n := 1) (hK.1 _ _ (xk_cl 3 (by decide))).2 F hK hN hW (xc_ht l G o d0 X E D b 3 hi rfl x (hr0.le (by decide))) (lw_app (List.forall_mem_cons.mpr ⟨q1524, List.forall_mem_cons.mpr ⟨q1542, List.forall_mem_cons.mpr ⟨q1460, List.forall_mem_cons.mpr ⟨q96, fun _ h => absurd h List.not_mem_nil⟩⟩⟩⟩) (lw_meth q1461)) (hN.fw (C := RX9) (x := ({ cls := "ThirtyThreeBelow$Tells", name := "holds", desc := "(I)I" } : Jvm.MethodName)) (y := yX9_holds) ⟨by decide, by decide⟩ q1526 q1525 q1544 q1543 q1496) (xr_body hK hW hi.1 hi.2) (by decide +kernel) rfl ⟨Nat.le_trans (by decide) hR.1, Nat.le_trans (by decide) hR.2⟩ hsz hst hrest hd hroom
  · exact xw_rF (C := RX10) (x := ({ cls := "ThirtyThreeBelow$Tells", name := "holds", desc := "(I)I" } : Jvm.MethodName)) (n := 1) (hK.1 _ _ (xk_cl 4 (by decide))).2 F hK hN hW (xc_hb l G o d0 X E D b 4 hi x (hr0.le (by decide))) (lw_app (List.forall_mem_cons.mpr ⟨q1524, List.forall_mem_cons.mpr ⟨q1537, List.forall_mem_cons.mpr ⟨q1437, List.forall_mem_cons.mpr ⟨q93, fun _ h => absurd h List.not_mem_nil⟩⟩⟩⟩) (lw_meth q1447)) (hN.fw (C := RX10) (x := ({ cls := "ThirtyThreeBelow$Tells", name := "holds", desc := "(I)I" } : Jvm.MethodName)) (y := yX6_holds) ⟨by decide, by decide⟩ q1526 q1525 q1529 q1538 q1492) (xr_body hK hW hi.1 hi.2) (by decide +kernel) rfl ⟨Nat.le_trans (by decide) hR.1, Nat.le_trans (by decide) hR.2⟩ hsz hst hrest hd hroom
  · exact xw_rF (C := RX11) (x := ({ cls := "ThirtyThreeBelow$Tells", name := "holds", desc := "(I)I" } : Jvm.MethodName)) (n := 1) (hK.1 _ _ (xk_cl 5 (by decide))).2 F hK hN hW (xc_hl l G o d0 X E D b 5 hi rfl x (hr0.le (by decide))) (lw_app (List.forall_mem_cons.mpr ⟨q1524, List.forall_mem_cons.mpr ⟨q1532, List.forall_mem_cons.mpr ⟨q1442, List.forall_mem_cons.mpr ⟨q98, fun _ h => absurd h List.not_mem_nil⟩⟩⟩⟩) (lw_meth q1443)) (hN.fw (C := RX11) (x := ({ cls := "ThirtyThreeBelow$Tells", name := "holds", desc := "(I)I" } : Jvm.MethodName)) (y := yX11_holds) ⟨by decide, by decide⟩ q1526 q1525 q1534 q1533 q1488) (xr_body hK hW hi.1 hi.2) (by decide +kernel) rfl ⟨Nat.le_trans (by decide) hR.1, Nat.le_trans (by decide) hR.2⟩ hsz hst hrest hd hroom
  · exact xw_rF (C := RX12) (x := ({ cls := "ThirtyThreeBelow$Tells", name := "holds", desc := "(I)I" } : Jvm.MethodName)) (n := 1) (hK.1 _ _ (xk_cl 6 (by decide))).2 F hK hN hW (xc_hs l G o d0 X E D b 6 hi rfl x (hr0.le (by decide))) (lw_app (List.forall_mem_cons.mpr ⟨q1524, List.forall_mem_cons.mpr ⟨q1539, List.forall_mem_cons.mpr ⟨q1451, List.forall_mem_cons.mpr ⟨q99, fun _ h => absurd h List.not_mem_nil⟩⟩⟩⟩) (lw_meth q1452)) (hN.fw (C := RX12) (x := ({ cls := "ThirtyThreeBelow$Tells", name := "holds", desc := "(I)I" } : Jvm.MethodName)) (y := yX12_holds) ⟨by decide, by decide⟩ q1526 q1525 q1541 q1540 q1494) (xr_body hK hW hi.1 hi.2) (by decide +kernel) rfl ⟨Nat.le_trans (by decide) hR.1, Nat.le_trans (by decide) hR.2⟩ hsz hst hrest hd hroom
  · exact xw_rF (C := RX13) (x := ({ cls := "ThirtyThreeBelow$Tells", name := "holds", desc := "(I)I" } : Jvm.MethodName)) (n := 1) (hK.1 _ _ (xk_cl 7 (by decide))).2 F hK hN hW (xc_hb l G o d0 X E D b 7 hi x (hr0.le (by decide))) (lw_app (List.forall_mem_cons.mpr ⟨q1524, List.forall_mem_cons.mpr ⟨q1535, List.forall_mem_cons.mpr ⟨q1437, List.forall_mem_cons.mpr ⟨q93, fun _ h => absurd h List.not_mem_nil⟩⟩⟩⟩) (lw_meth q1447)) (hN.fw (C := RX13) (x := ({ cls := "ThirtyThreeBelow$Tells", name := "holds", desc := "(I)I" } : Jvm.MethodName)) (y := yX6_holds) ⟨by decide, by decide⟩ q1526 q1525 q1529 q1536 q1490) (xr_body hK hW hi.1 hi.2) (by decide +kernel) rfl ⟨Nat.le_trans (by decide) hR.1, Nat.le_trans (by decide) hR.2⟩ hsz hst hrest hd hroom

end XD13
set_option maxHeartbeats 4000000 in
theorem xc_td (lQ : Launch) (G : wm_G) (o d0 : Nat) (X : mm_S) (E : mm_E) (D : xg) (b : Int32) (q : Nat) (hi : xa_in X b q) (x : Int32) (hr0 : xa_r 500 X) : xw_Met lQ G o d0 yX20_tells (ws_ yX20_tells cX20_tells 3 (some .int)) 8 X E D [Value.ref (xb_ D b), .int x] (some (.int (xa_td q X b x).1)) (xa_td q X b x).2 E := by
  refine xw_start (own := RX20) (by decide +kernel) (Nat.le_of_ble_eq_true rfl) rfl (fun pQ eQ sQ mQ belowQ methQ cQ hx hb hml hr hlocks hts hown hK hN H hW hS ls hl => ?_)
  have hl : lv_has ls 3 [(0, .ref (xb_ D b)), (1, .int x)] := hl
  generalize hlc : ([] : List Loc) = locs at hS ⊢
  refine lv_aload_n hx hb dX20_tells_0 rfl (lv_at hl 0 rfl) ?_
  refine lv_iconst (v := 2) hx hb dX20_tells_1 (by decide) ?_
  refine xw_v5 (xd_begins_X20 (rest := []) lQ ⟨hx, hb, hml, hown, hts⟩ hK hN hW hi (xa_8 hW hi) 2 (hr0.le (by decide)) ⟨Nat.le_of_ble_eq_true rfl, Nat.le_of_ble_eq_true rfl⟩ hl.1 rfl (Nat.le_of_ble_eq_true rfl) dX20_tells_2 ⟨Nat.le_of_ble_eq_true rfl, Nat.le_of_ble_eq_true rfl⟩) hS (fun X2 H locs f2 hW hS => ?_)
  have hi : xa_in X2 b q := by rw [f2]; exact xa_eq (xa_e (xa_beg_fr X 2)) hi
  have hr0 : xa_r 501 X2 := by rw [f2]; exact xa_beg_r hr0 (by decide) 2
  refine lv_aload_n hx hb dX20_tells_7 rfl (lv_at hl 0 rfl) ?_
  refine lv_iload_n hx hb dX20_tells_8 rfl (lv_at hl 1 rfl) ?_
  refine xw_i5 (xd_carries_X20 (rest := []) lQ ⟨hx, hb, hml, hown, hts⟩ hK hN hW hi (xa_8 hW hi) x (hr0.le (by decide)) ⟨Nat.le_of_ble_eq_true rfl, Nat.le_of_ble_eq_true rfl⟩ hl.1 rfl (Nat.le_of_ble_eq_true rfl) dX20_tells_9 ⟨Nat.le_of_ble_eq_true rfl, Nat.le_of_ble_eq_true rfl⟩) hS (fun v9 X9 H locs e9 f9 hW hS => ?_)
  have hi : xa_in X9 b q := by rw [f9]; exact xa_eq (xa_e (xa_carries_ok q b x X2).1) hi
  have hr0 : xa_r 507 X9 := by rw [f9]; exact (xa_carries_ok q b x X2).2 501 (by decide) hr0
  refine lv_istore_n (lv' := [(2, .int v9), (0, .ref (xb_ D b)), (1, .int x)]) hx hb dX20_tells_14 rfl hl (by decide) rfl (fun ls hl => ?_)
  refine lv_iload_n hx hb dX20_tells_15 rfl (lv_at hl 0 rfl) ?_
  refine lv_aload_n hx hb dX20_tells_16 rfl (lv_at hl 1 rfl) ?_
  refine lv_iconst (v := 1) hx hb dX20_tells_17 (by decide) ?_
  refine xw_i5 (xd_holds_X20 (rest := [.int v9]) lQ ⟨hx, hb, hml, hown, hts⟩ hK hN hW hi (xa_8 hW hi) 1 (hr0.le (by decide)) ⟨Nat.le_of_ble_eq_true rfl, Nat.le_of_ble_eq_true rfl⟩ hl.1 rfl (Nat.le_of_ble_eq_true rfl) dX20_tells_18 ⟨Nat.le_of_ble_eq_true rfl, Nat.le_of_ble_eq_true rfl⟩) hS (fun v18 X18 H locs e18 f18 hW hS => ?_)
  have hi : xa_in X18 b q := by rw [f18]; exact xa_eq (xa_e (xa_holds_ok q b 1 X9).1) hi
  have hr0 : xa_r 515 X18 := by rw [f18]; exact (xa_holds_ok q b 1 X9).2 507 (by decide) hr0
  refine nv_iadd hx hb dX20_tells_23 (fun v23 e23 => ?_)
  refine xw_iret hx hb hr hlocks hW hS ?_ dX20_tells_24
  have hres : xa_td q X b x = (v23, X18) := by subst f2 e9 f9 e18 f18 e23; rfl
  exact ⟨by rw [hres], by rw [hres], rfl⟩

set_option maxHeartbeats 4000000 in
theorem xc_ts (lQ : Launch) (G : wm_G) (o d0 : Nat) (X : mm_S) (E : mm_E) (D : xg) (b : Int32) (q : Nat) (hi : xa_in X b q) (hw : q = 4 ∨ q = 5) (x : Int32) (hr0 : xa_r 490 X) : xw_Met lQ G o d0 yX10_tells (ws_ yX10_tells cX10_tells 2 (some .int)) 9 X E D [Value.ref (xb_ D b), .int x] (some (.int (xa_ts q X b x).1)) (xa_ts q X b x).2 E := by
  refine xw_start (own := RX10) (by decide +kernel) (Nat.le_of_ble_eq_true rfl) rfl (fun pQ eQ sQ mQ belowQ methQ cQ hx hb hml hr hlocks hts hown hK hN H hW hS ls hl => ?_)
  have hl : lv_has ls 2 [(0, .ref (xb_ D b)), (1, .int x)] := hl
  generalize hlc : ([] : List Loc) = locs at hS ⊢
  refine lv_aload_n hx hb dX10_tells_0 rfl (lv_at hl 0 rfl) ?_
  refine lv_bipush (v := 51) hx hb dX10_tells_1 (by decide) ?_
  refine xw_v (xd_begins_X10 (rest := []) lQ ⟨hx, hb, hml, hown, hts⟩ hK hN hW hi hw 51 (hr0.le (by decide)) ⟨Nat.le_of_ble_eq_true rfl, Nat.le_of_ble_eq_true rfl⟩ hl.1 rfl (Nat.le_of_ble_eq_true rfl) dX10_tells_3 ⟨Nat.le_of_ble_eq_true rfl, Nat.le_of_ble_eq_true rfl⟩) hS (fun X3 H locs f3 hW hS => ?_)
  have hi : xa_in X3 b q := by rw [f3]; exact xa_eq (xa_e (xa_beg_fr X 51)) hi
  have hr0 : xa_r 491 X3 := by rw [f3]; exact xa_beg_r hr0 (by decide) 51
  refine lv_aload_n hx hb dX10_tells_6 rfl (lv_at hl 0 rfl) ?_
  refine lv_iload_n hx hb dX10_tells_7 rfl (lv_at hl 1 rfl) ?_
  refine xw_i (xw_rSD (As := [.int x]) (rest := []) (C := xk_C q) (n := 1) (x := ({ cls := "ThirtyThreeBelow$Hole", name := "tells", desc := "(I)I" } : Jvm.MethodName)) (hK.1 _ _ (xk_cl q (xa_8 hW hi))).2 ⟨hx, hb, hml, hown, hts⟩ hK hN hW (xc_td lQ G o d0 X3 E D b q hi x (hr0.le (by decide))) (lw_meth q1479) q2438 q1478 (List.mem_of_getElem? (i := 6) rfl) (List.mem_of_getElem? (i := 7) rfl) ⟨rfl, rfl⟩ q624 (List.mem_of_getElem? (i := 4) rfl) (xr_body hK hW hi.1 hi.2) (by decide +kernel) rfl ⟨Nat.le_of_ble_eq_true rfl, Nat.le_of_ble_eq_true rfl⟩ hl.1 rfl (Nat.le_of_ble_eq_true rfl) dX10_tells_8 ⟨Nat.le_of_ble_eq_true rfl, Nat.le_of_ble_eq_true rfl⟩) hS (fun v8 X8 H locs e8 f8 hW hS => ?_)
  have hi : xa_in X8 b q := by rw [f8]; exact xa_eq (xa_e (xa_td_ok q b x X3).1) hi
  have hr0 : xa_r 506 X8 := by rw [f8]; exact (xa_td_ok q b x X3).2 491 (by decide) hr0
  refine lv_iconst (v := 3) hx hb dX10_tells_11 (by decide) ?_
  refine nv_imul hx hb dX10_tells_12 (fun v12 e12 => ?_)
  refine xw_iret hx hb hr hlocks hW hS ?_ dX10_tells_13
  have hres : xa_ts q X b x = (v12, X8) := by subst f3 e8 f8 e12; rfl
  exact ⟨by rw [hres], by rw [hres], rfl⟩

section XD14
variable {p : Program} {l : Launch} {e : Env} {R : Room} {s : State} {m : MethodId} {args : Array Value} {below : List Frame} {meth : Method} {c : Code} {H : Heap} {locs : List Loc} {cells slots : Nat} {Q : State → Prop}
variable {cc : ByteArray} {pc : Nat} {ls : Array Slot} {rest st0 : List Value} {G : wm_G} {o d0 : Nat} {H0 : Heap} {X : mm_S} {E : mm_E} {D : xg} {nL : Nat}
set_option maxHeartbeats 4000000 in
theorem xd_tells_X0 (l : Launch) (F : CallFix p m c cc nL s args lw_all RX0) (hK : wm_K G s) (hN : xn_T s) (hW : xx_W G o d0 X E D H) {b : Int32} {q : Nat} (hi : xa_in X b q) (hk : q < 8) (x : Int32) (hr0 : xa_r 480 X) (hR : 10 ≤ R.frames ∧ 562 ≤ R.locals) (hsz : ls.size = nL) (hst : st0 = ([.int x] : List Value).reverse ++ .ref (xb_ D b) :: rest) (hrest : (rest.map fun v => v.category).sum ≤ 8) (hd : decode cc pc = .ok (.invokevirtual 542, 3)) (hroom : cells ≤ R.cells ∧ slots ≤ R.slots) : xw_Run p l e R s m args below meth c H locs cells slots (F0 m pc ls st0) rest G o d0 D (some (.int (xa_tells q X b x).1)) (xa_tells q X b x).2 E := by
  have hk : q = 0 ∨ q = 1 ∨ q = 2 ∨ q = 3 ∨ q = 4 ∨ q = 5 ∨ q = 6 ∨ q = 7 := by omega
  rcases hk with rfl | rfl | rfl | rfl | rfl | rfl | rfl | rfl
  · exact xw_rVD (C := RX6) (owner := "ThirtyThreeBelow$Tells") (x := ({ cls := "ThirtyThreeBelow$Body", name := "tells", desc := "(I)I" } : Jvm.MethodName)) (n := 1) F hK hN hW (xc_td l G o d0 X E D b 0 hi x (hr0.le (by decide))) (lw_meth q1479) q2438 q1478 (List.mem_of_getElem? (i := 4) rfl) (List.mem_of_getElem? (i := 5) rfl) q1472 (List.mem_of_getElem? (i := 2) rfl) (xr_body hK hW hi.1 hi.2) (by decide +kernel) rfl ⟨Nat.le_trans (by decide) hR.1, Nat.le_trans (by decide) hR.2⟩ hsz hst hrest hd hroom
  · exact xw_rVD (C := RX7) (owner := "ThirtyThreeBelow$Tells") (x := ({ cls := "ThirtyThreeBelow$Body", name := "tells", desc := "(I)I" } : Jvm.MethodName)) (n := 1) F hK hN hW (xc_td l G o d0 X E D b 1 hi x (hr0.le (by decide))) (lw_meth q1479) q2438 q1478 (List.mem_of_getElem? (i := 4) rfl) (List.mem_of_getElem? (i := 5) rfl) q1472 (List.mem_of_getElem? (i := 8) rfl) (xr_body hK hW hi.1 hi.2) (by decide +kernel) rfl ⟨Nat.le_trans (by decide) hR.1, Nat.le_trans (by decide) hR.2⟩ hsz hst hrest hd hroom
  · exact xw_rVD (C := RX8) (owner := "ThirtyThreeBelow$Tells") (x := ({ cls := "ThirtyThreeBelow$Body", name := "tells", desc := "(I)I" } : Jvm.MethodName)) (n := 1) F hK hN hW (xc_td l G o d0 X E D b 2 hi x (hr0.le (by decide))) (lw_meth q1479) q2438 q1478 (List.mem_of_getElem? (i := 4) rfl) (List.mem_of_getElem? (i := 5) rfl) q1472 (List.mem_of_getElem? (i := 3) rfl) (xr_body hK hW hi.1 hi.2) (by decide +kernel) rfl ⟨Nat.le_trans (by decide) hR.1, Nat.le_trans (by decide) hR.2⟩ hsz hst hrest hd hroom
  · exact xw_rVD (C := RX9) (owner := "ThirtyThreeBelow$Tells") (x := ({ cls := "ThirtyThreeBelow$Body", name := "tells", desc := "(I)I" } : Jvm.MethodName)) (n := 1) F hK hN hW (xc_td l G o d0 X E D b 3 hi x (hr0.le (by decide))) (lw_meth q1479) q2438 q1478 (List.mem_of_getElem? (i := 4) rfl) (List.mem_of_getElem? (i := 5) rfl) q1472 (List.mem_of_getElem? (i := 7) rfl) (xr_body hK hW hi.1 hi.2) (by decide +kernel) rfl ⟨Nat.le_trans (by decide) hR.1, Nat.le_trans (by decide) hR.2⟩ hsz hst hrest hd hroom
  · exact xw_rVC (C := RX10) (owner := "ThirtyThreeBelow$Tells") (x := ({ cls := "ThirtyThreeBelow$Body", name := "tells", desc := "(I)I" } : Jvm.MethodName)) (n := 1) F hK hN hW (xc_ts l G o d0 X E D b 4 hi (by decide) x (hr0.le (by decide))) (lw_meth q1477) q97 q1476 (List.mem_of_getElem? (i := 4) rfl) (List.mem_of_getElem? (i := 5) rfl) q1472 q1548 (xr_body hK hW hi.1 hi.2) (by decide +kernel) rfl ⟨Nat.le_trans (by decide) hR.1, Nat.le_trans (by decide) hR.2⟩ hsz hst hrest hd hroom
  · exact xw_rVC (C := RX11) (owner := "ThirtyThreeBelow$Tells") (x := ({ cls := "ThirtyThreeBelow$Body", name := "tells", desc := "(I)I" } : Jvm.MethodName)) (n := 1) F hK hN hW (xc_ts l G o d0 X E D b 5 hi (by decide) x (hr0.le (by decide))) (lw_meth q1477) q97 q1476 (List.mem_of_getElem? (i := 4) rfl) (List.mem_of_getElem? (i := 5) rfl) q1472 q1475 (xr_body hK hW hi.1 hi.2) (by decide +kernel) rfl ⟨Nat.le_trans (by decide) hR.1, Nat.le_trans (by decide) hR.2⟩ hsz hst hrest hd hroom
  · exact xw_rVD (C := RX12) (owner := "ThirtyThreeBelow$Tells") (x := ({ cls := "ThirtyThreeBelow$Body", name := "tells", desc := "(I)I" } : Jvm.MethodName)) (n := 1) F hK hN hW (xc_td l G o d0 X E D b 6 hi x (hr0.le (by decide))) (lw_meth q1479) q2438 q1478 (List.mem_of_getElem? (i := 4) rfl) (List.mem_of_getElem? (i := 5) rfl) q1472 (List.mem_of_getElem? (i := 6) rfl) (xr_body hK hW hi.1 hi.2) (by decide +kernel) rfl ⟨Nat.le_trans (by decide) hR.1, Nat.le_trans (by decide) hR.2⟩ hsz hst hrest hd hroom
  · exact xw_rVD (C := RX13) (owner := "ThirtyThreeBelow$Tells") (x := ({ cls := "ThirtyThreeBelow$Body", name := "tells", desc := "(I)I" } : Jvm.MethodName)) (n := 1) F hK hN hW (xc_td l G o d0 X E D b 7 hi x (hr0.le (by decide))) (lw_meth q1479) q2438 q1478 (List.mem_of_getElem? (i := 4) rfl) (List.mem_of_getElem? (i := 5) rfl) q1472 (List.mem_of_getElem? (i := 5) rfl) (xr_body hK hW hi.1 hi.2) (by decide +kernel) rfl ⟨Nat.le_trans (by decide) hR.1, Nat.le_trans (by decide) hR.2⟩ hsz hst hrest hd hroom

end XD14
set_option maxHeartbeats 4000000 in
theorem xc_und0 (lQ : Launch) (G : wm_G) (o d0 : Nat) (X : mm_S) (E : mm_E) (D : xg) (b : Int32) (q : Nat) (hi : xa_in X b q) (k : Int32) : xw_Met lQ G o d0 yX6_isUnder (ws_ yX6_isUnder cX6_isUnder 2 (some .boolean)) 0 X E D [Value.ref (xb_ D b), .int k] (some (.int (xu_0 k))) X E := by
  refine xw_start (own := RX6) (by decide +kernel) (Nat.le_of_ble_eq_true rfl) rfl (fun pQ eQ sQ mQ belowQ methQ cQ hx hb hml hr hlocks hts hown hK hN H hW hS ls hl => ?_)
  have hl : lv_has ls 2 [(0, .ref (xb_ D b)), (1, .int k)] := hl
  generalize hlc : ([] : List Loc) = locs at hS ⊢
  refine lv_iload_n hx hb dX6_isUnder_0 rfl (lv_at hl 1 rfl) ?_
  refine lv_if_ne (tgt := 8) hx hb dX6_isUnder_1 (by decide) (fun c1 => ?_) (fun c1 => ?_)
  · skip
    refine lv_iconst (v := 0) hx hb dX6_isUnder_8 (by decide) ?_
    refine xw_zret hx hb hr hlocks hW hS rfl ?_ dX6_isUnder_9
    have hres : xu_0 k = 0 := by simp only [xu_0, if_neg c1]
    exact ⟨by rw [hres], rfl, rfl⟩
  · skip
    refine lv_iconst (v := 1) hx hb dX6_isUnder_4 (by decide) ?_
    refine lv_goto (tgt := 9) hx hb dX6_isUnder_5 (by decide) ?_
    refine xw_zret hx hb hr hlocks hW hS rfl ?_ dX6_isUnder_9
    have hres : xu_0 k = 1 := by simp only [xu_0, if_pos c1]
    exact ⟨by rw [hres], rfl, rfl⟩

set_option maxHeartbeats 4000000 in
theorem xc_und1 (lQ : Launch) (G : wm_G) (o d0 : Nat) (X : mm_S) (E : mm_E) (D : xg) (b : Int32) (q : Nat) (hi : xa_in X b q) (k : Int32) : xw_Met lQ G o d0 yX7_isUnder (ws_ yX7_isUnder cX7_isUnder 2 (some .boolean)) 1 X E D [Value.ref (xb_ D b), .int k] (some (.int (xu_1 k))) X E := by
  refine xw_start (own := RX7) (by decide +kernel) (Nat.le_of_ble_eq_true rfl) rfl (fun pQ eQ sQ mQ belowQ methQ cQ hx hb hml hr hlocks hts hown hK hN H hW hS ls hl => ?_)
  have hl : lv_has ls 2 [(0, .ref (xb_ D b)), (1, .int k)] := hl
  generalize hlc : ([] : List Loc) = locs at hS ⊢
  refine lv_iload_n hx hb dX7_isUnder_0 rfl (lv_at hl 1 rfl) ?_
  refine lv_iconst (v := 1) hx hb dX7_isUnder_1 (by decide) ?_
  refine lv_icmp_eq (tgt := 13) hx hb dX7_isUnder_2 (by decide) (fun c2 => ?_) (fun c2 => ?_)
  · skip
    refine lv_iconst (v := 1) hx hb dX7_isUnder_13 (by decide) ?_
    refine lv_goto (tgt := 18) hx hb dX7_isUnder_14 (by decide) ?_
    refine xw_zret hx hb hr hlocks hW hS rfl ?_ dX7_isUnder_18
    have hres : xu_1 k = 1 := by simp only [xu_1, if_pos c2]
    exact ⟨by rw [hres], rfl, rfl⟩
  · skip
    refine lv_aload_n hx hb dX7_isUnder_5 rfl (lv_at hl 0 rfl) ?_
    refine lv_iload_n hx hb dX7_isUnder_6 rfl (lv_at hl 1 rfl) ?_
    refine xw_p (xw_rSU (As := [.int k]) (rest := []) (C := xk_C q) (n := 1) (hK.1 _ _ (xk_cl q (xa_8 hW hi))).2 ⟨hx, hb, hml, hown, hts⟩ hK hN hW (xc_und0 lQ G o d0 X E D b q hi k) (lw_app (List.forall_mem_cons.mpr ⟨q1653, List.forall_mem_cons.mpr ⟨q1646, List.forall_mem_cons.mpr ⟨q505, List.forall_mem_cons.mpr ⟨q1644, List.forall_mem_cons.mpr ⟨q93, fun _ h => absurd h List.not_mem_nil⟩⟩⟩⟩⟩) (lw_meth q1654)) (xr_body hK hW hi.1 hi.2) (by decide +kernel) rfl ⟨Nat.le_of_ble_eq_true rfl, Nat.le_of_ble_eq_true rfl⟩ hl.1 rfl (Nat.le_of_ble_eq_true rfl) dX7_isUnder_7 ⟨Nat.le_of_ble_eq_true rfl, Nat.le_of_ble_eq_true rfl⟩) hS (fun v7 H locs e7 hW hS => ?_)
    refine lv_if_eq (tgt := 17) hx hb dX7_isUnder_10 (by decide) (fun c10 => ?_) (fun c10 => ?_)
    · skip
      refine lv_iconst (v := 0) hx hb dX7_isUnder_17 (by decide) ?_
      refine xw_zret hx hb hr hlocks hW hS rfl ?_ dX7_isUnder_18
      have hres : xu_1 k = 0 := by subst e7; simp only [xu_1, if_neg c2, if_pos c10]
      exact ⟨by rw [hres], rfl, rfl⟩
    · skip
      refine lv_iconst (v := 1) hx hb dX7_isUnder_13 (by decide) ?_
      refine lv_goto (tgt := 18) hx hb dX7_isUnder_14 (by decide) ?_
      refine xw_zret hx hb hr hlocks hW hS rfl ?_ dX7_isUnder_18
      have hres : xu_1 k = 1 := by subst e7; simp only [xu_1, if_neg c2, if_neg c10]
      exact ⟨by rw [hres], rfl, rfl⟩

set_option maxHeartbeats 4000000 in
theorem xc_und2 (lQ : Launch) (G : wm_G) (o d0 : Nat) (X : mm_S) (E : mm_E) (D : xg) (b : Int32) (q : Nat) (hi : xa_in X b q) (k : Int32) : xw_Met lQ G o d0 yX8_isUnder (ws_ yX8_isUnder cX8_isUnder 2 (some .boolean)) 2 X E D [Value.ref (xb_ D b), .int k] (some (.int (xu_2 k))) X E := by
  refine xw_start (own := RX8) (by decide +kernel) (Nat.le_of_ble_eq_true rfl) rfl (fun pQ eQ sQ mQ belowQ methQ cQ hx hb hml hr hlocks hts hown hK hN H hW hS ls hl => ?_)
  have hl : lv_has ls 2 [(0, .ref (xb_ D b)), (1, .int k)] := hl
  generalize hlc : ([] : List Loc) = locs at hS ⊢
  refine lv_iload_n hx hb dX8_isUnder_0 rfl (lv_at hl 1 rfl) ?_
  refine lv_iconst (v := 2) hx hb dX8_isUnder_1 (by decide) ?_
  refine lv_icmp_eq (tgt := 13) hx hb dX8_isUnder_2 (by decide) (fun c2 => ?_) (fun c2 => ?_)
  · skip
    refine lv_iconst (v := 1) hx hb dX8_isUnder_13 (by decide) ?_
    refine lv_goto (tgt := 18) hx hb dX8_isUnder_14 (by decide) ?_
    refine xw_zret hx hb hr hlocks hW hS rfl ?_ dX8_isUnder_18
    have hres : xu_2 k = 1 := by simp only [xu_2, if_pos c2]
    exact ⟨by rw [hres], rfl, rfl⟩
  · skip
    refine lv_aload_n hx hb dX8_isUnder_5 rfl (lv_at hl 0 rfl) ?_
    refine lv_iload_n hx hb dX8_isUnder_6 rfl (lv_at hl 1 rfl) ?_
    refine xw_p (xw_rSU (As := [.int k]) (rest := []) (C := xk_C q) (n := 1) (hK.1 _ _ (xk_cl q (xa_8 hW hi))).2 ⟨hx, hb, hml, hown, hts⟩ hK hN hW (xc_und1 lQ G o d0 X E D b q hi k) (lw_app (List.forall_mem_cons.mpr ⟨q1650, List.forall_mem_cons.mpr ⟨q2434, List.forall_mem_cons.mpr ⟨q571, List.forall_mem_cons.mpr ⟨q1651, List.forall_mem_cons.mpr ⟨q94, fun _ h => absurd h List.not_mem_nil⟩⟩⟩⟩⟩) (lw_meth q1652)) (xr_body hK hW hi.1 hi.2) (by decide +kernel) rfl ⟨Nat.le_of_ble_eq_true rfl, Nat.le_of_ble_eq_true rfl⟩ hl.1 rfl (Nat.le_of_ble_eq_true rfl) dX8_isUnder_7 ⟨Nat.le_of_ble_eq_true rfl, Nat.le_of_ble_eq_true rfl⟩) hS (fun v7 H locs e7 hW hS => ?_)
    refine lv_if_eq (tgt := 17) hx hb dX8_isUnder_10 (by decide) (fun c10 => ?_) (fun c10 => ?_)
    · skip
      refine lv_iconst (v := 0) hx hb dX8_isUnder_17 (by decide) ?_
      refine xw_zret hx hb hr hlocks hW hS rfl ?_ dX8_isUnder_18
      have hres : xu_2 k = 0 := by subst e7; simp only [xu_2, if_neg c2, if_pos c10]
      exact ⟨by rw [hres], rfl, rfl⟩
    · skip
      refine lv_iconst (v := 1) hx hb dX8_isUnder_13 (by decide) ?_
      refine lv_goto (tgt := 18) hx hb dX8_isUnder_14 (by decide) ?_
      refine xw_zret hx hb hr hlocks hW hS rfl ?_ dX8_isUnder_18
      have hres : xu_2 k = 1 := by subst e7; simp only [xu_2, if_neg c2, if_neg c10]
      exact ⟨by rw [hres], rfl, rfl⟩

set_option maxHeartbeats 4000000 in
theorem xc_und3 (lQ : Launch) (G : wm_G) (o d0 : Nat) (X : mm_S) (E : mm_E) (D : xg) (b : Int32) (q : Nat) (hi : xa_in X b q) (k : Int32) : xw_Met lQ G o d0 yX9_isUnder (ws_ yX9_isUnder cX9_isUnder 2 (some .boolean)) 3 X E D [Value.ref (xb_ D b), .int k] (some (.int (xu_3 k))) X E := by
  refine xw_start (own := RX9) (by decide +kernel) (Nat.le_of_ble_eq_true rfl) rfl (fun pQ eQ sQ mQ belowQ methQ cQ hx hb hml hr hlocks hts hown hK hN H hW hS ls hl => ?_)
  have hl : lv_has ls 2 [(0, .ref (xb_ D b)), (1, .int k)] := hl
  generalize hlc : ([] : List Loc) = locs at hS ⊢
  refine lv_iload_n hx hb dX9_isUnder_0 rfl (lv_at hl 1 rfl) ?_
  refine lv_iconst (v := 3) hx hb dX9_isUnder_1 (by decide) ?_
  refine lv_icmp_eq (tgt := 13) hx hb dX9_isUnder_2 (by decide) (fun c2 => ?_) (fun c2 => ?_)
  · skip
    refine lv_iconst (v := 1) hx hb dX9_isUnder_13 (by decide) ?_
    refine lv_goto (tgt := 18) hx hb dX9_isUnder_14 (by decide) ?_
    refine xw_zret hx hb hr hlocks hW hS rfl ?_ dX9_isUnder_18
    have hres : xu_3 k = 1 := by simp only [xu_3, if_pos c2]
    exact ⟨by rw [hres], rfl, rfl⟩
  · skip
    refine lv_aload_n hx hb dX9_isUnder_5 rfl (lv_at hl 0 rfl) ?_
    refine lv_iload_n hx hb dX9_isUnder_6 rfl (lv_at hl 1 rfl) ?_
    refine xw_p (xw_rSU (As := [.int k]) (rest := []) (C := xk_C q) (n := 1) (hK.1 _ _ (xk_cl q (xa_8 hW hi))).2 ⟨hx, hb, hml, hown, hts⟩ hK hN hW (xc_und2 lQ G o d0 X E D b q hi k) (lw_app (List.forall_mem_cons.mpr ⟨q1674, List.forall_mem_cons.mpr ⟨q2436, List.forall_mem_cons.mpr ⟨q599, List.forall_mem_cons.mpr ⟨q1648, List.forall_mem_cons.mpr ⟨q95, fun _ h => absurd h List.not_mem_nil⟩⟩⟩⟩⟩) (lw_meth q1649)) (xr_body hK hW hi.1 hi.2) (by decide +kernel) rfl ⟨Nat.le_of_ble_eq_true rfl, Nat.le_of_ble_eq_true rfl⟩ hl.1 rfl (Nat.le_of_ble_eq_true rfl) dX9_isUnder_7 ⟨Nat.le_of_ble_eq_true rfl, Nat.le_of_ble_eq_true rfl⟩) hS (fun v7 H locs e7 hW hS => ?_)
    refine lv_if_eq (tgt := 17) hx hb dX9_isUnder_10 (by decide) (fun c10 => ?_) (fun c10 => ?_)
    · skip
      refine lv_iconst (v := 0) hx hb dX9_isUnder_17 (by decide) ?_
      refine xw_zret hx hb hr hlocks hW hS rfl ?_ dX9_isUnder_18
      have hres : xu_3 k = 0 := by subst e7; simp only [xu_3, if_neg c2, if_pos c10]
      exact ⟨by rw [hres], rfl, rfl⟩
    · skip
      refine lv_iconst (v := 1) hx hb dX9_isUnder_13 (by decide) ?_
      refine lv_goto (tgt := 18) hx hb dX9_isUnder_14 (by decide) ?_
      refine xw_zret hx hb hr hlocks hW hS rfl ?_ dX9_isUnder_18
      have hres : xu_3 k = 1 := by subst e7; simp only [xu_3, if_neg c2, if_neg c10]
      exact ⟨by rw [hres], rfl, rfl⟩

set_option maxHeartbeats 4000000 in
theorem xc_und4 (lQ : Launch) (G : wm_G) (o d0 : Nat) (X : mm_S) (E : mm_E) (D : xg) (b : Int32) (q : Nat) (hi : xa_in X b q) (k : Int32) : xw_Met lQ G o d0 yX10_isUnder (ws_ yX10_isUnder cX10_isUnder 2 (some .boolean)) 3 X E D [Value.ref (xb_ D b), .int k] (some (.int (xu_4 k))) X E := by
  refine xw_start (own := RX10) (by decide +kernel) (Nat.le_of_ble_eq_true rfl) rfl (fun pQ eQ sQ mQ belowQ methQ cQ hx hb hml hr hlocks hts hown hK hN H hW hS ls hl => ?_)
  have hl : lv_has ls 2 [(0, .ref (xb_ D b)), (1, .int k)] := hl
  generalize hlc : ([] : List Loc) = locs at hS ⊢
  refine lv_iload_n hx hb dX10_isUnder_0 rfl (lv_at hl 1 rfl) ?_
  refine lv_iconst (v := 4) hx hb dX10_isUnder_1 (by decide) ?_
  refine lv_icmp_eq (tgt := 13) hx hb dX10_isUnder_2 (by decide) (fun c2 => ?_) (fun c2 => ?_)
  · skip
    refine lv_iconst (v := 1) hx hb dX10_isUnder_13 (by decide) ?_
    refine lv_goto (tgt := 18) hx hb dX10_isUnder_14 (by decide) ?_
    refine xw_zret hx hb hr hlocks hW hS rfl ?_ dX10_isUnder_18
    have hres : xu_4 k = 1 := by simp only [xu_4, if_pos c2]
    exact ⟨by rw [hres], rfl, rfl⟩
  · skip
    refine lv_aload_n hx hb dX10_isUnder_5 rfl (lv_at hl 0 rfl) ?_
    refine lv_iload_n hx hb dX10_isUnder_6 rfl (lv_at hl 1 rfl) ?_
    refine xw_p (xw_rSU (As := [.int k]) (rest := []) (C := xk_C q) (n := 1) (hK.1 _ _ (xk_cl q (xa_8 hW hi))).2 ⟨hx, hb, hml, hown, hts⟩ hK hN hW (xc_und2 lQ G o d0 X E D b q hi k) (lw_app (List.forall_mem_cons.mpr ⟨q1661, List.forall_mem_cons.mpr ⟨q2436, List.forall_mem_cons.mpr ⟨q624, List.forall_mem_cons.mpr ⟨q1648, List.forall_mem_cons.mpr ⟨q95, fun _ h => absurd h List.not_mem_nil⟩⟩⟩⟩⟩) (lw_meth q1649)) (xr_body hK hW hi.1 hi.2) (by decide +kernel) rfl ⟨Nat.le_of_ble_eq_true rfl, Nat.le_of_ble_eq_true rfl⟩ hl.1 rfl (Nat.le_of_ble_eq_true rfl) dX10_isUnder_7 ⟨Nat.le_of_ble_eq_true rfl, Nat.le_of_ble_eq_true rfl⟩) hS (fun v7 H locs e7 hW hS => ?_)
    refine lv_if_eq (tgt := 17) hx hb dX10_isUnder_10 (by decide) (fun c10 => ?_) (fun c10 => ?_)
    · skip
      refine lv_iconst (v := 0) hx hb dX10_isUnder_17 (by decide) ?_
      refine xw_zret hx hb hr hlocks hW hS rfl ?_ dX10_isUnder_18
      have hres : xu_4 k = 0 := by subst e7; simp only [xu_4, if_neg c2, if_pos c10]
      exact ⟨by rw [hres], rfl, rfl⟩
    · skip
      refine lv_iconst (v := 1) hx hb dX10_isUnder_13 (by decide) ?_
      refine lv_goto (tgt := 18) hx hb dX10_isUnder_14 (by decide) ?_
      refine xw_zret hx hb hr hlocks hW hS rfl ?_ dX10_isUnder_18
      have hres : xu_4 k = 1 := by subst e7; simp only [xu_4, if_neg c2, if_neg c10]
      exact ⟨by rw [hres], rfl, rfl⟩

set_option maxHeartbeats 4000000 in
theorem xc_und5 (lQ : Launch) (G : wm_G) (o d0 : Nat) (X : mm_S) (E : mm_E) (D : xg) (b : Int32) (q : Nat) (hi : xa_in X b q) (k : Int32) : xw_Met lQ G o d0 yX11_isUnder (ws_ yX11_isUnder cX11_isUnder 2 (some .boolean)) 4 X E D [Value.ref (xb_ D b), .int k] (some (.int (xu_5 k))) X E := by
  refine xw_start (own := RX11) (by decide +kernel) (Nat.le_of_ble_eq_true rfl) rfl (fun pQ eQ sQ mQ belowQ methQ cQ hx hb hml hr hlocks hts hown hK hN H hW hS ls hl => ?_)
  have hl : lv_has ls 2 [(0, .ref (xb_ D b)), (1, .int k)] := hl
  generalize hlc : ([] : List Loc) = locs at hS ⊢
  refine lv_iload_n hx hb dX11_isUnder_0 rfl (lv_at hl 1 rfl) ?_
  refine lv_iconst (v := 5) hx hb dX11_isUnder_1 (by decide) ?_
  refine lv_icmp_eq (tgt := 13) hx hb dX11_isUnder_2 (by decide) (fun c2 => ?_) (fun c2 => ?_)
  · skip
    refine lv_iconst (v := 1) hx hb dX11_isUnder_13 (by decide) ?_
    refine lv_goto (tgt := 18) hx hb dX11_isUnder_14 (by decide) ?_
    refine xw_zret hx hb hr hlocks hW hS rfl ?_ dX11_isUnder_18
    have hres : xu_5 k = 1 := by simp only [xu_5, if_pos c2]
    exact ⟨by rw [hres], rfl, rfl⟩
  · skip
    refine lv_aload_n hx hb dX11_isUnder_5 rfl (lv_at hl 0 rfl) ?_
    refine lv_iload_n hx hb dX11_isUnder_6 rfl (lv_at hl 1 rfl) ?_
    refine xw_p (xw_rSU (As := [.int k]) (rest := []) (C := xk_C q) (n := 1) (hK.1 _ _ (xk_cl q (xa_8 hW hi))).2 ⟨hx, hb, hml, hown, hts⟩ hK hN hW (xc_und4 lQ G o d0 X E D b q hi k) (lw_app (List.forall_mem_cons.mpr ⟨q1658, List.forall_mem_cons.mpr ⟨q2435, List.forall_mem_cons.mpr ⟨q650, List.forall_mem_cons.mpr ⟨q1659, List.forall_mem_cons.mpr ⟨q97, fun _ h => absurd h List.not_mem_nil⟩⟩⟩⟩⟩) (lw_meth q1660)) (xr_body hK hW hi.1 hi.2) (by decide +kernel) rfl ⟨Nat.le_of_ble_eq_true rfl, Nat.le_of_ble_eq_true rfl⟩ hl.1 rfl (Nat.le_of_ble_eq_true rfl) dX11_isUnder_7 ⟨Nat.le_of_ble_eq_true rfl, Nat.le_of_ble_eq_true rfl⟩) hS (fun v7 H locs e7 hW hS => ?_)
    refine lv_if_eq (tgt := 17) hx hb dX11_isUnder_10 (by decide) (fun c10 => ?_) (fun c10 => ?_)
    · skip
      refine lv_iconst (v := 0) hx hb dX11_isUnder_17 (by decide) ?_
      refine xw_zret hx hb hr hlocks hW hS rfl ?_ dX11_isUnder_18
      have hres : xu_5 k = 0 := by subst e7; simp only [xu_5, if_neg c2, if_pos c10]
      exact ⟨by rw [hres], rfl, rfl⟩
    · skip
      refine lv_iconst (v := 1) hx hb dX11_isUnder_13 (by decide) ?_
      refine lv_goto (tgt := 18) hx hb dX11_isUnder_14 (by decide) ?_
      refine xw_zret hx hb hr hlocks hW hS rfl ?_ dX11_isUnder_18
      have hres : xu_5 k = 1 := by subst e7; simp only [xu_5, if_neg c2, if_neg c10]
      exact ⟨by rw [hres], rfl, rfl⟩

set_option maxHeartbeats 4000000 in
theorem xc_und6 (lQ : Launch) (G : wm_G) (o d0 : Nat) (X : mm_S) (E : mm_E) (D : xg) (b : Int32) (q : Nat) (hi : xa_in X b q) (k : Int32) : xw_Met lQ G o d0 yX12_isUnder (ws_ yX12_isUnder cX12_isUnder 2 (some .boolean)) 2 X E D [Value.ref (xb_ D b), .int k] (some (.int (xu_6 k))) X E := by
  refine xw_start (own := RX12) (by decide +kernel) (Nat.le_of_ble_eq_true rfl) rfl (fun pQ eQ sQ mQ belowQ methQ cQ hx hb hml hr hlocks hts hown hK hN H hW hS ls hl => ?_)
  have hl : lv_has ls 2 [(0, .ref (xb_ D b)), (1, .int k)] := hl
  generalize hlc : ([] : List Loc) = locs at hS ⊢
  refine lv_iload_n hx hb dX12_isUnder_0 rfl (lv_at hl 1 rfl) ?_
  refine lv_bipush (v := 6) hx hb dX12_isUnder_1 (by decide) ?_
  refine lv_icmp_eq (tgt := 14) hx hb dX12_isUnder_3 (by decide) (fun c3 => ?_) (fun c3 => ?_)
  · skip
    refine lv_iconst (v := 1) hx hb dX12_isUnder_14 (by decide) ?_
    refine lv_goto (tgt := 19) hx hb dX12_isUnder_15 (by decide) ?_
    refine xw_zret hx hb hr hlocks hW hS rfl ?_ dX12_isUnder_19
    have hres : xu_6 k = 1 := by simp only [xu_6, if_pos c3]
    exact ⟨by rw [hres], rfl, rfl⟩
  · skip
    refine lv_aload_n hx hb dX12_isUnder_6 rfl (lv_at hl 0 rfl) ?_
    refine lv_iload_n hx hb dX12_isUnder_7 rfl (lv_at hl 1 rfl) ?_
    refine xw_p (xw_rSU (As := [.int k]) (rest := []) (C := xk_C q) (n := 1) (hK.1 _ _ (xk_cl q (xa_8 hW hi))).2 ⟨hx, hb, hml, hown, hts⟩ hK hN hW (xc_und1 lQ G o d0 X E D b q hi k) (lw_app (List.forall_mem_cons.mpr ⟨q1670, List.forall_mem_cons.mpr ⟨q2434, List.forall_mem_cons.mpr ⟨q685, List.forall_mem_cons.mpr ⟨q1651, List.forall_mem_cons.mpr ⟨q94, fun _ h => absurd h List.not_mem_nil⟩⟩⟩⟩⟩) (lw_meth q1652)) (xr_body hK hW hi.1 hi.2) (by decide +kernel) rfl ⟨Nat.le_of_ble_eq_true rfl, Nat.le_of_ble_eq_true rfl⟩ hl.1 rfl (Nat.le_of_ble_eq_true rfl) dX12_isUnder_8 ⟨Nat.le_of_ble_eq_true rfl, Nat.le_of_ble_eq_true rfl⟩) hS (fun v8 H locs e8 hW hS => ?_)
    refine lv_if_eq (tgt := 18) hx hb dX12_isUnder_11 (by decide) (fun c11 => ?_) (fun c11 => ?_)
    · skip
      refine lv_iconst (v := 0) hx hb dX12_isUnder_18 (by decide) ?_
      refine xw_zret hx hb hr hlocks hW hS rfl ?_ dX12_isUnder_19
      have hres : xu_6 k = 0 := by subst e8; simp only [xu_6, if_neg c3, if_pos c11]
      exact ⟨by rw [hres], rfl, rfl⟩
    · skip
      refine lv_iconst (v := 1) hx hb dX12_isUnder_14 (by decide) ?_
      refine lv_goto (tgt := 19) hx hb dX12_isUnder_15 (by decide) ?_
      refine xw_zret hx hb hr hlocks hW hS rfl ?_ dX12_isUnder_19
      have hres : xu_6 k = 1 := by subst e8; simp only [xu_6, if_neg c3, if_neg c11]
      exact ⟨by rw [hres], rfl, rfl⟩

set_option maxHeartbeats 4000000 in
theorem xc_und7 (lQ : Launch) (G : wm_G) (o d0 : Nat) (X : mm_S) (E : mm_E) (D : xg) (b : Int32) (q : Nat) (hi : xa_in X b q) (k : Int32) : xw_Met lQ G o d0 yX13_isUnder (ws_ yX13_isUnder cX13_isUnder 2 (some .boolean)) 1 X E D [Value.ref (xb_ D b), .int k] (some (.int (xu_7 k))) X E := by
  refine xw_start (own := RX13) (by decide +kernel) (Nat.le_of_ble_eq_true rfl) rfl (fun pQ eQ sQ mQ belowQ methQ cQ hx hb hml hr hlocks hts hown hK hN H hW hS ls hl => ?_)
  have hl : lv_has ls 2 [(0, .ref (xb_ D b)), (1, .int k)] := hl
  generalize hlc : ([] : List Loc) = locs at hS ⊢
  refine lv_iload_n hx hb dX13_isUnder_0 rfl (lv_at hl 1 rfl) ?_
  refine lv_bipush (v := 7) hx hb dX13_isUnder_1 (by decide) ?_
  refine lv_icmp_eq (tgt := 14) hx hb dX13_isUnder_3 (by decide) (fun c3 => ?_) (fun c3 => ?_)
  · skip
    refine lv_iconst (v := 1) hx hb dX13_isUnder_14 (by decide) ?_
    refine lv_goto (tgt := 19) hx hb dX13_isUnder_15 (by decide) ?_
    refine xw_zret hx hb hr hlocks hW hS rfl ?_ dX13_isUnder_19
    have hres : xu_7 k = 1 := by simp only [xu_7, if_pos c3]
    exact ⟨by rw [hres], rfl, rfl⟩
  · skip
    refine lv_aload_n hx hb dX13_isUnder_6 rfl (lv_at hl 0 rfl) ?_
    refine lv_iload_n hx hb dX13_isUnder_7 rfl (lv_at hl 1 rfl) ?_
    refine xw_p (xw_rSU (As := [.int k]) (rest := []) (C := xk_C q) (n := 1) (hK.1 _ _ (xk_cl q (xa_8 hW hi))).2 ⟨hx, hb, hml, hown, hts⟩ hK hN hW (xc_und0 lQ G o d0 X E D b q hi k) (lw_app (List.forall_mem_cons.mpr ⟨q1665, List.forall_mem_cons.mpr ⟨q1646, List.forall_mem_cons.mpr ⟨q718, List.forall_mem_cons.mpr ⟨q1644, List.forall_mem_cons.mpr ⟨q93, fun _ h => absurd h List.not_mem_nil⟩⟩⟩⟩⟩) (lw_meth q1654)) (xr_body hK hW hi.1 hi.2) (by decide +kernel) rfl ⟨Nat.le_of_ble_eq_true rfl, Nat.le_of_ble_eq_true rfl⟩ hl.1 rfl (Nat.le_of_ble_eq_true rfl) dX13_isUnder_8 ⟨Nat.le_of_ble_eq_true rfl, Nat.le_of_ble_eq_true rfl⟩) hS (fun v8 H locs e8 hW hS => ?_)
    refine lv_if_eq (tgt := 18) hx hb dX13_isUnder_11 (by decide) (fun c11 => ?_) (fun c11 => ?_)
    · skip
      refine lv_iconst (v := 0) hx hb dX13_isUnder_18 (by decide) ?_
      refine xw_zret hx hb hr hlocks hW hS rfl ?_ dX13_isUnder_19
      have hres : xu_7 k = 0 := by subst e8; simp only [xu_7, if_neg c3, if_pos c11]
      exact ⟨by rw [hres], rfl, rfl⟩
    · skip
      refine lv_iconst (v := 1) hx hb dX13_isUnder_14 (by decide) ?_
      refine lv_goto (tgt := 19) hx hb dX13_isUnder_15 (by decide) ?_
      refine xw_zret hx hb hr hlocks hW hS rfl ?_ dX13_isUnder_19
      have hres : xu_7 k = 1 := by subst e8; simp only [xu_7, if_neg c3, if_neg c11]
      exact ⟨by rw [hres], rfl, rfl⟩

section XD15
variable {p : Program} {l : Launch} {e : Env} {R : Room} {s : State} {m : MethodId} {args : Array Value} {below : List Frame} {meth : Method} {c : Code} {H : Heap} {locs : List Loc} {cells slots : Nat} {Q : State → Prop}
variable {cc : ByteArray} {pc : Nat} {ls : Array Slot} {rest st0 : List Value} {G : wm_G} {o d0 : Nat} {H0 : Heap} {X : mm_S} {E : mm_E} {D : xg} {nL : Nat}
set_option maxHeartbeats 4000000 in
theorem xd_isUnder_X0 (l : Launch) (F : CallFix p m c cc nL s args lw_all RX0) (hK : wm_K G s) (hN : xn_T s) (hW : xx_W G o d0 X E D H) {b : Int32} {q : Nat} (hi : xa_in X b q) (hk : q < 8) (k : Int32) (hR : 5 ≤ R.frames ∧ 261 ≤ R.locals) (hsz : ls.size = nL) (hst : st0 = ([.int k] : List Value).reverse ++ .ref (xb_ D b) :: rest) (hrest : (rest.map fun v => v.category).sum ≤ 8) (hd : decode cc pc = .ok (.invokevirtual 588, 3)) (hroom : cells ≤ R.cells ∧ slots ≤ R.slots) : xw_Run p l e R s m args below meth c H locs cells slots (F0 m pc ls st0) rest G o d0 D (some (.int (xa_und q k))) X E := by
  have hk : q = 0 ∨ q = 1 ∨ q = 2 ∨ q = 3 ∨ q = 4 ∨ q = 5 ∨ q = 6 ∨ q = 7 := by omega
  rcases hk with rfl | rfl | rfl | rfl | rfl | rfl | rfl | rfl
  · exact xw_rU (C := RX6) (owner := "ThirtyThreeBelow$Body") (x := ({ cls := "ThirtyThreeBelow$Body", name := "isUnder", desc := "(I)Z" } : Jvm.MethodName)) (n := 1) F hK hN hW (xc_und0 l G o d0 X E D b 0 hi k) (lw_app (List.forall_mem_cons.mpr ⟨q1643, List.forall_mem_cons.mpr ⟨q1646, List.forall_mem_cons.mpr ⟨q1645, List.forall_mem_cons.mpr ⟨q1644, List.forall_mem_cons.mpr ⟨q93, fun _ h => absurd h List.not_mem_nil⟩⟩⟩⟩⟩) (lw_meth q1654)) rfl (xr_body hK hW hi.1 hi.2) (by decide +kernel) rfl ⟨Nat.le_trans (by decide) hR.1, Nat.le_trans (by decide) hR.2⟩ hsz hst hrest hd hroom
  · exact xw_rO (C := RX7) (owner := "ThirtyThreeBelow$Body") (x := ({ cls := "ThirtyThreeBelow$Body", name := "isUnder", desc := "(I)Z" } : Jvm.MethodName)) (n := 1) F hK hN hW (xc_und1 l G o d0 X E D b 1 hi k) (lw_app (List.forall_mem_cons.mpr ⟨q1643, List.forall_mem_cons.mpr ⟨q1646, List.forall_mem_cons.mpr ⟨q1644, List.forall_mem_cons.mpr ⟨q1675, List.forall_mem_cons.mpr ⟨q1651, List.forall_mem_cons.mpr ⟨q94, fun _ h => absurd h List.not_mem_nil⟩⟩⟩⟩⟩⟩) (lw_meth q1652)) q1654 (xr_body hK hW hi.1 hi.2) (by decide +kernel) rfl ⟨Nat.le_trans (by decide) hR.1, Nat.le_trans (by decide) hR.2⟩ hsz hst hrest hd hroom
  · exact xw_rO (C := RX8) (owner := "ThirtyThreeBelow$Body") (x := ({ cls := "ThirtyThreeBelow$Body", name := "isUnder", desc := "(I)Z" } : Jvm.MethodName)) (n := 1) F hK hN hW (xc_und2 l G o d0 X E D b 2 hi k) (lw_app (List.forall_mem_cons.mpr ⟨q1643, List.forall_mem_cons.mpr ⟨q1646, List.forall_mem_cons.mpr ⟨q1644, List.forall_mem_cons.mpr ⟨q1647, List.forall_mem_cons.mpr ⟨q1648, List.forall_mem_cons.mpr ⟨q95, fun _ h => absurd h List.not_mem_nil⟩⟩⟩⟩⟩⟩) (lw_meth q1649)) q1654 (xr_body hK hW hi.1 hi.2) (by decide +kernel) rfl ⟨Nat.le_trans (by decide) hR.1, Nat.le_trans (by decide) hR.2⟩ hsz hst hrest hd hroom
  · exact xw_rO (C := RX9) (owner := "ThirtyThreeBelow$Body") (x := ({ cls := "ThirtyThreeBelow$Body", name := "isUnder", desc := "(I)Z" } : Jvm.MethodName)) (n := 1) F hK hN hW (xc_und3 l G o d0 X E D b 3 hi k) (lw_app (List.forall_mem_cons.mpr ⟨q1643, List.forall_mem_cons.mpr ⟨q1646, List.forall_mem_cons.mpr ⟨q1644, List.forall_mem_cons.mpr ⟨q1671, List.forall_mem_cons.mpr ⟨q1672, List.forall_mem_cons.mpr ⟨q96, fun _ h => absurd h List.not_mem_nil⟩⟩⟩⟩⟩⟩) (lw_meth q1673)) q1654 (xr_body hK hW hi.1 hi.2) (by decide +kernel) rfl ⟨Nat.le_trans (by decide) hR.1, Nat.le_trans (by decide) hR.2⟩ hsz hst hrest hd hroom
  · exact xw_rO (C := RX10) (owner := "ThirtyThreeBelow$Body") (x := ({ cls := "ThirtyThreeBelow$Body", name := "isUnder", desc := "(I)Z" } : Jvm.MethodName)) (n := 1) F hK hN hW (xc_und4 l G o d0 X E D b 4 hi k) (lw_app (List.forall_mem_cons.mpr ⟨q1643, List.forall_mem_cons.mpr ⟨q1646, List.forall_mem_cons.mpr ⟨q1644, List.forall_mem_cons.mpr ⟨q1666, List.forall_mem_cons.mpr ⟨q1659, List.forall_mem_cons.mpr ⟨q97, fun _ h => absurd h List.not_mem_nil⟩⟩⟩⟩⟩⟩) (lw_meth q1660)) q1654 (xr_body hK hW hi.1 hi.2) (by decide +kernel) rfl ⟨Nat.le_trans (by decide) hR.1, Nat.le_trans (by decide) hR.2⟩ hsz hst hrest hd hroom
  · exact xw_rO (C := RX11) (owner := "ThirtyThreeBelow$Body") (x := ({ cls := "ThirtyThreeBelow$Body", name := "isUnder", desc := "(I)Z" } : Jvm.MethodName)) (n := 1) F hK hN hW (xc_und5 l G o d0 X E D b 5 hi k) (lw_app (List.forall_mem_cons.mpr ⟨q1643, List.forall_mem_cons.mpr ⟨q1646, List.forall_mem_cons.mpr ⟨q1644, List.forall_mem_cons.mpr ⟨q1655, List.forall_mem_cons.mpr ⟨q1656, List.forall_mem_cons.mpr ⟨q98, fun _ h => absurd h List.not_mem_nil⟩⟩⟩⟩⟩⟩) (lw_meth q1657)) q1654 (xr_body hK hW hi.1 hi.2) (by decide +kernel) rfl ⟨Nat.le_trans (by decide) hR.1, Nat.le_trans (by decide) hR.2⟩ hsz hst hrest hd hroom
  · exact xw_rO (C := RX12) (owner := "ThirtyThreeBelow$Body") (x := ({ cls := "ThirtyThreeBelow$Body", name := "isUnder", desc := "(I)Z" } : Jvm.MethodName)) (n := 1) F hK hN hW (xc_und6 l G o d0 X E D b 6 hi k) (lw_app (List.forall_mem_cons.mpr ⟨q1643, List.forall_mem_cons.mpr ⟨q1646, List.forall_mem_cons.mpr ⟨q1644, List.forall_mem_cons.mpr ⟨q1667, List.forall_mem_cons.mpr ⟨q1668, List.forall_mem_cons.mpr ⟨q99, fun _ h => absurd h List.not_mem_nil⟩⟩⟩⟩⟩⟩) (lw_meth q1669)) q1654 (xr_body hK hW hi.1 hi.2) (by decide +kernel) rfl ⟨Nat.le_trans (by decide) hR.1, Nat.le_trans (by decide) hR.2⟩ hsz hst hrest hd hroom
  · exact xw_rO (C := RX13) (owner := "ThirtyThreeBelow$Body") (x := ({ cls := "ThirtyThreeBelow$Body", name := "isUnder", desc := "(I)Z" } : Jvm.MethodName)) (n := 1) F hK hN hW (xc_und7 l G o d0 X E D b 7 hi k) (lw_app (List.forall_mem_cons.mpr ⟨q1643, List.forall_mem_cons.mpr ⟨q1646, List.forall_mem_cons.mpr ⟨q1644, List.forall_mem_cons.mpr ⟨q1662, List.forall_mem_cons.mpr ⟨q1663, List.forall_mem_cons.mpr ⟨q100, fun _ h => absurd h List.not_mem_nil⟩⟩⟩⟩⟩⟩) (lw_meth q1664)) q1654 (xr_body hK hW hi.1 hi.2) (by decide +kernel) rfl ⟨Nat.le_trans (by decide) hR.1, Nat.le_trans (by decide) hR.2⟩ hsz hst hrest hd hroom

end XD15
set_option maxHeartbeats 4000000 in
theorem xc_act (lQ : Launch) (G : wm_G) (o d0 : Nat) (X : mm_S) (E : mm_E) (D : xg) (b : Int32) (w : Int32) (x : Int32) : xw_Met lQ G o d0 yX0_act (ws_ yX0_act cX0_act 5 (some .int)) 10 X E D [Value.ref o, .int b, .int w, .int x] (some (.int (xa_act X b w x).1)) (xa_act X b w x).2 E := by
  refine xw_start (own := RX0) (by decide +kernel) (Nat.le_of_ble_eq_true rfl) rfl (fun pQ eQ sQ mQ belowQ methQ cQ hx hb hml hr hlocks hts hown hK hN H hW hS ls hl => ?_)
  have hl : lv_has ls 5 [(0, .ref o), (1, .int b), (2, .int w), (3, .int x)] := hl
  generalize hlc : ([] : List Loc) = locs at hS ⊢
  refine lv_aload_n hx hb dX0_act_0 rfl (lv_at hl 0 rfl) ?_
  refine lv_iconst (v := 0) hx hb dX0_act_1 (by decide) ?_
  refine xx_puti hx hb hts hown hK hW hS 7 rfl rfl (by decide) (by decide) (by decide) rfl rfl rfl q276 dX0_act_2 (fun X2 H locs f2 hW hS => ?_)
  refine lv_aload_n hx hb dX0_act_5 rfl (lv_at hl 0 rfl) ?_
  refine lv_iload_n hx hb dX0_act_6 rfl (lv_at hl 1 rfl) ?_
  refine xw_p (xw_rV (As := [.int b]) (rest := []) (n := 1) ⟨hx, hb, hml, hown, hts⟩ hK hN hW (xc_isBody lQ G o d0 X2 E D b) (lw_V q723 q725 qs2 q84 q726) (xr_main hK hW) (by decide +kernel) rfl ⟨Nat.le_of_ble_eq_true rfl, Nat.le_of_ble_eq_true rfl⟩ hl.1 rfl (Nat.le_of_ble_eq_true rfl) dX0_act_7 ⟨Nat.le_of_ble_eq_true rfl, Nat.le_of_ble_eq_true rfl⟩) hS (fun v7 H locs e7 hW hS => ?_)
  refine lv_if_eq (tgt := 25) hx hb dX0_act_10 (by decide) (fun c10 => ?_) (fun c10 => ?_)
  · skip
    refine lv_iconst (v := 0) hx hb dX0_act_25 (by decide) ?_
    refine xw_iret hx hb hr hlocks hW hS ?_ dX0_act_26
    have hres : xa_act X b w x = (0, X2) := by subst f2 e7; simp only [xa_act, if_pos c10]
    exact ⟨by rw [hres], by rw [hres], rfl⟩
  · skip
    obtain ⟨q, hq⟩ : ∃ q : Nat, q = xq X b := ⟨_, rfl⟩
    have hi : xa_in X2 b q := ⟨xf_isBody_t (xv_W hW) (by rw [← e7]; exact c10), by rw [f2, xq_fw (by decide)]; exact hq.symm⟩
    have hr0 : xa_r 0 X2 := by rw [f2]; exact ⟨by rw [fd_fw]; decide, by rw [fd_fw]; decide⟩
    refine lv_iload_n hx hb dX0_act_13 rfl (lv_at hl 2 rfl) ?_
    refine lv_i2l (v := (w).toInt64) hx hb dX0_act_14 rfl ?_
    refine lv_lconst (v := 0) hx hb dX0_act_15 (by decide) ?_
    refine lv_ldc2 (v := 3) hx hb hown (hts _ q1267) dX0_act_16 ?_
    refine xx_within (rest := []) w 0 3 ⟨hx, hb, hml, hown, hts⟩ rfl (by decide) (by decide) q459 hl.1 rfl rfl (Nat.le_of_ble_eq_true rfl) rfl rfl ⟨Nat.le_of_ble_eq_true rfl, Nat.le_of_ble_eq_true rfl⟩ dX0_act_19 (fun v19 e19 => ?_)
    refine lv_if_ne (tgt := 27) hx hb dX0_act_22 (by decide) (fun c22 => ?_) (fun c22 => ?_)
    · skip
      refine lv_aload_n hx hb dX0_act_27 rfl (lv_at hl 0 rfl) ?_
      refine xx_getr hx hb hts hown hK hW 3 rfl rfl (by decide) (by decide) q270 dX0_act_28 ?_
      refine lv_iload_n hx hb dX0_act_31 rfl (lv_at hl 1 rfl) ?_
      refine xx_bald hx hb hK hW hi.1 dX0_act_32 ?_
      refine xl_astore (lv' := [(4, va_rf (xx_o D b)), (0, .ref o), (1, .int b), (2, .int w), (3, .int x)]) hx hb dX0_act_33 hl (by decide) rfl (fun ls hl => ?_)
      refine lv_iload_n hx hb dX0_act_35 rfl (lv_at hl 3 rfl) ?_
      by_cases k36_0 : w = 0
      · skip
        refine lv_tableIn (off := 28) (tgt := 64) hx hb dX0_act_36 (by rw [k36_0]; decide) (by rw [k36_0]; decide) (by rw [k36_0]; rfl) (by decide) ?_
        refine xl_aload hx hb dX0_act_64 (lv_at hl 0 rfl) ?_
        refine lv_iload_n hx hb dX0_act_66 rfl (lv_at hl 4 rfl) ?_
        refine xw_i (xd_bores_X0 (rest := []) lQ ⟨hx, hb, hml, hown, hts⟩ hK hN hW hi (xa_8 hW hi) x (hr0.le (by decide)) ⟨Nat.le_of_ble_eq_true rfl, Nat.le_of_ble_eq_true rfl⟩ hl.1 (by rw [xx_o_pos hi.1.1]; rfl) (Nat.le_of_ble_eq_true rfl) dX0_act_67 ⟨Nat.le_of_ble_eq_true rfl, Nat.le_of_ble_eq_true rfl⟩) hS (fun v67 X67 H locs e67 f67 hW hS => ?_)
        have hi : xa_in X67 b q := by rw [f67]; exact xa_eq (xa_e (xa_bores_ok q b x X2).1) hi
        have hr0 : xa_r 4 X67 := by rw [f67]; exact (xa_bores_ok q b x X2).2 0 (by decide) hr0
        refine xw_iret hx hb hr hlocks hW hS ?_ dX0_act_70
        have hres : xa_act X b w x = (v67, X67) := by
          unfold xa_act
          rw [← f2, ← e7, if_neg c10, if_neg (by rw [← e19]; exact c22), if_pos k36_0, ← hq]
          exact Prod.ext e67.symm f67.symm
        exact ⟨by rw [hres], by rw [hres], rfl⟩
      · skip
        by_cases k36_1 : w = 1
        · skip
          refine lv_tableIn (off := 35) (tgt := 71) hx hb dX0_act_36 (by rw [k36_1]; decide) (by rw [k36_1]; decide) (by rw [k36_1]; rfl) (by decide) ?_
          refine xl_aload hx hb dX0_act_71 (lv_at hl 0 rfl) ?_
          refine lv_iload_n hx hb dX0_act_73 rfl (lv_at hl 4 rfl) ?_
          refine xw_i (xd_carries_X0 (rest := []) lQ ⟨hx, hb, hml, hown, hts⟩ hK hN hW hi (xa_8 hW hi) x (hr0.le (by decide)) ⟨Nat.le_of_ble_eq_true rfl, Nat.le_of_ble_eq_true rfl⟩ hl.1 (by rw [xx_o_pos hi.1.1]; rfl) (Nat.le_of_ble_eq_true rfl) dX0_act_74 ⟨Nat.le_of_ble_eq_true rfl, Nat.le_of_ble_eq_true rfl⟩) hS (fun v74 X74 H locs e74 f74 hW hS => ?_)
          have hi : xa_in X74 b q := by rw [f74]; exact xa_eq (xa_e (xa_carries_ok q b x X2).1) hi
          have hr0 : xa_r 6 X74 := by rw [f74]; exact (xa_carries_ok q b x X2).2 0 (by decide) hr0
          refine xw_iret hx hb hr hlocks hW hS ?_ dX0_act_77
          have hres : xa_act X b w x = (v74, X74) := by
            unfold xa_act
            rw [← f2, ← e7, if_neg c10, if_neg (by rw [← e19]; exact c22), if_neg k36_0, if_pos k36_1, ← hq]
            exact Prod.ext e74.symm f74.symm
          exact ⟨by rw [hres], by rw [hres], rfl⟩
        · skip
          by_cases k36_2 : w = 2
          · skip
            refine lv_tableIn (off := 42) (tgt := 78) hx hb dX0_act_36 (by rw [k36_2]; decide) (by rw [k36_2]; decide) (by rw [k36_2]; rfl) (by decide) ?_
            refine xl_aload hx hb dX0_act_78 (lv_at hl 0 rfl) ?_
            refine lv_iload_n hx hb dX0_act_80 rfl (lv_at hl 4 rfl) ?_
            refine xw_i (xd_holds_X0 (rest := []) lQ ⟨hx, hb, hml, hown, hts⟩ hK hN hW hi (xa_8 hW hi) x (hr0.le (by decide)) ⟨Nat.le_of_ble_eq_true rfl, Nat.le_of_ble_eq_true rfl⟩ hl.1 (by rw [xx_o_pos hi.1.1]; rfl) (Nat.le_of_ble_eq_true rfl) dX0_act_81 ⟨Nat.le_of_ble_eq_true rfl, Nat.le_of_ble_eq_true rfl⟩) hS (fun v81 X81 H locs e81 f81 hW hS => ?_)
            have hi : xa_in X81 b q := by rw [f81]; exact xa_eq (xa_e (xa_holds_ok q b x X2).1) hi
            have hr0 : xa_r 8 X81 := by rw [f81]; exact (xa_holds_ok q b x X2).2 0 (by decide) hr0
            refine xw_iret hx hb hr hlocks hW hS ?_ dX0_act_84
            have hres : xa_act X b w x = (v81, X81) := by
              unfold xa_act
              rw [← f2, ← e7, if_neg c10, if_neg (by rw [← e19]; exact c22), if_neg k36_0, if_neg k36_1, if_pos k36_2, ← hq]
              exact Prod.ext e81.symm f81.symm
            exact ⟨by rw [hres], by rw [hres], rfl⟩
          · skip
            refine lv_tableOut (tgt := 85) hx hb dX0_act_36 (by have hk36_0 : (w).toInt ≠ 0 := ww_ne k36_0; have hk36_1 : (w).toInt ≠ 1 := ww_ne k36_1; have hk36_2 : (w).toInt ≠ 2 := ww_ne k36_2; omega) (by decide) ?_
            refine xl_aload hx hb dX0_act_85 (lv_at hl 0 rfl) ?_
            refine lv_iload_n hx hb dX0_act_87 rfl (lv_at hl 4 rfl) ?_
            refine xw_i (xd_tells_X0 (rest := []) lQ ⟨hx, hb, hml, hown, hts⟩ hK hN hW hi (xa_8 hW hi) x (hr0.le (by decide)) ⟨Nat.le_of_ble_eq_true rfl, Nat.le_of_ble_eq_true rfl⟩ hl.1 (by rw [xx_o_pos hi.1.1]; rfl) (Nat.le_of_ble_eq_true rfl) dX0_act_88 ⟨Nat.le_of_ble_eq_true rfl, Nat.le_of_ble_eq_true rfl⟩) hS (fun v88 X88 H locs e88 f88 hW hS => ?_)
            have hi : xa_in X88 b q := by rw [f88]; exact xa_eq (xa_e (xa_tells_ok q b x X2).1) hi
            have hr0 : xa_r 16 X88 := by rw [f88]; exact (xa_tells_ok q b x X2).2 0 (by decide) hr0
            refine xw_iret hx hb hr hlocks hW hS ?_ dX0_act_91
            have hres : xa_act X b w x = (v88, X88) := by
              unfold xa_act
              rw [← f2, ← e7, if_neg c10, if_neg (by rw [← e19]; exact c22), if_neg k36_0, if_neg k36_1, if_neg k36_2, ← hq]
              exact Prod.ext e88.symm f88.symm
            exact ⟨by rw [hres], by rw [hres], rfl⟩
    · skip
      refine lv_iconst (v := 0) hx hb dX0_act_25 (by decide) ?_
      refine xw_iret hx hb hr hlocks hW hS ?_ dX0_act_26
      have hres : xa_act X b w x = (0, X2) := by subst f2 e7 e19; simp only [xa_act, if_neg c10, if_pos c22]
      exact ⟨by rw [hres], by rw [hres], rfl⟩
