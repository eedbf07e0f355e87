/-! THE COMPONENT's METHODS AS FUNCTIONS: 5 (what texts give; hours; the capsule) -/
abbrev xl_ := Nat → Nat → Option xt × xt
abbrev xt_ta (o : Nat) (i : Int32) : Nat := o + (42 + 3 * i.toNatClampNeg)
abbrev xt_ga (o : Nat) (i : Int32) : Nat := o + (43 + 3 * i.toNatClampNeg)
section XF5
variable {p : Program} {l : Launch} {e : Env} {R : Room} {s : State} {m : MethodId} {args : Array Value} {below : List Frame} {meth : Method} {c : Code} {H : Heap} {locs : List Loc} {cells slots : Nat} {Q : State → Prop}
variable {cc : ByteArray} {pc : Nat} {ls : Array Slot} {rest st0 : List Value} {G : wm_G} {o d0 : Nat} {H0 : Heap} {X : mm_S} {E : mm_E} {D : xg} {nL : Nat}
/-- a text's own field -/
theorem xt_getV (hx : p.tables.exec = Jvm.exec) (hb : c.code = cc) (hts : ∀ w ∈ lw_all, w.before args s = true) (hown : s.vm.findClass RX4 = some m.cls) (hK : wm_K G s) (hW : xx_W G o d0 X E D H) {i : Int32} (hin : vp_in i 16) {index : Nat} (k : Nat) (hk : k < 7) (hT : (TX4 k).1 = RX4) (hq : (Cond.fieldLink RX4 index RX4 (TX4 k).2.1 (TX4 k).2.2.1) ∈ lw_all) {v : Value} (hv : (fun k : Nat => if k = 0 then Value.ref (xt_ta o i) else if k = 1 then .ref (xt_ga o i) else if k < 6 then .int (X (88 + k) i.toNatClampNeg) else .ref o) k = v) (hd : decode cc pc = .ok (.getfield index, 3))
    (kk : W p l e R s m args below meth c H locs cells slots Q (F0 m (pc + 3) ls (v :: rest))) : W p l e R s m args below meth c H locs cells slots Q (F0 m pc ls (.ref (xt_ o i) :: rest)) := by
  have hi : i.toNatClampNeg < 16 := Nat.not_le.mp fun q => hin (Or.inr q)
  exact wm_get hx hb hts in_X4 hown hK (ci := 3) rfl (hW.txt _ hi) k hk hq (fun _ h => by rw [hT] at h; exact h) hv hd kk
theorem xt_line (hW : xx_W G o d0 X E D H) {i k : Int32} (hin : vp_in i 16) (k0 : 0 ≤ k.toInt) (k1 : k.toInt < (rd_ X 90 i).toInt) : i.toNatClampNeg < 16 ∧ vp_in k 160 ∧ k.toNatClampNeg < (X 90 i.toNatClampNeg).toInt.toNat := by
  have hi : i.toNatClampNeg < 16 := Nat.not_le.mp fun q => hin (Or.inr q)
  have e : rd_ X 90 i = X 90 i.toNatClampNeg := rfl
  have h := hW.cap.2.2 _ hi
  rw [e] at k1
  exact ⟨hi, ww_in k0 (by omega), by rw [ww_cl]; omega⟩
theorem xt_tald (hx : p.tables.exec = Jvm.exec) (hb : c.code = cc) (hK : wm_K G s) (hW : xx_W G o d0 X E D H) {i k : Int32} (hin : vp_in i 16) (k0 : 0 ≤ k.toInt) (k1 : k.toInt < (rd_ X 90 i).toInt) (hd : decode cc pc = .ok (.aaload, 1))
    (kk : ∀ v : Value, xt_op G o D H (xg_l D i.toNatClampNeg k.toNatClampNeg).1 v → W p l e R s m args below meth c H locs cells slots Q (F0 m (pc + 1) ls (v :: rest))) : W p l e R s m args below meth c H locs cells slots Q (F0 m pc ls (.int k :: .ref (xt_ta o i) :: rest)) := by
  obtain ⟨h1, h2, h3⟩ := xt_line hW hin k0 k1
  obtain ⟨f, g, q1, q2, q3⟩ := hW.tst _ h1
  exact wm_aald hx hb hK 11 (E := "ThirtyThreeBelow$Term") rfl q1 h2 (v := f k.toNatClampNeg) rfl hd (kk _ (q3 _ h3).1)
theorem xt_gald (hx : p.tables.exec = Jvm.exec) (hb : c.code = cc) (hK : wm_K G s) (hW : xx_W G o d0 X E D H) {i k : Int32} (hin : vp_in i 16) (k0 : 0 ≤ k.toInt) (k1 : k.toInt < (rd_ X 90 i).toInt) (hd : decode cc pc = .ok (.aaload, 1))
    (kk : ∀ v : Value, xt_op G o D H (some (xg_l D i.toNatClampNeg k.toNatClampNeg).2) v → W p l e R s m args below meth c H locs cells slots Q (F0 m (pc + 1) ls (v :: rest))) : W p l e R s m args below meth c H locs cells slots Q (F0 m pc ls (.int k :: .ref (xt_ga o i) :: rest)) := by
  obtain ⟨h1, h2, h3⟩ := xt_line hW hin k0 k1
  obtain ⟨f, g, q1, q2, q3⟩ := hW.tst _ h1
  exact wm_aald hx hb hK 11 (E := "ThirtyThreeBelow$Term") rfl q2 h2 (v := g k.toNatClampNeg) rfl hd (kk _ (q3 _ h3).2)
end XF5
/-! a text's value -/
def xf_tz (L : xl_) (X : mm_S) (i k : Int32) : Int32 := match (L i.toNatClampNeg k.toNatClampNeg).1 with
  | none => 1
  | some t => xt_val X t
def xf_tg (L : xl_) (X : mm_S) (i k : Int32) : Int32 := xt_val X (L i.toNatClampNeg k.toNatClampNeg).2
def xf_tv_go : Nat → xl_ → mm_S → Int32 → Int32 → Int32 × mm_S
  | 0, _, X, _, _ => (0, X)
  | fu + 1, L, X, i, k => if rd_ X 90 i ≤ k then (0, fw_ X 20 (-1)) else if xf_tz L X i k = 0 then xf_tv_go fu L X i (k + 1) else (xf_tg L (fw_ X 20 k) i k, fw_ X 20 k)
def xf_tv (L : xl_) (X : mm_S) (i : Int32) : Int32 × mm_S := xf_tv_go 161 L X i 0
/-- a man or none -/
def xm_or (X : mm_S) (b : Int32) : Prop := ¬ b < 0 → xm_in X b
def xf_mf (X : mm_S) (k : Nat) (b : Int32) : Int32 := if b < 0 then 0 else rd_ X k b
def xf_sn1 (X : mm_S) : mm_S := wr_ X 19 0 (fd_ X 0)
def xf_sn2 (X : mm_S) : mm_S := wr_ X 19 1 (fd_ X 0 / 24)
def xf_sn3 (X : mm_S) (b : Int32) : mm_S := wr_ X 19 2 (xf_mf X 77 b)
def xf_sn4 (X : mm_S) (b : Int32) : mm_S := wr_ X 19 3 (xf_mf X 78 b)
def xf_sn5 (X : mm_S) (b : Int32) : mm_S := wr_ X 19 4 (xf_mf X 79 b)
def xf_sn6 (X : mm_S) : mm_S := wr_ X 19 5 (xf_belowMany X)
def xf_sn7 (X : mm_S) : mm_S := wr_ X 19 6 (fd_ X 26)
def xf_sn8 (X : mm_S) : mm_S := wr_ X 19 7 (xf_throughMany X)
def xf_sn (X : mm_S) (b : Int32) : mm_S := xf_sn8 (xf_sn7 (xf_sn6 (xf_sn5 (xf_sn4 (xf_sn3 (xf_sn2 (xf_sn1 X)) b) b) b)))
def xf_gives (L : xl_) (X : mm_S) (w b z : Int32) : Int32 × mm_S := if xf_force X w (fd_ X 0) (fd_ X 0) = -1 then (z, X) else xf_tv L (xf_sn X b) (xf_force X w (fd_ X 0) (fd_ X 0))
def xf_says (L : xl_) (X : mm_S) (w b : Int32) : Int32 × mm_S :=
  if xf_isWhat w = 0 then (-2000000000, X) else if jr_ w 10 = 2 then (if b = -1 then xf_gives L X w (-1) (if jr_ w 10 = 0 then 1 else 0) else (-2000000000, X)) else if xf_manOf X b < 0 then (-2000000000, X) else xf_gives L X w (xf_manOf X b) (if jr_ w 10 = 0 then 1 else 0)
theorem xf_fo_t (fu : Nat) : ∀ (X : mm_S) (w h k z i : Int32), -1 ≤ i.toInt → i.toInt < 16 → -1 ≤ (xf_fo_go fu X w h k z i).toInt ∧ (xf_fo_go fu X w h k z i).toInt < 16 := by
  induction fu with
  | zero => intro X w h k z i i0 i1; exact ⟨i0, i1⟩
  | succ fu ih =>
    intro X w h k z i i0 i1
    unfold xf_fo_go
    split
    · exact ⟨i0, i1⟩
    · rename_i q
      have q1 := ww_nlt q
      rw [ww_z0] at q1
      have e : (i + -1).toInt = i.toInt - 1 := ww_dec (by omega)
      have r := ih X w h k z (i + -1) (by omega) (by omega)
      repeat' split
      all_goals first | exact r | exact ⟨i0, i1⟩
theorem xf_force_t {X : mm_S} (hX : xv_X X) (w h k : Int32) : -1 ≤ (xf_force X w h k).toInt ∧ (xf_force X w h k).toInt < 16 := by
  obtain ⟨h0, h1⟩ := hX
  have e : (fd_ X 25 - 1).toInt = (fd_ X 25).toInt - 1 := ww_sub1 (by omega)
  exact xf_fo_t _ _ _ _ _ _ _ (by omega) (by omega)
theorem xf_force_in {X : mm_S} (hX : xv_X X) {w h k : Int32} (q : ¬ xf_force X w h k = -1) : vp_in (xf_force X w h k) 16 := by
  have t := xf_force_t hX w h k
  have q2 : (xf_force X w h k).toInt ≠ (-1 : Int32).toInt := ww_ne q
  have e : (-1 : Int32).toInt = -1 := by decide
  exact ww_in (by omega) t.2
theorem xf_tv_fr (fu : Nat) : ∀ (L : xl_) (X : mm_S) (i k : Int32), fr_ [20] X (xf_tv_go fu L X i k).2 := by
  induction fu with
  | zero => intro L X i k; exact fr_.rf X
  | succ fu ih =>
    intro L X i k
    unfold xf_tv_go
    repeat' split
    all_goals first | exact fr_fw (by decide) | exact ih _ _ _ _
theorem xf_sn_fr (X : mm_S) (b : Int32) : fr_ [19] X (xf_sn X b) := by
  unfold xf_sn
  exact (((((((((fr_.rf X).wr (by decide)).wr (by decide)).wr (by decide)).wr (by decide)).wr (by decide)).wr (by decide)).wr (by decide)).wr (by decide))
theorem xf_gives_fr (L : xl_) (X : mm_S) (w b z : Int32) : fr_ [19, 20] X (xf_gives L X w b z).2 := by
  unfold xf_gives
  split
  · exact fr_.rf X
  · exact ((xf_sn_fr X b).le' (by decide)).tr ((xf_tv_fr _ _ _ _ _).le' (by decide))
theorem xf_gives_e (L : xl_) (X : mm_S) (w b z : Int32) : (xf_gives L X w b z).2 4 = X 4 ∧ (xf_gives L X w b z).2 60 = X 60 := ⟨xf_gives_fr L X w b z 4 (by decide), xf_gives_fr L X w b z 60 (by decide)⟩
theorem xf_says_fr (L : xl_) (X : mm_S) (w b : Int32) : fr_ [19, 20] X (xf_says L X w b).2 := by
  unfold xf_says
  repeat' split
  all_goals first | exact fr_.rf X | exact xf_gives_fr _ _ _ _ _
/-! boring -/
theorem xo_3_fr (X : mm_S) (h sp : Int32) : fr_ [65, 66, 67, 68, 69] X (xo_3 X h sp) := fun k hk => by
  simp only [List.mem_cons, List.not_mem_nil, or_false, not_or] at hk
  exact xo_3_k hk.2.2.2.1 hk.2.2.1 hk.2.1 hk.1 hk.2.2.2.2
theorem xf_bore_fr (fu : Nat) : ∀ (X : mm_S) (h sp : Int32), fr_ [65, 66, 67, 68, 69] X (xf_bore fu X h sp) := by
  induction fu with
  | zero => intro X h sp; exact fr_.rf X
  | succ fu ih =>
    intro X h sp
    unfold xf_bore
    repeat' split
    all_goals first | exact fr_.rf X | exact (xo_3_fr X h sp).tr (ih _ _ _)
theorem xf_bore_xv (fu : Nat) : ∀ (X : mm_S) (h sp : Int32), 0 ≤ h.toInt → xv_T X → xv_T (xf_bore fu X h sp) := by
  induction fu with
  | zero => intro X h sp _ hT; exact hT
  | succ fu ih =>
    intro X h sp h0 hT
    unfold xf_bore
    split
    · exact hT
    · rename_i q
      repeat' split
      all_goals first | exact hT | exact ih _ _ _ h0 (xo_xv sp hT (ww_nle q) h0)
/-! drilling -/
def xf_dr_w (X : mm_S) (m : Int32) : Int32 := if rd_ X 9 m < 0 then 0 else if fd_ X 0 ≤ rd_ X 10 m then 0 else 1
def xf_dr_1 (X : mm_S) (m : Int32) : mm_S := wr_ X 31 m (xf_dr_w X m)
def xf_dr_2 (X : mm_S) (m : Int32) : mm_S := if rd_ X 31 m = 0 then X else wr_ X 68 (rd_ X 9 m) (rd_ X 68 (rd_ X 9 m) + 60)
def xf_dr_m : Nat → mm_S → Int32 → mm_S
  | 0, X, _ => X
  | fu + 1, X, m => if 3 ≤ m then X else xf_dr_m fu (xf_dr_2 (xf_dr_1 X m) m) (m + 1)
def xf_dr_ms (X : mm_S) : mm_S := xf_dr_m 4 X 0
def xf_dr_i : Nat → mm_S → Int32 → Int32 → mm_S
  | 0, X, _, _ => X
  | fu + 1, X, k, m => if 3 ≤ m then X else if rd_ X 31 m = 0 then xf_dr_i fu X k (m + 1) else if rd_ X 9 m = k then xf_dr_i fu (xf_bore 62 X (rd_ X 9 m) (rd_ X 8 m)) k (m + 1) else xf_dr_i fu X k (m + 1)
def xf_dr_is (X : mm_S) (k : Int32) : mm_S := xf_dr_i 4 X k 0
def xf_dr_b : Nat → mm_S → Int32 → mm_S
  | 0, X, _ => X
  | fu + 1, X, k => if fd_ X 4 ≤ k then X else xf_dr_b fu (xf_dr_is X k) (k + 1)
def xf_drill (L : xl_) (X : mm_S) : mm_S := if (xf_gives L X 2 (-1) 0).1 = 0 then xf_dr_b 121 (xf_dr_ms (xf_gives L X 2 (-1) 0).2) 0 else (xf_gives L X 2 (-1) 0).2
/-- where nothing is at work, nothing works -/
theorem xf_dr_1_t {X : mm_S} {m : Int32} (h : ¬ rd_ (xf_dr_1 X m) 31 m = 0) : ¬ rd_ (xf_dr_1 X m) 9 m < 0 := by
  unfold xf_dr_1 at h ⊢
  rw [rd_ws] at h
  rw [rd_wn (by decide)]
  unfold xf_dr_w at h
  split at h
  · exact absurd rfl h
  · assumption
theorem xf_dr2_fr (X : mm_S) (m : Int32) : fr_ [31, 68] X (xf_dr_2 (xf_dr_1 X m) m) := by
  unfold xf_dr_2
  split
  · exact fr_wr (by decide)
  · exact (show fr_ [31, 68] X (xf_dr_1 X m) from fr_wr (by decide)).wr (by decide)
theorem xf_drm_fr (fu : Nat) : ∀ (X : mm_S) (m : Int32), fr_ [31, 68] X (xf_dr_m fu X m) := by
  induction fu with
  | zero => intro X m; exact fr_.rf X
  | succ fu ih =>
    intro X m
    unfold xf_dr_m
    split
    · exact fr_.rf X
    · exact (xf_dr2_fr X m).tr (ih _ _)
theorem xf_dri_fr (fu : Nat) : ∀ (X : mm_S) (k m : Int32), fr_ [65, 66, 67, 68, 69] X (xf_dr_i fu X k m) := by
  induction fu with
  | zero => intro X k m; exact fr_.rf X
  | succ fu ih =>
    intro X k m
    unfold xf_dr_i
    repeat' split
    all_goals first | exact fr_.rf X | exact ih _ _ _ | exact (xf_bore_fr _ _ _ _).tr (ih _ _ _)
theorem xf_drb_fr (fu : Nat) : ∀ (X : mm_S) (k : Int32), fr_ [65, 66, 67, 68, 69] X (xf_dr_b fu X k) := by
  induction fu with
  | zero => intro X k; exact fr_.rf X
  | succ fu ih =>
    intro X k
    unfold xf_dr_b
    split
    · exact fr_.rf X
    · exact (xf_dri_fr _ _ _ _).tr (ih _ _)
theorem xf_drill_fr (L : xl_) (X : mm_S) : fr_ [19, 20, 31, 65, 66, 67, 68, 69] X (xf_drill L X) := by
  have g := (xf_gives_fr L X 2 (-1) 0).le' (ls := [19, 20, 31, 65, 66, 67, 68, 69]) (by decide)
  unfold xf_drill
  split
  · exact (g.tr ((xf_drm_fr _ _ _).le' (by decide))).tr ((xf_drb_fr _ _ _).le' (by decide))
  · exact g
theorem xv_T_of {X Y : mm_S} (h1 : Y 64 = X 64) (h2 : Y 66 = X 66) (h : xv_T X) : xv_T Y := fun b b0 b1 => by rw [rd_of h1, rd_of h2]; exact h b b0 b1
theorem xf_dri_xv (fu : Nat) : ∀ (X : mm_S) (k m : Int32), 0 ≤ k.toInt → xv_T X → xv_T (xf_dr_i fu X k m) := by
  induction fu with
  | zero => intro X k m _ hT; exact hT
  | succ fu ih =>
    intro X k m k0 hT
    unfold xf_dr_i
    split
    · exact hT
    · split
      · exact ih _ _ _ k0 hT
      · split
        · rename_i q
          exact ih _ _ _ k0 (xf_bore_xv _ _ _ _ (by rw [q]; exact k0) hT)
        · exact ih _ _ _ k0 hT
theorem xf_drb_xv (fu : Nat) : ∀ (X : mm_S) (k : Int32), xv_B X → 0 ≤ k.toInt → xv_T X → xv_T (xf_dr_b fu X k) := by
  induction fu with
  | zero => intro X k _ _ hT; exact hT
  | succ fu ih =>
    intro X k hB k0 hT
    unfold xf_dr_b
    split
    · exact hT
    · rename_i q
      have q1 := ww_nle q
      have hb := hB.2
      have e : (k + 1).toInt = k.toInt + 1 := ww_inc' (by omega)
      have r : fr_ [65, 66, 67, 68, 69] X (xf_dr_is X k) := xf_dri_fr 4 X k 0
      exact ih _ _ (by unfold xv_B; rw [fd_of (r 4 (by decide))]; exact hB) (by omega) (xf_dri_xv _ _ _ _ k0 hT)
theorem xv_B_of {X Y : mm_S} (h : Y 4 = X 4) (hB : xv_B X) : xv_B Y := by unfold xv_B; rw [fd_of h]; exact hB
theorem xf_drill_xv {L : xl_} {X : mm_S} (hB : xv_B X) (hT : xv_T X) : xv_T (xf_drill L X) := by
  have g := xf_gives_fr L X 2 (-1) 0
  unfold xf_drill
  split
  · have r := g.le' (ls := [19, 20, 31, 68]) (by decide) |>.tr ((xf_drm_fr 4 (xf_gives L X 2 (-1) 0).2 0).le' (by decide))
    exact xf_drb_xv _ _ _ (xv_B_of (r 4 (by decide)) hB) (by decide) (xv_T_of (r 64 (by decide)) (r 66 (by decide)) hT)
  · exact xv_T_of (g 64 (by decide)) (g 66 (by decide)) hT
/-! food -/
abbrev xf_fe_t (L : xl_) (X : mm_S) (k : Int32) : mm_S := (xf_gives L X 10 (xf_belowOf X k) 1).2
abbrev xf_fe_by (L : xl_) (X : mm_S) (k : Int32) : Int32 := xi_min (fd_ X 26) (ff_held (xf_gives L X 10 (xf_belowOf X k) 1).1 0 9)
def xf_fe_1 (X : mm_S) (y : Int32) : mm_S := fw_ X 26 (fd_ X 26 - y)
def xf_fe_2 (X : mm_S) (y : Int32) : mm_S := fw_ X 27 (fd_ X 27 + y)
def xf_fe_3 (X : mm_S) (b y : Int32) : mm_S := wr_ X 77 b (ff_held (rd_ X 77 b - 6 + 2 * y) 0 999)
def xf_fe_S (L : xl_) (X : mm_S) (k : Int32) : mm_S := xf_fe_3 (xf_fe_2 (xf_fe_1 (xf_fe_t L X k) (xf_fe_by L X k)) (xf_fe_by L X k)) (xf_belowOf X k) (xf_fe_by L X k)
def xf_fe_go : Nat → xl_ → mm_S → Int32 → mm_S
  | 0, _, X, _ => X
  | fu + 1, L, X, k => if fd_ X 4 ≤ k then X else if xf_belowOf X k < 0 then xf_fe_go fu L X (k + 1) else xf_fe_go fu L (xf_fe_S L X k) (k + 1)
def xf_feedAll (L : xl_) (X : mm_S) : mm_S := xf_fe_go 121 L X 0
theorem xf_feS_fr (L : xl_) (X : mm_S) (k : Int32) : fr_ [19, 20, 26, 27, 77] X (xf_fe_S L X k) := by
  unfold xf_fe_S
  exact ((((xf_gives_fr L X 10 (xf_belowOf X k) 1).le' (by decide)).fw (by decide)).fw (by decide)).wr (by decide)
theorem xf_feg_fr (fu : Nat) : ∀ (L : xl_) (X : mm_S) (k : Int32), fr_ [19, 20, 26, 27, 77] X (xf_fe_go fu L X k) := by
  induction fu with
  | zero => intro L X k; exact fr_.rf X
  | succ fu ih =>
    intro L X k
    unfold xf_fe_go
    repeat' split
    all_goals first | exact fr_.rf X | exact ih _ _ _ | exact (xf_feS_fr _ _ _).tr (ih _ _ _)
/-! an hour -/
theorem xf_ar_fr (fu : Nat) : ∀ (X : mm_S) (n k : Int32), fr_ [26, 33, 34, 35, 36] X (xf_ar_go fu X n k) := by
  induction fu with
  | zero => intro X n k; exact fr_.rf X
  | succ fu ih =>
    intro X n k
    unfold xf_ar_go
    repeat' split
    all_goals first
    | exact fr_fw (by decide)
    | exact (show fr_ [26, 33, 34, 35, 36] X (xf_ar_1 X k) from fr_fw (by decide)).tr (ih _ _ _)
    | exact (show fr_ [26, 33, 34, 35, 36] X (xf_ar_2 X k) from fr_wr (by decide)).tr (ih _ _ _)
    | exact ((show fr_ [26, 33, 34, 35, 36] X (xf_ar_3 X n k) from fr_wr (by decide)).wr (by decide)).tr (ih _ _ _)
theorem xf_ar_xv (fu : Nat) : ∀ (X : mm_S) (n k : Int32), 0 ≤ n.toInt → n.toInt ≤ k.toInt → k.toInt ≤ (fd_ X 35).toInt → (fd_ X 35).toInt ≤ 40 → (fd_ X 35).toInt - k.toInt < fu → (∀ i : Int32, 0 ≤ i.toInt → i.toInt < (fd_ X 35).toInt → xv_Yw (rd_ X 33 i)) → xv_Y (xf_ar_go fu X n k) := by
  induction fu with
  | zero => intro X n k n0 nk kd d4 hm _; exact absurd hm (by omega)
  | succ fu ih =>
    intro X n k n0 nk kd d4 hm hw
    unfold xf_ar_go
    have e1 : (k + 1).toInt = k.toInt + 1 := ww_inc' (by omega)
    have e2 : (n + 1).toInt = n.toInt + 1 := ww_inc' (by omega)
    split
    · refine ⟨by rw [fd_fw]; exact n0, by rw [fd_fw]; omega, fun i i0 i1 => ?_⟩
      rw [fd_fw] at i1
      rw [rd_fn (by decide)]
      exact hw i i0 (by omega)
    · rename_i q
      have q1 := ww_nle q
      split
      · split
        · have x : fd_ (xf_ar_1 X k) 35 = fd_ X 35 := fd_fn (by decide)
          exact ih _ _ _ n0 (by omega) (by rw [x]; omega) (by rw [x]; exact d4) (by rw [x]; omega) (by rw [x]; intro i i0 i1; unfold xf_ar_1; rw [rd_fn (by decide)]; exact hw i i0 i1)
        · have x : fd_ (xf_ar_2 X k) 35 = fd_ X 35 := fd_wn (by decide)
          exact ih _ _ _ n0 (by omega) (by rw [x]; omega) (by rw [x]; exact d4) (by rw [x]; omega) (by rw [x]; intro i i0 i1; unfold xf_ar_2; rw [rd_wn (by decide)]; exact hw i i0 i1)
      · have x : fd_ (xf_ar_4 (xf_ar_3 X n k) n k) 35 = fd_ X 35 := by unfold xf_ar_4 xf_ar_3; rw [fd_wn (by decide), fd_wn (by decide)]
        exact ih _ _ _ (by omega) (by omega) (by rw [x]; omega) (by rw [x]; exact d4) (by rw [x]; omega) (by
          rw [x]
          intro i i0 i1
          unfold xf_ar_4 xf_ar_3
          rw [rd_wn (by decide)]
          exact xv_wr (P := xv_Yw) hw n0 (by omega) q1 i i0 i1)
theorem xf_arrive_fr (X : mm_S) : fr_ [26, 33, 34, 35, 36] X (xf_arrive X) := xf_ar_fr 41 X 0 0
theorem xf_arrive_xv {X : mm_S} (h : xv_Y X) : xv_Y (xf_arrive X) := xf_ar_xv 41 X 0 0 (by decide) (by decide) h.1 h.2.1 (by have := h.2.1; show _ - 0 < _; omega) h.2.2
def xf_mv_go : Nat → mm_S → Int32 → mm_S
  | 0, X, _ => X
  | fu + 1, X, r => if fd_ X 30 ≤ r then X else if rd_ X 29 r = fd_ X 0 then xf_mv_go fu (xf_moveRock X (rd_ X 28 r)) (r + 1) else xf_mv_go fu X (r + 1)
theorem xf_mr_fr (X : mm_S) (c : Int32) : fr_ [1, 2, 76] X (xf_moveRock X c) := by
  have g : fr_ [1, 2, 76] X (xf_mr_1 X c) := ((fr_.rf X).wr (by decide)).wr (by decide)
  unfold xf_moveRock
  split
  · exact g
  · exact g.wr (by decide)
theorem xf_mv_fr (fu : Nat) : ∀ (X : mm_S) (r : Int32), fr_ [1, 2, 76] X (xf_mv_go fu X r) := by
  induction fu with
  | zero => intro X r; exact fr_.rf X
  | succ fu ih =>
    intro X r
    unfold xf_mv_go
    repeat' split
    all_goals first | exact fr_.rf X | exact ih _ _ | exact (xf_mr_fr _ _).tr (ih _ _)
def xf_hr_1 (L : xl_) (X : mm_S) : mm_S := xf_arrive (xf_drill L (fw_ X 0 (fd_ X 0 + 1)))
def xf_hr_2 (L : xl_) (X : mm_S) : mm_S := if jr_ (fd_ X 0) 24 = 0 then xf_feedAll L X else X
def xf_hr_S (L : xl_) (X : mm_S) : mm_S := xf_mv_go 61 (xf_hr_2 L (xf_hr_1 L X)) 0
def xf_hr_go : Nat → xl_ → mm_S → Int32 → Int32 → Int32 × mm_S
  | 0, _, X, _, _ => (0, X)
  | fu + 1, L, X, n, k => if n ≤ k then (fd_ X 0, X) else xf_hr_go fu L (xf_hr_S L X) n (k + 1)
def xf_hours (L : xl_) (X : mm_S) (n : Int32) : Int32 × mm_S := if ff_in n 1 48 = 0 then (-1, X) else if fd_ X 0 + n ≤ 1699 then xf_hr_go 49 L X n 0 else (-1, X)
/-- what an hour needs -/
def xv_h (X : mm_S) : Prop := xv_T X ∧ xv_X X ∧ xj_w X ∧ xv_Y X ∧ xv_V X ∧ xj_s X
theorem xv_X_of {X Y : mm_S} (h : Y 25 = X 25) (q : xv_X X) : xv_X Y := by unfold xv_X; rw [fd_of h]; exact q
theorem xv_V_of {X Y : mm_S} (h : Y 30 = X 30) (h2 : Y 28 = X 28) (q : xv_V X) : xv_V Y := by unfold xv_V; rw [fd_of h]; exact ⟨q.1, q.2.1, fun i i0 i1 => by rw [rd_of h2]; exact q.2.2 i i0 i1⟩
theorem xv_Y_of {X Y : mm_S} (h : Y 35 = X 35) (h2 : Y 33 = X 33) (q : xv_Y X) : xv_Y Y := by unfold xv_Y; rw [fd_of h]; exact ⟨q.1, q.2.1, fun i i0 i1 => by rw [rd_of h2]; exact q.2.2 i i0 i1⟩
theorem xv_h_fr {ks : List Nat} {X Y : mm_S} (r : fr_ ks X Y) (hk : ([4, 5, 60, 64, 66, 25, 9, 35, 33, 30, 28].all fun k => !ks.contains k) = true) (h : xv_h X) : xv_h Y := by
  have e : ∀ k : Nat, k ∈ [4, 5, 60, 64, 66, 25, 9, 35, 33, 30, 28] → Y k = X k := fun k hk2 => r k (by have := List.all_eq_true.mp hk k hk2; simpa using this)
  exact ⟨xv_T_of (e 64 (by decide)) (e 66 (by decide)) h.1, xv_X_of (e 25 (by decide)) h.2.1, xj_w_eq ⟨e 4 (by decide), e 60 (by decide)⟩ (e 9 (by decide)) h.2.2.1, xv_Y_of (e 35 (by decide)) (e 33 (by decide)) h.2.2.2.1, xv_V_of (e 30 (by decide)) (e 28 (by decide)) h.2.2.2.2.1, xj_s_eq ⟨e 4 (by decide), e 60 (by decide)⟩ (e 5 (by decide)) h.2.2.2.2.2⟩
theorem xv_h_drill {L : xl_} {X : mm_S} (hB : xv_B X) (h : xv_h X) : xv_h (xf_drill L X) := by
  have r := xf_drill_fr L X
  exact ⟨xf_drill_xv hB h.1, xv_X_of (r 25 (by decide)) h.2.1, xj_w_eq ⟨r 4 (by decide), r 60 (by decide)⟩ (r 9 (by decide)) h.2.2.1, xv_Y_of (r 35 (by decide)) (r 33 (by decide)) h.2.2.2.1, xv_V_of (r 30 (by decide)) (r 28 (by decide)) h.2.2.2.2.1, xj_s_eq ⟨r 4 (by decide), r 60 (by decide)⟩ (r 5 (by decide)) h.2.2.2.2.2⟩
theorem xv_h_arrive {X : mm_S} (h : xv_h X) : xv_h (xf_arrive X) := by
  have r := xf_arrive_fr X
  exact ⟨xv_T_of (r 64 (by decide)) (r 66 (by decide)) h.1, xv_X_of (r 25 (by decide)) h.2.1, xj_w_eq ⟨r 4 (by decide), r 60 (by decide)⟩ (r 9 (by decide)) h.2.2.1, xf_arrive_xv h.2.2.2.1, xv_V_of (r 30 (by decide)) (r 28 (by decide)) h.2.2.2.2.1, xj_s_eq ⟨r 4 (by decide), r 60 (by decide)⟩ (r 5 (by decide)) h.2.2.2.2.2⟩
theorem xv_h_1 {X : mm_S} (h : xv_h X) : xv_h (fw_ X 0 (fd_ X 0 + 1)) := xv_h_fr (ks := [0]) (fr_fw (by decide)) (by decide) h
theorem xv_h_eat {L : xl_} {X : mm_S} (h : xv_h X) : xv_h (xf_feedAll L X) := xv_h_fr (xf_feg_fr _ _ _ _) (by decide) h
theorem xv_h_mr {X : mm_S} (c : Int32) (h : xv_h X) : xv_h (xf_moveRock X c) := xv_h_fr (xf_mr_fr X c) (by decide) h
theorem xv_h_mv {X : mm_S} (fu : Nat) (r : Int32) (h : xv_h X) : xv_h (xf_mv_go fu X r) := xv_h_fr (xf_mv_fr fu X r) (by decide) h
theorem xv_h_hr1 {L : xl_} {X : mm_S} (hB : xv_B X) (h : xv_h X) : xv_h (xf_hr_1 L X) := xv_h_arrive (xv_h_drill (xv_B_of (show (fw_ X 0 (fd_ X 0 + 1)) 4 = X 4 from mm_up_k (by decide)) hB) (xv_h_1 h))
theorem xv_h_hr {L : xl_} {X : mm_S} (hB : xv_B X) (h : xv_h X) : xv_h (xf_hr_S L X) := by
  have h1 := xv_h_hr1 (L := L) hB h
  unfold xf_hr_S xf_hr_2
  split
  · exact xv_h_mv _ _ (xv_h_eat h1)
  · exact xv_h_mv _ _ h1
/-! the capsule -/
def xf_ci_1 (X : mm_S) (t : Int32) : mm_S := wr_ X 53 t (rd_ X 53 (t - 1))
def xf_ci_go : Nat → mm_S → Int32 → Int32 → Int32 × mm_S
  | 0, X, _, t => (t, X)
  | fu + 1, X, k, t => if t ≤ 0 then (t, X) else if rd_ X 57 k ≤ rd_ X 57 (rd_ X 53 (t - 1)) then (t, X) else xf_ci_go fu (xf_ci_1 X t) k (t + -1)
def xf_ci_s (X : mm_S) (k t : Int32) : Int32 × mm_S := xf_ci_go 122 X k t
abbrev xf_cp_t (L : xl_) (X : mm_S) (k : Int32) : Int32 × mm_S := xf_gives L X 1 (xf_belowOf X k) 0
def xf_cp_1 (L : xl_) (X : mm_S) (k : Int32) : mm_S := wr_ (xf_cp_t L X k).2 57 k (xf_cp_t L X k).1
def xf_cp_2 (X : mm_S) : mm_S := fw_ X 55 (fd_ X 55 + 1)
def xf_cp_3 (X : mm_S) (k t : Int32) : mm_S := wr_ (xf_ci_s X k t).2 53 (xf_ci_s X k t).1 k
def xf_cp_S (L : xl_) (X : mm_S) (k : Int32) : mm_S := xf_cp_3 (xf_cp_2 (xf_cp_1 L X k)) k (fd_ (xf_cp_1 L X k) 55)
def xf_cp_go : Nat → xl_ → mm_S → Int32 → mm_S
  | 0, _, X, _ => X
  | fu + 1, L, X, k => if fd_ X 4 ≤ k then X else if xf_belowOf X k < 0 then xf_cp_go fu L X (k + 1) else xf_cp_go fu L (xf_cp_S L X k) (k + 1)
def xf_cp_s (L : xl_) (X : mm_S) : mm_S := xf_cp_go 121 L (fw_ X 55 0) 0
def xf_ch_go : Nat → mm_S → Int32 → Int32 → mm_S
  | 0, X, _, _ => X
  | fu + 1, X, e, i => if fd_ X 55 ≤ i then X else xf_ch_go fu (wr_ X 54 i (fd_ X 0 + e * (i + 1))) e (i + 1)
def xf_ch_s (X : mm_S) (e : Int32) : mm_S := xf_ch_go 121 X e 0
def xf_cf (X : mm_S) : mm_S := fw_ X 56 (fd_ X 0)
def xf_ca (L : xl_) (X : mm_S) (h : Int32) : mm_S := xf_cf (xf_ch_s (xf_cp_s L X) (1 + rd_ (xf_cp_s L X) 66 h / 20))
def xf_capsule (L : xl_) (X : mm_S) (b : Int32) : Int32 × mm_S :=
  if xf_holeOf X b < 0 then (-1, X) else if xk_Shaft (rd_ X 60 (xf_holeOf X b)) = 0 then (-1, X) else if xf_isThrough X (xf_holeOf X b) = 0 then (-2, X) else if xf_belowMany X = 0 then (-2, X) else
  (rd_ (xf_ca L X (xf_holeOf X b)) 54 (fd_ (xf_ca L X (xf_holeOf X b)) 55 - 1), xf_ca L X (xf_holeOf X b))
theorem xf_ci_fr (fu : Nat) : ∀ (X : mm_S) (k t : Int32), fr_ [53] X (xf_ci_go fu X k t).2 := by
  induction fu with
  | zero => intro X k t; exact fr_.rf X
  | succ fu ih =>
    intro X k t
    unfold xf_ci_go
    repeat' split
    all_goals first | exact fr_.rf X | exact (show fr_ [53] X (xf_ci_1 X t) from fr_wr (by decide)).tr (ih _ _ _)
theorem xf_cp1_fr (L : xl_) (X : mm_S) (k : Int32) : fr_ [19, 20, 57] X (xf_cp_1 L X k) := ((xf_gives_fr L X 1 (xf_belowOf X k) 0).le' (by decide)).wr (by decide)
theorem xf_cpS_fr (L : xl_) (X : mm_S) (k : Int32) : fr_ [19, 20, 53, 55, 57] X (xf_cp_S L X k) := by
  unfold xf_cp_S xf_cp_3 xf_cp_2
  exact ((((xf_cp1_fr L X k).le' (by decide)).fw (by decide)).tr ((xf_ci_fr _ _ _ _).le' (by decide))).wr (by decide)
theorem xf_ci_t (fu : Nat) : ∀ (X : mm_S) (k t : Int32), 0 ≤ t.toInt → t.toInt ≤ 1000 → 0 ≤ (xf_ci_go fu X k t).1.toInt ∧ (xf_ci_go fu X k t).1.toInt ≤ t.toInt := by
  induction fu with
  | zero => intro X k t t0 _; exact ⟨t0, Int.le_refl _⟩
  | succ fu ih =>
    intro X k t t0 t1
    unfold xf_ci_go
    split
    · exact ⟨t0, Int.le_refl _⟩
    · rename_i q
      have q1 := ww_nle q
      rw [ww_z0] at q1
      have e : (t + -1).toInt = t.toInt - 1 := ww_dec (by omega)
      split
      · exact ⟨t0, Int.le_refl _⟩
      · have r := ih (xf_ci_1 X t) k (t + -1) (by omega) (by omega)
        omega
/-- the rows of those who go up: who is a body's number -/
def xv_Up (X : mm_S) (n : Int) : Prop := ∀ i : Int32, 0 ≤ i.toInt → i.toInt < n → 0 ≤ (rd_ X 53 i).toInt ∧ (rd_ X 53 i).toInt < 120
theorem xv_Up_w {X : mm_S} {n : Int} {t v : Int32} (h : xv_Up X n) (v0 : 0 ≤ v.toInt) (v1 : v.toInt < 120) : xv_Up (wr_ X 53 t v) n := by
  intro i i0 i1
  rw [rd_wi]
  split
  · exact ⟨v0, v1⟩
  · exact h i i0 i1
/-- .. but for one place -/
def xv_Ut (X : mm_S) (n : Int) (t : Int32) : Prop := ∀ i : Int32, 0 ≤ i.toInt → i.toInt < n → i.toInt ≠ t.toInt → 0 ≤ (rd_ X 53 i).toInt ∧ (rd_ X 53 i).toInt < 120
theorem xv_Ut_s {X : mm_S} {n : Int} {t : Int32} (h : xv_Ut X n t) (t1 : 1 ≤ t.toInt) (tn : t.toInt < n) : xv_Ut (xf_ci_1 X t) n (t + -1) := by
  intro i i0 i1 i2
  have e : (t + -1).toInt = t.toInt - 1 := ww_dec (by omega)
  have e2 : (t - 1).toInt = t.toInt - 1 := ww_sub1 (by omega)
  unfold xf_ci_1
  rw [rd_wi]
  split
  · exact h (t - 1) (by omega) (by omega) (by omega)
  · rename_i q
    exact h i i0 i1 (fun z => q (by rw [ww_cl, ww_cl, z]))
theorem xv_Ut_w {X : mm_S} {n : Int} {t v : Int32} (h : xv_Ut X n t) (v0 : 0 ≤ v.toInt) (v1 : v.toInt < 120) : xv_Up (wr_ X 53 t v) n := by
  intro i i0 i1
  rw [rd_wi]
  split
  · exact ⟨v0, v1⟩
  · rename_i q
    exact h i i0 i1 (fun z => q (by rw [ww_cl, ww_cl, z]))
theorem xf_bm_of {X Y : mm_S} (r : ∀ k : Int32, xf_belowOf Y k = xf_belowOf X k) (h4 : Y 4 = X 4) (fu : Nat) : ∀ n k : Int32, xf_bm_go fu Y n k = xf_bm_go fu X n k := by
  induction fu with
  | zero => intro n k; rfl
  | succ fu ih => intro n k; unfold xf_bm_go; rw [fd_of h4, r, ih, ih]
theorem xf_isBody_of {X Y : mm_S} (h : Y 4 = X 4) (b : Int32) : xf_isBody Y b = xf_isBody X b := by unfold xf_isBody; rw [fd_of h]
theorem xf_manOf_of {X Y : mm_S} (h : Y 4 = X 4) (h2 : Y 60 = X 60) (b : Int32) : xf_manOf Y b = xf_manOf X b := by unfold xf_manOf; rw [xf_isBody_of h, rd_of h2]
theorem xf_holeOf_of {X Y : mm_S} (h : Y 4 = X 4) (h2 : Y 60 = X 60) (b : Int32) : xf_holeOf Y b = xf_holeOf X b := by unfold xf_holeOf; rw [xf_isBody_of h, rd_of h2]
theorem xf_belowOf_of {X Y : mm_S} (h : Y 4 = X 4) (h2 : Y 60 = X 60) (h3 : Y 80 = X 80) (b : Int32) : xf_belowOf Y b = xf_belowOf X b := by unfold xf_belowOf; rw [xf_manOf_of h h2, rd_of h3]
theorem xsh_of {X : mm_S} {b : Int32} (h : ¬ xk_Shaft (rd_ X 60 b) = 0) : True := trivial
