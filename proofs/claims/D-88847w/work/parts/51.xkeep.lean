/-! THE COMPONENT's WORLD: what a change leaves alone, part by part -/
section XK
variable {G : wm_G} {o d0 : Nat} {X X' : mm_S} {E E' : mm_E} {D D' : xg} {H H1 : Heap}
theorem xx_arrc {C : ClassId} {n : Nat} {f g : Nat → Value} (h : ∀ i : Nat, i < n → f i = g i) : arrV C n f = arrV C n g := by
  unfold arrV
  rw [show (fun j : Fin n => f j.val) = fun j : Fin n => g j.val from funext fun j => h j.val j.isLt]
theorem wm_A.to {a t n : Nat} {f g : Nat → Value} (h : wm_A G a t n f H) (hv : ∀ i : Nat, i < n → f i = g i) : wm_A G a t n g H := by
  show H[a]? = some _
  rw [← xx_arrc hv]
  exact h
theorem xx_bqc : (xx_bt.all fun r => r.all fun x => match x with
  | some (false, f) => decide (60 ≤ f ∧ f < 81)
  | _ => true) = true := by decide
theorem xx_getD {α : Type} (l : List α) (k : Nat) (d : α) : l.getD k d = d ∨ l.getD k d ∈ l := by
  rw [List.getD_eq_getElem?_getD]
  rcases h : l[k]? with _ | x
  · exact Or.inl rfl
  · exact Or.inr (List.mem_of_getElem? h)
theorem xx_bqf {q k f : Nat} (h : xx_bq q k = some (false, f)) : f ≠ 4 ∧ 60 ≤ f ∧ f < 81 := by
  unfold xx_bq at h
  rcases xx_getD (xx_bt.getD q []) k none with e | e
  · rw [e] at h; cases h
  · rw [h] at e
    rcases xx_getD xx_bt q [] with e2 | e2
    · rw [e2] at e; cases e
    · have a := List.all_eq_true.mp (List.all_eq_true.mp xx_bqc _ e2) _ e
      have b : 60 ≤ f ∧ f < 81 := of_decide_eq_true a
      omega
/-- D' tells the same of all that D tells -/
def xg_le (X : mm_S) (D D' : xg) : Prop := (∀ b : Nat, b < xx_n X → xg_b D' b = xg_b D b) ∧ (∀ s : Nat, s < 6 → (X 58 s).toInt < -1 → xg_r D' s = xg_r D s) ∧ (∀ q : Nat, xg_d D q ≠ (0, 0) → xg_d D' q = xg_d D q) ∧ ∀ i k : Nat, k < (X 90 i).toInt.toNat → xg_l D' i k = xg_l D i k
theorem xg_le.rf (X : mm_S) (D : xg) : xg_le X D D := ⟨fun _ _ => rfl, fun _ _ _ => rfl, fun _ _ => rfl, fun _ _ _ => rfl⟩
theorem xx_cl {v : Int32} {n : Nat} (h0 : ¬ v < 0) (h1 : v.toInt < n) : v.toNatClampNeg < n := by
  have h := ww_nl0 h0
  rw [ww_cl]
  omega
theorem xx_nt {X : mm_S} (w : 0 ≤ (X 4 0).toInt) {v : Int32} (h0 : ¬ v < 0) (h1 : v.toInt < (X 4 0).toInt) : v.toNatClampNeg < xx_n X := xx_cl h0 (by unfold xx_n; omega)
theorem xx_b_le {v : Int32} (hD : xg_le X D D') (h0 : 0 ≤ (X 4 0).toInt) (h1 : v.toInt < (X 4 0).toInt) : xx_b D' v = xx_b D v := by
  unfold xx_b
  split
  · rfl
  · rename_i q
    rw [hD.1 _ (xx_nt h0 q h1)]
theorem xx_s_le {v : Int32} {s : Nat} (hD : xg_le X D D') (h0 : 0 ≤ (X 4 0).toInt) (h1 : v.toInt < (X 4 0).toInt) (hs : s < 6) (hv : X 58 s = v) : xx_s D' v s = xx_s D v s := by
  unfold xx_s
  split
  · rfl
  · rename_i q
    split
    · rename_i q2
      rw [hD.2.1 s hs (by rw [hv]; have a := ww_l0 q2; have b := ww_ne q; have c : (-1 : Int32).toInt = -1 := by decide
                          omega)]
    · rename_i q2
      rw [hD.1 _ (xx_nt h0 q2 h1)]
theorem xk_main (w : xx_W G o d0 X E D H) (hO : H1[o]? = H[o]?) (hX : ∀ k : Nat, xx_arr k = none → xx_ref k = none → k < 59 → X' k 0 = X k 0) (hD : xg_le X D D') : wm_O G o 0 59 (xx_V o D' X') H1 := by
  refine (w.main.kept hO).to fun k hk => ?_
  unfold xx_V
  split
  · rename_i q
    rw [hX 5 rfl rfl (by decide), xx_b_le hD w.cap.1 w.rng.1]
  · split
    · rfl
    · rename_i q1
      split
      · rfl
      · rename_i q2
        rw [hX k q1 q2 hk]
theorem xk_arr (w : xx_W G o d0 X E D H) (hO : ∀ k j t n : Nat, xx_arr k = some (j, t, n) → H1[o + j]? = H[o + j]?) (hX : ∀ k : Nat, xx_arr k ≠ none → X' k = X k) : ∀ k j t n : Nat, xx_arr k = some (j, t, n) → wm_A G (o + j) t n (fun i => .int (X' k i)) H1 := by
  intro k j t n h
  rw [hX k (by rw [h]; exact nofun)]
  exact (w.arr k j t n h).kept (hO k j t n h)
theorem xk_bod (w : xx_W G o d0 X E D H) (hO : H1[o + 3]? = H[o + 3]?) (h4 : X' 4 0 = X 4 0) (hD : xg_le X D D') : ∃ f : Nat → Value, wm_A G (o + 3) 7 120 f H1 ∧ ∀ b : Nat, b < xx_n X' → f b = .ref (xg_b D' b) := by
  obtain ⟨f, h1, h2⟩ := w.bod
  refine ⟨f, h1.kept hO, fun b hb => ?_⟩
  unfold xx_n at hb
  rw [h4] at hb
  rw [h2 b hb, hD.1 b hb]
theorem xk_wrk (w : xx_W G o d0 X E D H) (hO : H1[o + 6]? = H[o + 6]?) (h9 : X' 9 = X 9) (hD : xg_le X D D') : wm_A G (o + 6) 8 3 (fun m => xx_b D' (X' 9 m)) H1 := by
  have e : arrV (G.2 8) 3 (fun m => xx_b D' (X' 9 m)) = arrV (G.2 8) 3 (fun m => xx_b D (X 9 m)) := xx_arrc fun m hm => by rw [h9]; exact xx_b_le hD w.cap.1 (w.rng.2.1 m hm)
  show H1[o + 6]? = some _
  rw [e]
  exact w.wrk.kept hO
theorem xk_shv (w : xx_W G o d0 X E D H) (hO : H1[o + 40]? = H[o + 40]?) (h58 : X' 58 = X 58) (hD : xg_le X D D') : wm_A G (o + 40) 10 6 (fun s => xx_s D' (X' 58 s) s) H1 := by
  have e : arrV (G.2 10) 6 (fun s => xx_s D' (X' 58 s) s) = arrV (G.2 10) 6 (fun s => xx_s D (X 58 s) s) := xx_arrc fun s hs => by rw [h58]; exact xx_s_le hD w.cap.1 (w.rng.2.2 s hs) hs rfl
  show H1[o + 40]? = some _
  rw [e]
  exact w.shv.kept hO
theorem xk_trn (w : xx_W G o d0 X E D H) (hO : H1[o + 8]? = H[o + 8]?) : ∃ V : Nat → Value, wm_O G (o + 8) 16 6 V H1 := by
  obtain ⟨V, h⟩ := w.trn
  exact ⟨V, h.kept hO⟩
theorem xk_flt (w : xx_W G o d0 X E D H) (hO : H1[o + 17]? = H[o + 17]?) : ∃ V : Nat → Value, wm_O G (o + 17) 17 6 V H1 := by
  obtain ⟨V, h⟩ := w.flt
  exact ⟨V, h.kept hO⟩
theorem xk_rdr (w : xx_W G o d0 X E D H) (hO : H1[o + 16]? = H[o + 16]?) (h1 : X' 95 0 = X 95 0) (h2 : X' 96 0 = X 96 0) : wm_O G (o + 16) 2 4 (fun k => if k = 0 then .ref (o + 17) else if k = 1 then .int (X' 95 0) else if k = 2 then .int (X' 96 0) else .ref o) H1 := by
  rw [h1, h2]
  exact w.rdr.kept hO
theorem xk_txa (w : xx_W G o d0 X E D H) (hO : H1[o + 18]? = H[o + 18]?) : wm_A G (o + 18) 9 16 (fun i => .ref (o + (41 + 3 * i))) H1 := w.txa.kept hO
theorem xk_txt (w : xx_W G o d0 X E D H) (hO : ∀ i : Nat, i < 16 → H1[o + (41 + 3 * i)]? = H[o + (41 + 3 * i)]?) (hX : ∀ k : Nat, 90 ≤ k → k < 94 → X' k = X k) : ∀ i : Nat, i < 16 → wm_O G (o + (41 + 3 * i)) 3 7 (fun k => if k = 0 then .ref (o + (42 + 3 * i)) else if k = 1 then .ref (o + (43 + 3 * i)) else if k < 6 then .int (X' (88 + k) i) else .ref o) H1 := by
  intro i hi
  refine ((w.txt i hi).kept (hO i hi)).to fun k _ => ?_
  split
  · rfl
  · split
    · rfl
    · split
      · rw [hX (88 + k) (by omega) (by omega)]
      · rfl
theorem xt_kept (hq : ∀ q : Nat, xg_d D q = (4, 0) → H1[q]? = H[q]?) (hd : ∀ q : Nat, xg_d D q = (4, 0) → xg_d D' q = (4, 0)) (h : Nat) : ∀ (c : xt) (a : Nat), xt_at G o D H h c a → xt_at G o D' H1 h c a := by
  induction h with
  | zero => intro c a q; exact q
  | succ h ih =>
    intro c a q
    obtain ⟨q0, q⟩ := q
    refine ⟨hd a q0, ?_⟩
    rcases q with ⟨v, e, k⟩ | ⟨n, e, n0, n1, k⟩ | ⟨b, c1, a1, e, k, r⟩ | ⟨g, c1, c2, a1, a2, s, e, k, r1, r2⟩
    · exact Or.inl ⟨v, e, k.kept (hq a q0)⟩
    · exact Or.inr (Or.inl ⟨n, e, n0, n1, k.kept (hq a q0)⟩)
    · exact Or.inr (Or.inr (Or.inl ⟨b, c1, a1, e, k.kept (hq a q0), ih _ _ r⟩))
    · exact Or.inr (Or.inr (Or.inr ⟨g, c1, c2, a1, a2, s, e, k.kept (hq a q0), ih _ _ r1, ih _ _ r2⟩))
theorem xt_op_kept (hq : ∀ q : Nat, xg_d D q = (4, 0) → H1[q]? = H[q]?) (hd : ∀ q : Nat, xg_d D q = (4, 0) → xg_d D' q = (4, 0)) (t : Option xt) (v : Value) (h : xt_op G o D H t v) : xt_op G o D' H1 t v := by
  unfold xt_op at h ⊢
  split
  · exact h
  · obtain ⟨a, e, k⟩ := h
    exact ⟨a, e, xt_kept hq hd _ _ _ k⟩
theorem xk_tst (w : xx_W G o d0 X E D H) (hO : ∀ i : Nat, i < 16 → H1[o + (42 + 3 * i)]? = H[o + (42 + 3 * i)]? ∧ H1[o + (43 + 3 * i)]? = H[o + (43 + 3 * i)]?) (hq : ∀ q : Nat, xg_d D q = (4, 0) → H1[q]? = H[q]?) (h90 : X' 90 = X 90) (hD : xg_le X D D') : ∀ i : Nat, i < 16 → ∃ f g : Nat → Value, wm_A G (o + (42 + 3 * i)) 11 160 f H1 ∧ wm_A G (o + (43 + 3 * i)) 11 160 g H1 ∧ ∀ k : Nat, k < (X' 90 i).toInt.toNat → xt_op G o D' H1 (xg_l D' i k).1 (f k) ∧ xt_op G o D' H1 (some (xg_l D' i k).2) (g k) := by
  intro i hi
  obtain ⟨f, g, h1, h2, h3⟩ := w.tst i hi
  have hd : ∀ q : Nat, xg_d D q = (4, 0) → xg_d D' q = (4, 0) := fun q z => by rw [hD.2.2.1 q (by rw [z]; exact nofun)]; exact z
  refine ⟨f, g, h1.kept (hO i hi).1, h2.kept (hO i hi).2, fun k hk => ?_⟩
  rw [h90] at hk
  rw [hD.2.2.2 i k hk]
  exact ⟨xt_op_kept hq hd _ _ (h3 k hk).1, xt_op_kept hq hd _ _ (h3 k hk).2⟩
/-- the fields of the bodies -/
def xx_bf (k : Nat) : Prop := 60 ≤ k ∧ k < 81
theorem xk_bdy (w : xx_W G o d0 X E D H) (hO : ∀ b : Nat, b < xx_n X → H1[xg_b D b]? = H[xg_b D b]?) (hX : ∀ k : Nat, k ≠ 4 → xx_bf k → X' k = X k) (h4 : X' 4 0 = X 4 0) (hD : xg_le X D D') : ∀ b : Nat, b < xx_n X' → wm_O G (xg_b D' b) (4 + xx_q X' b) (xx_bn.getD (xx_q X' b) 0) (xx_BV o D' X' b (xx_q X' b)) H1 := by
  intro b hb
  unfold xx_n at hb
  rw [h4] at hb
  have e : xx_q X' b = xx_q X b := by unfold xx_q; rw [hX 60 (by decide) ⟨by decide, by decide⟩]
  rw [e, hD.1 b hb]
  refine ((w.bdy b hb).kept (hO b hb)).to fun k _ => ?_
  unfold xx_BV
  split
  · rfl
  · split
    · rename_i f hf
      rw [hX f (xx_bqf hf).1 (xx_bqf hf).2]
    · rw [hD.1 b hb]
    · rfl
theorem xk_knd (w : xx_W G o d0 X E D H) (hX : X' 60 = X 60) (h4 : X' 4 0 = X 4 0) : ∀ b : Nat, b < xx_n X' → 0 ≤ (X' 60 b).toInt ∧ (X' 60 b).toInt < 8 := by
  intro b hb
  unfold xx_n at hb
  rw [h4] at hb
  rw [hX]
  exact w.knd b hb
theorem xx_hfm (j : Nat) (hj : j < 4) : xx_hf.getD j 0 ≠ 4 ∧ xx_bf (xx_hf.getD j 0) := by
  match j, hj with
  | 0, _ => exact ⟨by decide, by decide, by decide⟩
  | 1, _ => exact ⟨by decide, by decide, by decide⟩
  | 2, _ => exact ⟨by decide, by decide, by decide⟩
  | 3, _ => exact ⟨by decide, by decide, by decide⟩
theorem xk_har (w : xx_W G o d0 X E D H) (hO : ∀ b j : Nat, b < xx_n X → 2 ≤ xx_q X b → xx_q X b ≤ 5 → j < 4 → H1[xg_b D b + (1 + j)]? = H[xg_b D b + (1 + j)]?) (hX : ∀ k : Nat, k ≠ 4 → xx_bf k → X' k = X k) (h4 : X' 4 0 = X 4 0) (hD : xg_le X D D') : ∀ b : Nat, b < xx_n X' → 2 ≤ xx_q X' b → xx_q X' b ≤ 5 → ∀ j : Nat, j < 4 → wm_A G (xg_b D' b + (1 + j)) (if j = 3 then 1 else 0) 61 (xx_HA X' b (xx_hf.getD j 0)) H1 := by
  intro b hb q1 q2 j hj
  unfold xx_n at hb
  rw [h4] at hb
  have e : xx_q X' b = xx_q X b := by unfold xx_q; rw [hX 60 (by decide) ⟨by decide, by decide⟩]
  rw [e] at q1 q2
  rw [hD.1 b hb]
  refine ((w.har b hb q1 q2 j hj).kept (hO b j hb q1 q2 hj)).to fun y _ => ?_
  unfold xx_HA
  rw [hX _ (xx_hfm j hj).1 (xx_hfm j hj).2]
theorem xk_row (w : xx_W G o d0 X E D H) (hO : ∀ s : Nat, s < 6 → (X 58 s).toInt < -1 → H1[xg_r D s]? = H[xg_r D s]?) (h1 : X' 58 = X 58) (h2 : X' 100 = X 100) (h3 : X' 101 = X 101) (h4 : E' 0 = E 0) (hD : xg_le X D D') : ∀ s : Nat, s < 6 → (X' 58 s).toInt < -1 → wm_A G (xg_r D' s) (xx_rt (-2 - (X' 58 s).toInt).toNat) (X' 100 s).toInt.toNat (fun i => xx_el (-2 - (X' 58 s).toInt).toNat (E' 0 (60 * s + i)) (X' 101 (60 * s + i))) H1 ∧ xg_d D' (xg_r D' s) = (3, s) := by
  intro s hs h
  rw [h1] at h
  rw [h1, h2, h3, h4, hD.2.1 s hs h]
  obtain ⟨a, b⟩ := w.row s hs h
  exact ⟨a.kept (hO s hs h), by rw [hD.2.2.1 _ (by rw [b]; exact nofun)]; exact b⟩
theorem xk_dfx (w : xx_W G o d0 X E D H) (hD : xg_le X D D') : ∀ j : Nat, j ≤ 88 → xg_d D' (o + j) = (1, j) := fun j hj => by rw [hD.2.2.1 _ (by rw [w.dfx j hj]; exact nofun)]; exact w.dfx j hj
theorem xk_dby (w : xx_W G o d0 X E D H) (h60 : X' 60 = X 60) (h4 : X' 4 0 = X 4 0) (hD : xg_le X D D') : ∀ b i : Nat, b < xx_n X' → (i = 0 ∨ 2 ≤ xx_q X' b ∧ xx_q X' b ≤ 5 ∧ i < 5) → xg_d D' (xg_b D' b + i) = (2, 5 * b + i) := by
  intro b i hb hi
  unfold xx_n at hb
  rw [h4] at hb
  have e : xx_q X' b = xx_q X b := by unfold xx_q; rw [h60]
  rw [e] at hi
  rw [hD.1 b hb, hD.2.2.1 _ (by rw [w.dby b i hb hi]; exact nofun)]
  exact w.dby b i hb hi
theorem xk_rng (w : xx_W G o d0 X E D H) (h4 : X' 4 0 = X 4 0) (h5 : X' 5 0 = X 5 0) (h9 : X' 9 = X 9) (h58 : X' 58 = X 58) : (X' 5 0).toInt < (X' 4 0).toInt ∧ (∀ m : Nat, m < 3 → (X' 9 m).toInt < (X' 4 0).toInt) ∧ ∀ q : Nat, q < 6 → (X' 58 q).toInt < (X' 4 0).toInt := by
  rw [h4, h5, h9, h58]
  exact w.rng
theorem xk_cap (w : xx_W G o d0 X E D H) (h4 : X' 4 0 = X 4 0) (h90 : X' 90 = X 90) : 0 ≤ (X' 4 0).toInt ∧ (X' 4 0).toInt ≤ 120 ∧ ∀ i : Nat, i < 16 → 0 ≤ (X' 90 i).toInt ∧ (X' 90 i).toInt ≤ 160 := by
  rw [h4, h90]
  exact w.cap
theorem xk_siz (w : xx_W G o d0 X E D H) (h : X' 100 = X 100) : ∀ q : Nat, q < 6 → 0 ≤ (X' 100 q).toInt ∧ (X' 100 q).toInt ≤ 60 := by
  rw [h]
  exact w.siz
theorem xx_arrc2 : (List.range 59).all (fun k => match xx_arr k with
  | some x => decide (x.1 ≤ 39 ∧ x.1 ≠ 0 ∧ x.1 ≠ 3 ∧ x.1 ≠ 6 ∧ x.1 ≠ 8 ∧ x.1 ≠ 16 ∧ x.1 ≠ 17 ∧ x.1 ≠ 18 ∧ xx_ref k = none ∧ k ≠ 4 ∧ k ≠ 5)
  | none => true) = true := by decide +kernel
theorem xx_alt {k : Nat} {x : Nat × Nat × Nat} (h : xx_arr k = some x) : k < 59 := by
  rcases Nat.lt_or_ge k 59 with q | q
  · exact q
  · unfold xx_arr at h
    rw [List.getD_eq_getElem?_getD, List.getElem?_eq_none (by exact q)] at h
    cases h
theorem xx_arrj {k j t n : Nat} (h : xx_arr k = some (j, t, n)) : (j ≤ 39 ∧ j ≠ 0 ∧ j ≠ 3 ∧ j ≠ 6 ∧ j ≠ 8 ∧ j ≠ 16 ∧ j ≠ 17 ∧ j ≠ 18) ∧ xx_ref k = none ∧ k ≠ 4 ∧ k ≠ 5 ∧ k < 59 := by
  have a := List.all_eq_true.mp xx_arrc2 k (List.mem_range.mpr (xx_alt h))
  rw [h] at a
  have b := of_decide_eq_true a
  have := xx_alt h
  dsimp only at b
  exact ⟨⟨b.1, b.2.1, b.2.2.1, b.2.2.2.1, b.2.2.2.2.1, b.2.2.2.2.2.1, b.2.2.2.2.2.2.1, b.2.2.2.2.2.2.2.1⟩, b.2.2.2.2.2.2.2.2.1, b.2.2.2.2.2.2.2.2.2.1, b.2.2.2.2.2.2.2.2.2.2, this⟩
theorem xx_ne {a b : Nat} {t u : Nat × Nat} (h1 : xg_d D b = u) (h2 : xg_d D a = t) (h : u ≠ t) : b ≠ a := fun q => h (by rw [← h1, q, h2])
theorem xx_tn {a b c d : Nat} (h : a = c → b ≠ d) : ((a, b) : Nat × Nat) ≠ (c, d) := fun q => h (congrArg Prod.fst q) (congrArg Prod.snd q)
end XK
