/-! THE COMPONENT's WORLD: what a store leaves -/
section XP
variable {G : wm_G} {o d0 : Nat} {X : mm_S} {E : mm_E} {D : xg} {H H1 : Heap}
theorem wm_A.uniq {a t n : Nat} {f g : Nat → Value} (h : wm_A G a t n f H) (h2 : wm_A G a t n g H) : ∀ i : Nat, i < n → f i = g i := by
  intro i hi
  have e : arrV (G.2 t) n f = arrV (G.2 t) n g := Option.some.inj (h.symm.trans h2)
  have e2 : (arrV (G.2 t) n f).slots[i]? = (arrV (G.2 t) n g).slots[i]? := by rw [e]
  unfold arrV at e2
  dsimp only at e2
  rw [Array.getElem?_ofFn, Array.getElem?_ofFn, dif_pos hi, dif_pos hi] at e2
  exact Option.some.inj e2
theorem xx_ok1 : (List.range 59).all (fun k => (List.range 59).all (fun k2 => match xx_arr k, xx_arr k2 with
  | some x, some y => decide (x.1 = y.1 → k = k2)
  | _, _ => true)) = true := by decide +kernel
theorem xx_ainj {k k2 j t n t2 n2 : Nat} (h : xx_arr k = some (j, t, n)) (h2 : xx_arr k2 = some (j, t2, n2)) : k = k2 := by
  have a := List.all_eq_true.mp (List.all_eq_true.mp xx_ok1 k (List.mem_range.mpr (xx_alt h))) k2 (List.mem_range.mpr (xx_alt h2))
  rw [h, h2] at a
  exact of_decide_eq_true a rfl
theorem xx_bqc2 : (xx_bt.all fun r => r.all fun x => match x with
  | some (false, f) => decide (60 < f ∧ f ≠ 63 ∧ f ≠ 65 ∧ f ≠ 70 ∧ f ≠ 71 ∧ f < 81)
  | _ => true) = true := by decide
theorem xx_bqf2 {q k f : Nat} (h : xx_bq q k = some (false, f)) : 60 < f ∧ f ≠ 63 ∧ f ≠ 65 ∧ f ≠ 70 ∧ f ≠ 71 ∧ f < 81 := by
  unfold xx_bq at h
  rcases xx_getD (xx_bt.getD q []) k none with e | e
  · rw [e] at h; cases h
  · rw [h] at e
    rcases xx_getD xx_bt q [] with e2 | e2
    · rw [e2] at e; cases e
    · have a := List.all_eq_true.mp (List.all_eq_true.mp xx_bqc2 _ e2) _ e
      exact of_decide_eq_true a
theorem xx_hfn (j : Nat) (hj : j < 4) : 63 ≤ xx_hf.getD j 0 ∧ xx_hf.getD j 0 ≤ 71 ∧ xx_hf.getD j 0 ≠ 64 ∧ xx_hf.getD j 0 ≠ 66 ∧ xx_hf.getD j 0 ≠ 67 ∧ xx_hf.getD j 0 ≠ 68 ∧ xx_hf.getD j 0 ≠ 69 ∧ (xx_hf.getD j 0 = 63 ∨ xx_hf.getD j 0 = 65 ∨ xx_hf.getD j 0 = 70 ∨ xx_hf.getD j 0 = 71) := by
  match j, hj with
  | 0, _ => decide
  | 1, _ => decide
  | 2, _ => decide
  | 3, _ => decide
theorem xx_hfi (j : Nat) (hj : j < 4) (k : Nat) (hk : k < 4) (h : xx_hf.getD j 0 = xx_hf.getD k 0) : j = k := by
  have e : ∀ j, j < 4 → ∀ k, k < 4 → xx_hf.getD j 0 = xx_hf.getD k 0 → j = k := by decide
  exact e j hj k hk h
theorem xx_bic : ((List.range 8).all fun q => (List.range 17).all fun j => (List.range 17).all fun k => match xx_bq q j, xx_bq q k with
  | some (false, f), some (false, g) => decide (f = g → j = k)
  | _, _ => true) = true := by decide +kernel
theorem xx_blt {q k : Nat} {x : Bool × Nat} (h : xx_bq q k = some x) : q < 8 ∧ k < 17 := by
  have l8 : xx_bt.length = 8 := rfl
  have a : q < 8 := by
    rcases Nat.lt_or_ge q 8 with z | z
    · exact z
    · unfold xx_bq at h
      rw [List.getD_eq_getElem?_getD (l := xx_bt), List.getElem?_eq_none (by omega)] at h
      cases h
  refine ⟨a, ?_⟩
  rcases Nat.lt_or_ge k 17 with z | z
  · exact z
  · have e : ∀ q, q < 8 → (xx_bt.getD q []).length ≤ 17 := by decide
    have := e q a
    unfold xx_bq at h
    rw [List.getD_eq_getElem?_getD (l := xx_bt.getD q []), List.getElem?_eq_none (by omega)] at h
    cases h
theorem xx_binj {q j k f : Nat} (h : xx_bq q j = some (false, f)) (h2 : xx_bq q k = some (false, f)) : j = k := by
  have a := List.all_eq_true.mp (List.all_eq_true.mp (List.all_eq_true.mp xx_bic q (List.mem_range.mpr (xx_blt h).1)) j (List.mem_range.mpr (xx_blt h).2)) k (List.mem_range.mpr (xx_blt h2).2)
  rw [h, h2] at a
  exact of_decide_eq_true a rfl
theorem xx_W.puti (w : xx_W G o d0 X E D H) {k : Nat} {v : Int32} (hk : xx_arr k = none) (hr : xx_ref k = none) (h4 : k ≠ 4) (h5 : k ≠ 5) (hk9 : k < 59) (hA : wm_O G o 0 59 (updV (xx_V o D X) k (.int v)) H1) (hs : H1.size = H.size) (hq : ∀ q : Nat, q ≠ o → H1[q]? = H[q]?) : xx_W G o d0 (mm_up X k 0 v) E D H1 := by
  have hd : xg_d D (o) = (1, 0) := (w.dfx 0 (by omega))
  exact ⟨hA.to (fun k2 _ => by
      show (if k2 = k then Value.int v else xx_V o D X k2) = xx_V o D (mm_up X k 0 v) k2
      by_cases q : k2 = k
      · subst q
        rw [if_pos rfl]
        unfold xx_V
        rw [if_neg h5, hk, hr, mm_up_s]
      · rw [if_neg q]
        unfold xx_V
        rw [congrFun (mm_up_k (S := X) (k := k) (j := 0) (v := v) (fun h => h5 h.symm)) 0, mm_up_k q]),
    xk_arr w (fun k2 j2 t2 n2 h2 => hq _ (xx_ne (w.dfx j2 (by have := (xx_arrj h2).1; omega)) hd (xx_tn (fun h => by have := (xx_arrj h2).1; omega)))) (fun k2 h2 => mm_up_k (fun h => by first | exact h2 (by rw [h]; first | exact hk | decide) | (have := (xx_arrj hk2).2; omega))),
    xk_bod w (hq _ (xx_ne (w.dfx 3 (by omega)) hd (xx_tn (fun h => by omega)))) (congrFun (mm_up_k (by first | omega | (intro h; subst h; first | exact absurd hr (by decide) | exact absurd hk (by decide)))) 0) (xg_le.rf X D),
    xk_wrk w (hq _ (xx_ne (w.dfx 6 (by omega)) hd (xx_tn (fun h => by omega)))) (mm_up_k (by first | omega | (intro h; subst h; first | exact absurd hr (by decide) | exact absurd hk (by decide)))) (xg_le.rf X D),
    xk_shv w (hq _ (xx_ne (w.dfx 40 (by omega)) hd (xx_tn (fun h => by omega)))) (mm_up_k (by first | omega | (intro h; subst h; first | exact absurd hr (by decide) | exact absurd hk (by decide)))) (xg_le.rf X D),
    xk_trn w (hq _ (xx_ne (w.dfx 8 (by omega)) hd (xx_tn (fun h => by omega)))),
    xk_flt w (hq _ (xx_ne (w.dfx 17 (by omega)) hd (xx_tn (fun h => by omega)))),
    xk_rdr w (hq _ (xx_ne (w.dfx 16 (by omega)) hd (xx_tn (fun h => by omega)))) (congrFun (mm_up_k (by first | omega | (intro h; subst h; first | exact absurd hr (by decide) | exact absurd hk (by decide)))) 0) (congrFun (mm_up_k (by first | omega | (intro h; subst h; first | exact absurd hr (by decide) | exact absurd hk (by decide)))) 0),
    xk_txa w (hq _ (xx_ne (w.dfx 18 (by omega)) hd (xx_tn (fun h => by omega)))),
    xk_txt w (fun i hi => (hq _ (xx_ne (w.dfx (41 + 3 * i) (by omega)) hd (xx_tn (fun h => by omega))))) (fun k2 h1 h2 => (mm_up_k (by first | omega | (intro h; subst h; first | exact absurd hr (by decide) | exact absurd hk (by decide))))),
    xk_tst w (fun i hi => ⟨(hq _ (xx_ne (w.dfx (42 + 3 * i) (by omega)) hd (xx_tn (fun h => by omega)))), (hq _ (xx_ne (w.dfx (43 + 3 * i) (by omega)) hd (xx_tn (fun h => by omega))))⟩) (fun q z => hq q (xx_ne z hd (xx_tn (fun h => by omega)))) (mm_up_k (by first | omega | (intro h; subst h; first | exact absurd hr (by decide) | exact absurd hk (by decide)))) (xg_le.rf X D),
    xk_bdy w (fun b2 hb => hq _ (xx_ne (w.dby b2 0 hb (Or.inl rfl)) hd (xx_tn (fun h => by omega)))) (fun k2 h1 h2 => mm_up_k (by have := h2.1; have := h2.2; omega)) (congrFun (mm_up_k (by first | omega | (intro h; subst h; first | exact absurd hr (by decide) | exact absurd hk (by decide)))) 0) (xg_le.rf X D),
    xk_knd w (mm_up_k (by first | omega | (intro h; subst h; first | exact absurd hr (by decide) | exact absurd hk (by decide)))) (congrFun (mm_up_k (by first | omega | (intro h; subst h; first | exact absurd hr (by decide) | exact absurd hk (by decide)))) 0),
    xk_har w (fun b2 j2 hb q1 q2 hj => hq _ (xx_ne (w.dby b2 (1 + j2) hb (Or.inr ⟨q1, q2, by omega⟩)) hd (xx_tn (fun h => by omega)))) (fun k2 h1 h2 => mm_up_k (by have := h2.1; have := h2.2; omega)) (congrFun (mm_up_k (by first | omega | (intro h; subst h; first | exact absurd hr (by decide) | exact absurd hk (by decide)))) 0) (xg_le.rf X D),
    xk_row w (fun s2 h1 h2 => hq _ (xx_ne (w.row s2 h1 h2).2 hd (xx_tn (fun h => by omega)))) (mm_up_k (by first | omega | (intro h; subst h; first | exact absurd hr (by decide) | exact absurd hk (by decide)))) (mm_up_k (by first | omega | (intro h; subst h; first | exact absurd hr (by decide) | exact absurd hk (by decide)))) (mm_up_k (by first | omega | (intro h; subst h; first | exact absurd hr (by decide) | exact absurd hk (by decide)))) rfl (xg_le.rf X D),
    w.dfx,
    xk_dby w (mm_up_k (by first | omega | (intro h; subst h; first | exact absurd hr (by decide) | exact absurd hk (by decide)))) (congrFun (mm_up_k (by first | omega | (intro h; subst h; first | exact absurd hr (by decide) | exact absurd hk (by decide)))) 0) (xg_le.rf X D),
    fun q hz => w.dnw q (by rw [← hs]; exact hz),
    w.din,
    ⟨w.lim.1, by rw [hs]; exact w.lim.2⟩,
    xk_rng w (congrFun (mm_up_k (by first | omega | (intro h; subst h; first | exact absurd hr (by decide) | exact absurd hk (by decide)))) 0) (congrFun (mm_up_k (by first | omega | (intro h; subst h; first | exact absurd hr (by decide) | exact absurd hk (by decide)))) 0) (mm_up_k (by first | omega | (intro h; subst h; first | exact absurd hr (by decide) | exact absurd hk (by decide)))) (mm_up_k (by first | omega | (intro h; subst h; first | exact absurd hr (by decide) | exact absurd hk (by decide)))),
    xk_cap w (congrFun (mm_up_k (by first | omega | (intro h; subst h; first | exact absurd hr (by decide) | exact absurd hk (by decide)))) 0) (mm_up_k (by first | omega | (intro h; subst h; first | exact absurd hr (by decide) | exact absurd hk (by decide)))),
    xk_siz w (mm_up_k (by first | omega | (intro h; subst h; first | exact absurd hr (by decide) | exact absurd hk (by decide))))⟩
theorem xx_W.ast (w : xx_W G o d0 X E D H) {k j t n i : Nat} {v : Int32} (hk2 : xx_arr k = some (j, t, n)) (hA : wm_A G (o + j) t n (updV (fun y => .int (X k y)) i (.int v)) H1) (hs : H1.size = H.size) (hq : ∀ q : Nat, q ≠ (o + j) → H1[q]? = H[q]?) : xx_W G o d0 (mm_up X k i v) E D H1 := by
  have hd : xg_d D ((o + j)) = (1, j) := (w.dfx j (by have := (xx_arrj hk2).1; omega))
  have hj := xx_arrj hk2
  obtain ⟨hj, hr, h4, h5, hk9⟩ := hj
  have hk : xx_arr k ≠ none := by rw [hk2]; exact nofun
  exact ⟨xk_main w (hq _ (xx_ne (w.dfx 0 (by omega)) hd (xx_tn (fun h => by omega)))) (fun k2 q1 q2 q3 => congrFun (mm_up_k (fun h => by subst h; exact hk q1)) 0) (xg_le.rf X D),
    fun k2 j2 t2 n2 h2 => by
      by_cases q : k2 = k
      · subst q
        rw [hk2] at h2
        cases h2
        refine hA.to fun y _ => ?_
        show (if y = i then Value.int v else Value.int (X k2 y)) = Value.int (mm_up X k2 i v k2 y)
        rw [mm_up_a]
        split <;> rfl
      · rw [mm_up_k q]
        exact (w.arr k2 j2 t2 n2 h2).kept (hq _ (xx_ne (w.dfx j2 (by have := (xx_arrj h2).1; omega)) hd (xx_tn (fun _ z => q (xx_ainj h2 (z ▸ hk2)))))),
    xk_bod w (hq _ (xx_ne (w.dfx 3 (by omega)) hd (xx_tn (fun h => by omega)))) (congrFun (mm_up_k (by first | omega | (intro h; subst h; first | exact absurd hr (by decide) | exact absurd hk (by decide)))) 0) (xg_le.rf X D),
    xk_wrk w (hq _ (xx_ne (w.dfx 6 (by omega)) hd (xx_tn (fun h => by omega)))) (mm_up_k (by first | omega | (intro h; subst h; first | exact absurd hr (by decide) | exact absurd hk (by decide)))) (xg_le.rf X D),
    xk_shv w (hq _ (xx_ne (w.dfx 40 (by omega)) hd (xx_tn (fun h => by omega)))) (mm_up_k (by first | omega | (intro h; subst h; first | exact absurd hr (by decide) | exact absurd hk (by decide)))) (xg_le.rf X D),
    xk_trn w (hq _ (xx_ne (w.dfx 8 (by omega)) hd (xx_tn (fun h => by omega)))),
    xk_flt w (hq _ (xx_ne (w.dfx 17 (by omega)) hd (xx_tn (fun h => by omega)))),
    xk_rdr w (hq _ (xx_ne (w.dfx 16 (by omega)) hd (xx_tn (fun h => by omega)))) (congrFun (mm_up_k (by first | omega | (intro h; subst h; first | exact absurd hr (by decide) | exact absurd hk (by decide)))) 0) (congrFun (mm_up_k (by first | omega | (intro h; subst h; first | exact absurd hr (by decide) | exact absurd hk (by decide)))) 0),
    xk_txa w (hq _ (xx_ne (w.dfx 18 (by omega)) hd (xx_tn (fun h => by omega)))),
    xk_txt w (fun i hi => (hq _ (xx_ne (w.dfx (41 + 3 * i) (by omega)) hd (xx_tn (fun h => by omega))))) (fun k2 h1 h2 => (mm_up_k (by first | omega | (intro h; subst h; first | exact absurd hr (by decide) | exact absurd hk (by decide))))),
    xk_tst w (fun i hi => ⟨(hq _ (xx_ne (w.dfx (42 + 3 * i) (by omega)) hd (xx_tn (fun h => by omega)))), (hq _ (xx_ne (w.dfx (43 + 3 * i) (by omega)) hd (xx_tn (fun h => by omega))))⟩) (fun q z => hq q (xx_ne z hd (xx_tn (fun h => by omega)))) (mm_up_k (by first | omega | (intro h; subst h; first | exact absurd hr (by decide) | exact absurd hk (by decide)))) (xg_le.rf X D),
    xk_bdy w (fun b2 hb => hq _ (xx_ne (w.dby b2 0 hb (Or.inl rfl)) hd (xx_tn (fun h => by omega)))) (fun k2 h1 h2 => mm_up_k (by have := h2.1; have := h2.2; omega)) (congrFun (mm_up_k (by first | omega | (intro h; subst h; first | exact absurd hr (by decide) | exact absurd hk (by decide)))) 0) (xg_le.rf X D),
    xk_knd w (mm_up_k (by first | omega | (intro h; subst h; first | exact absurd hr (by decide) | exact absurd hk (by decide)))) (congrFun (mm_up_k (by first | omega | (intro h; subst h; first | exact absurd hr (by decide) | exact absurd hk (by decide)))) 0),
    xk_har w (fun b2 j2 hb q1 q2 hj => hq _ (xx_ne (w.dby b2 (1 + j2) hb (Or.inr ⟨q1, q2, by omega⟩)) hd (xx_tn (fun h => by omega)))) (fun k2 h1 h2 => mm_up_k (by have := h2.1; have := h2.2; omega)) (congrFun (mm_up_k (by first | omega | (intro h; subst h; first | exact absurd hr (by decide) | exact absurd hk (by decide)))) 0) (xg_le.rf X D),
    xk_row w (fun s2 h1 h2 => hq _ (xx_ne (w.row s2 h1 h2).2 hd (xx_tn (fun h => by omega)))) (mm_up_k (by first | omega | (intro h; subst h; first | exact absurd hr (by decide) | exact absurd hk (by decide)))) (mm_up_k (by first | omega | (intro h; subst h; first | exact absurd hr (by decide) | exact absurd hk (by decide)))) (mm_up_k (by first | omega | (intro h; subst h; first | exact absurd hr (by decide) | exact absurd hk (by decide)))) rfl (xg_le.rf X D),
    w.dfx,
    xk_dby w (mm_up_k (by first | omega | (intro h; subst h; first | exact absurd hr (by decide) | exact absurd hk (by decide)))) (congrFun (mm_up_k (by first | omega | (intro h; subst h; first | exact absurd hr (by decide) | exact absurd hk (by decide)))) 0) (xg_le.rf X D),
    fun q hz => w.dnw q (by rw [← hs]; exact hz),
    w.din,
    ⟨w.lim.1, by rw [hs]; exact w.lim.2⟩,
    xk_rng w (congrFun (mm_up_k (by first | omega | (intro h; subst h; first | exact absurd hr (by decide) | exact absurd hk (by decide)))) 0) (congrFun (mm_up_k (by first | omega | (intro h; subst h; first | exact absurd hr (by decide) | exact absurd hk (by decide)))) 0) (mm_up_k (by first | omega | (intro h; subst h; first | exact absurd hr (by decide) | exact absurd hk (by decide)))) (mm_up_k (by first | omega | (intro h; subst h; first | exact absurd hr (by decide) | exact absurd hk (by decide)))),
    xk_cap w (congrFun (mm_up_k (by first | omega | (intro h; subst h; first | exact absurd hr (by decide) | exact absurd hk (by decide)))) 0) (mm_up_k (by first | omega | (intro h; subst h; first | exact absurd hr (by decide) | exact absurd hk (by decide)))),
    xk_siz w (mm_up_k (by first | omega | (intro h; subst h; first | exact absurd hr (by decide) | exact absurd hk (by decide))))⟩
theorem xx_W.wput (w : xx_W G o d0 X E D H) {i : Nat} {v : Int32} (hi : i < 3) (hv : v.toInt < (X 4 0).toInt) (hA : wm_A G (o + 6) 8 3 (updV (fun m => xx_b D (X 9 m)) i (xx_b D v)) H1) (hs : H1.size = H.size) (hq : ∀ q : Nat, q ≠ (o + 6) → H1[q]? = H[q]?) : xx_W G o d0 (mm_up X 9 i v) E D H1 := by
  have hd : xg_d D ((o + 6)) = (1, 6) := (w.dfx 6 (by omega))
  have hk : xx_arr 9 = none := by decide
  have hr : True := trivial
  exact ⟨xk_main w (hq _ (xx_ne (w.dfx 0 (by omega)) hd (xx_tn (fun h => by omega)))) (fun k2 q1 q2 q3 => congrFun (mm_up_k (by first | omega | (intro h; subst h; exact absurd q2 (by decide)))) 0) (xg_le.rf X D),
    xk_arr w (fun k2 j2 t2 n2 h2 => hq _ (xx_ne (w.dfx j2 (by have := (xx_arrj h2).1; omega)) hd (xx_tn (fun h => by have := (xx_arrj h2).1; omega)))) (fun k2 h2 => mm_up_k (fun h => by first | exact h2 (by rw [h]; first | exact hk | decide) | (have := (xx_arrj hk2).2; omega))),
    xk_bod w (hq _ (xx_ne (w.dfx 3 (by omega)) hd (xx_tn (fun h => by omega)))) (congrFun (mm_up_k (by first | omega | (intro h; subst h; first | exact absurd hr (by decide) | exact absurd hk (by decide)))) 0) (xg_le.rf X D),
    hA.to fun m _ => by
      show (if m = i then xx_b D v else xx_b D (X 9 m)) = xx_b D (mm_up X 9 i v 9 m)
      rw [mm_up_a]
      split <;> rfl,
    xk_shv w (hq _ (xx_ne (w.dfx 40 (by omega)) hd (xx_tn (fun h => by omega)))) (mm_up_k (by first | omega | (intro h; subst h; first | exact absurd hr (by decide) | exact absurd hk (by decide)))) (xg_le.rf X D),
    xk_trn w (hq _ (xx_ne (w.dfx 8 (by omega)) hd (xx_tn (fun h => by omega)))),
    xk_flt w (hq _ (xx_ne (w.dfx 17 (by omega)) hd (xx_tn (fun h => by omega)))),
    xk_rdr w (hq _ (xx_ne (w.dfx 16 (by omega)) hd (xx_tn (fun h => by omega)))) (congrFun (mm_up_k (by first | omega | (intro h; subst h; first | exact absurd hr (by decide) | exact absurd hk (by decide)))) 0) (congrFun (mm_up_k (by first | omega | (intro h; subst h; first | exact absurd hr (by decide) | exact absurd hk (by decide)))) 0),
    xk_txa w (hq _ (xx_ne (w.dfx 18 (by omega)) hd (xx_tn (fun h => by omega)))),
    xk_txt w (fun i hi => (hq _ (xx_ne (w.dfx (41 + 3 * i) (by omega)) hd (xx_tn (fun h => by omega))))) (fun k2 h1 h2 => (mm_up_k (by first | omega | (intro h; subst h; first | exact absurd hr (by decide) | exact absurd hk (by decide))))),
    xk_tst w (fun i hi => ⟨(hq _ (xx_ne (w.dfx (42 + 3 * i) (by omega)) hd (xx_tn (fun h => by omega)))), (hq _ (xx_ne (w.dfx (43 + 3 * i) (by omega)) hd (xx_tn (fun h => by omega))))⟩) (fun q z => hq q (xx_ne z hd (xx_tn (fun h => by omega)))) (mm_up_k (by first | omega | (intro h; subst h; first | exact absurd hr (by decide) | exact absurd hk (by decide)))) (xg_le.rf X D),
    xk_bdy w (fun b2 hb => hq _ (xx_ne (w.dby b2 0 hb (Or.inl rfl)) hd (xx_tn (fun h => by omega)))) (fun k2 h1 h2 => mm_up_k (by have := h2.1; have := h2.2; omega)) (congrFun (mm_up_k (by first | omega | (intro h; subst h; first | exact absurd hr (by decide) | exact absurd hk (by decide)))) 0) (xg_le.rf X D),
    xk_knd w (mm_up_k (by first | omega | (intro h; subst h; first | exact absurd hr (by decide) | exact absurd hk (by decide)))) (congrFun (mm_up_k (by first | omega | (intro h; subst h; first | exact absurd hr (by decide) | exact absurd hk (by decide)))) 0),
    xk_har w (fun b2 j2 hb q1 q2 hj => hq _ (xx_ne (w.dby b2 (1 + j2) hb (Or.inr ⟨q1, q2, by omega⟩)) hd (xx_tn (fun h => by omega)))) (fun k2 h1 h2 => mm_up_k (by have := h2.1; have := h2.2; omega)) (congrFun (mm_up_k (by first | omega | (intro h; subst h; first | exact absurd hr (by decide) | exact absurd hk (by decide)))) 0) (xg_le.rf X D),
    xk_row w (fun s2 h1 h2 => hq _ (xx_ne (w.row s2 h1 h2).2 hd (xx_tn (fun h => by omega)))) (mm_up_k (by first | omega | (intro h; subst h; first | exact absurd hr (by decide) | exact absurd hk (by decide)))) (mm_up_k (by first | omega | (intro h; subst h; first | exact absurd hr (by decide) | exact absurd hk (by decide)))) (mm_up_k (by first | omega | (intro h; subst h; first | exact absurd hr (by decide) | exact absurd hk (by decide)))) rfl (xg_le.rf X D),
    w.dfx,
    xk_dby w (mm_up_k (by first | omega | (intro h; subst h; first | exact absurd hr (by decide) | exact absurd hk (by decide)))) (congrFun (mm_up_k (by first | omega | (intro h; subst h; first | exact absurd hr (by decide) | exact absurd hk (by decide)))) 0) (xg_le.rf X D),
    fun q hz => w.dnw q (by rw [← hs]; exact hz),
    w.din,
    ⟨w.lim.1, by rw [hs]; exact w.lim.2⟩,
    ⟨w.rng.1, fun m hm => by
      show (mm_up X 9 i v 9 m).toInt < (X 4 0).toInt
      rw [mm_up_a]
      split
      · exact hv
      · exact w.rng.2.1 m hm, w.rng.2.2⟩,
    xk_cap w (congrFun (mm_up_k (by first | omega | (intro h; subst h; first | exact absurd hr (by decide) | exact absurd hk (by decide)))) 0) (mm_up_k (by first | omega | (intro h; subst h; first | exact absurd hr (by decide) | exact absurd hk (by decide)))),
    xk_siz w (mm_up_k (by first | omega | (intro h; subst h; first | exact absurd hr (by decide) | exact absurd hk (by decide))))⟩
theorem xx_W.kput (w : xx_W G o d0 X E D H) {i : Nat} {v : Int32} (hi : i < 6) (hv : v.toInt < (X 4 0).toInt) (hv0 : -1 ≤ v.toInt) (hA : wm_A G (o + 40) 10 6 (updV (fun q => xx_s D (X 58 q) q) i (xx_s D v i)) H1) (hs : H1.size = H.size) (hq : ∀ q : Nat, q ≠ (o + 40) → H1[q]? = H[q]?) : xx_W G o d0 (mm_up X 58 i v) E D H1 := by
  have hd : xg_d D ((o + 40)) = (1, 40) := (w.dfx 40 (by omega))
  have hk : xx_arr 58 = none := by decide
  have hr : True := trivial
  exact ⟨xk_main w (hq _ (xx_ne (w.dfx 0 (by omega)) hd (xx_tn (fun h => by omega)))) (fun k2 q1 q2 q3 => congrFun (mm_up_k (by first | omega | (intro h; subst h; exact absurd q2 (by decide)))) 0) (xg_le.rf X D),
    xk_arr w (fun k2 j2 t2 n2 h2 => hq _ (xx_ne (w.dfx j2 (by have := (xx_arrj h2).1; omega)) hd (xx_tn (fun h => by have := (xx_arrj h2).1; omega)))) (fun k2 h2 => mm_up_k (fun h => by first | exact h2 (by rw [h]; first | exact hk | decide) | (have := (xx_arrj hk2).2; omega))),
    xk_bod w (hq _ (xx_ne (w.dfx 3 (by omega)) hd (xx_tn (fun h => by omega)))) (congrFun (mm_up_k (by first | omega | (intro h; subst h; first | exact absurd hr (by decide) | exact absurd hk (by decide)))) 0) (xg_le.rf X D),
    xk_wrk w (hq _ (xx_ne (w.dfx 6 (by omega)) hd (xx_tn (fun h => by omega)))) (mm_up_k (by first | omega | (intro h; subst h; first | exact absurd hr (by decide) | exact absurd hk (by decide)))) (xg_le.rf X D),
    hA.to fun m _ => by
      show (if m = i then xx_s D v i else xx_s D (X 58 m) m) = xx_s D (mm_up X 58 i v 58 m) m
      rw [mm_up_a]
      split
      · rename_i q; rw [q]
      · rfl,
    xk_trn w (hq _ (xx_ne (w.dfx 8 (by omega)) hd (xx_tn (fun h => by omega)))),
    xk_flt w (hq _ (xx_ne (w.dfx 17 (by omega)) hd (xx_tn (fun h => by omega)))),
    xk_rdr w (hq _ (xx_ne (w.dfx 16 (by omega)) hd (xx_tn (fun h => by omega)))) (congrFun (mm_up_k (by first | omega | (intro h; subst h; first | exact absurd hr (by decide) | exact absurd hk (by decide)))) 0) (congrFun (mm_up_k (by first | omega | (intro h; subst h; first | exact absurd hr (by decide) | exact absurd hk (by decide)))) 0),
    xk_txa w (hq _ (xx_ne (w.dfx 18 (by omega)) hd (xx_tn (fun h => by omega)))),
    xk_txt w (fun i hi => (hq _ (xx_ne (w.dfx (41 + 3 * i) (by omega)) hd (xx_tn (fun h => by omega))))) (fun k2 h1 h2 => (mm_up_k (by first | omega | (intro h; subst h; first | exact absurd hr (by decide) | exact absurd hk (by decide))))),
    xk_tst w (fun i hi => ⟨(hq _ (xx_ne (w.dfx (42 + 3 * i) (by omega)) hd (xx_tn (fun h => by omega)))), (hq _ (xx_ne (w.dfx (43 + 3 * i) (by omega)) hd (xx_tn (fun h => by omega))))⟩) (fun q z => hq q (xx_ne z hd (xx_tn (fun h => by omega)))) (mm_up_k (by first | omega | (intro h; subst h; first | exact absurd hr (by decide) | exact absurd hk (by decide)))) (xg_le.rf X D),
    xk_bdy w (fun b2 hb => hq _ (xx_ne (w.dby b2 0 hb (Or.inl rfl)) hd (xx_tn (fun h => by omega)))) (fun k2 h1 h2 => mm_up_k (by have := h2.1; have := h2.2; omega)) (congrFun (mm_up_k (by first | omega | (intro h; subst h; first | exact absurd hr (by decide) | exact absurd hk (by decide)))) 0) (xg_le.rf X D),
    xk_knd w (mm_up_k (by first | omega | (intro h; subst h; first | exact absurd hr (by decide) | exact absurd hk (by decide)))) (congrFun (mm_up_k (by first | omega | (intro h; subst h; first | exact absurd hr (by decide) | exact absurd hk (by decide)))) 0),
    xk_har w (fun b2 j2 hb q1 q2 hj => hq _ (xx_ne (w.dby b2 (1 + j2) hb (Or.inr ⟨q1, q2, by omega⟩)) hd (xx_tn (fun h => by omega)))) (fun k2 h1 h2 => mm_up_k (by have := h2.1; have := h2.2; omega)) (congrFun (mm_up_k (by first | omega | (intro h; subst h; first | exact absurd hr (by decide) | exact absurd hk (by decide)))) 0) (xg_le.rf X D),
    fun q hq6 hz => by
      have e : mm_up X 58 i v 58 q = if q = i then v else X 58 q := mm_up_a X 58 i v q
      by_cases y : q = i
      · rw [e, if_pos y] at hz
        exact absurd hz (by omega)
      · rw [e, if_neg y] at hz ⊢
        obtain ⟨a, b⟩ := w.row q hq6 hz
        exact ⟨a.kept (hq _ (xx_ne b hd (xx_tn (fun h => by omega)))), b⟩,
    w.dfx,
    xk_dby w (mm_up_k (by first | omega | (intro h; subst h; first | exact absurd hr (by decide) | exact absurd hk (by decide)))) (congrFun (mm_up_k (by first | omega | (intro h; subst h; first | exact absurd hr (by decide) | exact absurd hk (by decide)))) 0) (xg_le.rf X D),
    fun q hz => w.dnw q (by rw [← hs]; exact hz),
    w.din,
    ⟨w.lim.1, by rw [hs]; exact w.lim.2⟩,
    ⟨w.rng.1, w.rng.2.1, fun m hm => by
      show (mm_up X 58 i v 58 m).toInt < (X 4 0).toInt
      rw [mm_up_a]
      split
      · exact hv
      · exact w.rng.2.2 m hm⟩,
    xk_cap w (congrFun (mm_up_k (by first | omega | (intro h; subst h; first | exact absurd hr (by decide) | exact absurd hk (by decide)))) 0) (mm_up_k (by first | omega | (intro h; subst h; first | exact absurd hr (by decide) | exact absurd hk (by decide)))),
    xk_siz w (mm_up_k (by first | omega | (intro h; subst h; first | exact absurd hr (by decide) | exact absurd hk (by decide))))⟩
theorem xx_W.aput (w : xx_W G o d0 X E D H) {v : Int32} (hA : wm_O G (o + 16) 2 4 (updV (fun k => if k = 0 then Value.ref (o + 17) else if k = 1 then .int (X 95 0) else if k = 2 then .int (X 96 0) else .ref o) 1 (.int v)) H1) (hs : H1.size = H.size) (hq : ∀ q : Nat, q ≠ (o + 16) → H1[q]? = H[q]?) : xx_W G o d0 (mm_up X 95 0 v) E D H1 := by
  have hd : xg_d D ((o + 16)) = (1, 16) := (w.dfx 16 (by omega))
  have hk : xx_arr 95 = none := by decide
  have hr : True := trivial
  exact ⟨xk_main w (hq _ (xx_ne (w.dfx 0 (by omega)) hd (xx_tn (fun h => by omega)))) (fun k2 q1 q2 q3 => congrFun (mm_up_k (by first | omega | (intro h; subst h; exact absurd q2 (by decide)))) 0) (xg_le.rf X D),
    xk_arr w (fun k2 j2 t2 n2 h2 => hq _ (xx_ne (w.dfx j2 (by have := (xx_arrj h2).1; omega)) hd (xx_tn (fun h => by have := (xx_arrj h2).1; omega)))) (fun k2 h2 => mm_up_k (fun h => by first | exact h2 (by rw [h]; first | exact hk | decide) | (have := (xx_arrj hk2).2; omega))),
    xk_bod w (hq _ (xx_ne (w.dfx 3 (by omega)) hd (xx_tn (fun h => by omega)))) (congrFun (mm_up_k (by first | omega | (intro h; subst h; first | exact absurd hr (by decide) | exact absurd hk (by decide)))) 0) (xg_le.rf X D),
    xk_wrk w (hq _ (xx_ne (w.dfx 6 (by omega)) hd (xx_tn (fun h => by omega)))) (mm_up_k (by first | omega | (intro h; subst h; first | exact absurd hr (by decide) | exact absurd hk (by decide)))) (xg_le.rf X D),
    xk_shv w (hq _ (xx_ne (w.dfx 40 (by omega)) hd (xx_tn (fun h => by omega)))) (mm_up_k (by first | omega | (intro h; subst h; first | exact absurd hr (by decide) | exact absurd hk (by decide)))) (xg_le.rf X D),
    xk_trn w (hq _ (xx_ne (w.dfx 8 (by omega)) hd (xx_tn (fun h => by omega)))),
    xk_flt w (hq _ (xx_ne (w.dfx 17 (by omega)) hd (xx_tn (fun h => by omega)))),
    hA.to fun k _ => by
      show (if k = 1 then Value.int v else if k = 0 then Value.ref (o + 17) else if k = 1 then .int (X 95 0) else if k = 2 then .int (X 96 0) else .ref o) = (if k = 0 then Value.ref (o + 17) else if k = 1 then .int (mm_up X 95 0 v 95 0) else if k = 2 then .int (mm_up X 95 0 v 96 0) else .ref o)
      by_cases h : k = 1
      · subst h; rfl
      · rw [if_neg h]
        repeat' split
        all_goals first | rfl | omega,
    xk_txa w (hq _ (xx_ne (w.dfx 18 (by omega)) hd (xx_tn (fun h => by omega)))),
    xk_txt w (fun i hi => (hq _ (xx_ne (w.dfx (41 + 3 * i) (by omega)) hd (xx_tn (fun h => by omega))))) (fun k2 h1 h2 => (mm_up_k (by first | omega | (intro h; subst h; first | exact absurd hr (by decide) | exact absurd hk (by decide))))),
    xk_tst w (fun i hi => ⟨(hq _ (xx_ne (w.dfx (42 + 3 * i) (by omega)) hd (xx_tn (fun h => by omega)))), (hq _ (xx_ne (w.dfx (43 + 3 * i) (by omega)) hd (xx_tn (fun h => by omega))))⟩) (fun q z => hq q (xx_ne z hd (xx_tn (fun h => by omega)))) (mm_up_k (by first | omega | (intro h; subst h; first | exact absurd hr (by decide) | exact absurd hk (by decide)))) (xg_le.rf X D),
    xk_bdy w (fun b2 hb => hq _ (xx_ne (w.dby b2 0 hb (Or.inl rfl)) hd (xx_tn (fun h => by omega)))) (fun k2 h1 h2 => mm_up_k (by have := h2.1; have := h2.2; omega)) (congrFun (mm_up_k (by first | omega | (intro h; subst h; first | exact absurd hr (by decide) | exact absurd hk (by decide)))) 0) (xg_le.rf X D),
    xk_knd w (mm_up_k (by first | omega | (intro h; subst h; first | exact absurd hr (by decide) | exact absurd hk (by decide)))) (congrFun (mm_up_k (by first | omega | (intro h; subst h; first | exact absurd hr (by decide) | exact absurd hk (by decide)))) 0),
    xk_har w (fun b2 j2 hb q1 q2 hj => hq _ (xx_ne (w.dby b2 (1 + j2) hb (Or.inr ⟨q1, q2, by omega⟩)) hd (xx_tn (fun h => by omega)))) (fun k2 h1 h2 => mm_up_k (by have := h2.1; have := h2.2; omega)) (congrFun (mm_up_k (by first | omega | (intro h; subst h; first | exact absurd hr (by decide) | exact absurd hk (by decide)))) 0) (xg_le.rf X D),
    xk_row w (fun s2 h1 h2 => hq _ (xx_ne (w.row s2 h1 h2).2 hd (xx_tn (fun h => by omega)))) (mm_up_k (by first | omega | (intro h; subst h; first | exact absurd hr (by decide) | exact absurd hk (by decide)))) (mm_up_k (by first | omega | (intro h; subst h; first | exact absurd hr (by decide) | exact absurd hk (by decide)))) (mm_up_k (by first | omega | (intro h; subst h; first | exact absurd hr (by decide) | exact absurd hk (by decide)))) rfl (xg_le.rf X D),
    w.dfx,
    xk_dby w (mm_up_k (by first | omega | (intro h; subst h; first | exact absurd hr (by decide) | exact absurd hk (by decide)))) (congrFun (mm_up_k (by first | omega | (intro h; subst h; first | exact absurd hr (by decide) | exact absurd hk (by decide)))) 0) (xg_le.rf X D),
    fun q hz => w.dnw q (by rw [← hs]; exact hz),
    w.din,
    ⟨w.lim.1, by rw [hs]; exact w.lim.2⟩,
    xk_rng w (congrFun (mm_up_k (by first | omega | (intro h; subst h; first | exact absurd hr (by decide) | exact absurd hk (by decide)))) 0) (congrFun (mm_up_k (by first | omega | (intro h; subst h; first | exact absurd hr (by decide) | exact absurd hk (by decide)))) 0) (mm_up_k (by first | omega | (intro h; subst h; first | exact absurd hr (by decide) | exact absurd hk (by decide)))) (mm_up_k (by first | omega | (intro h; subst h; first | exact absurd hr (by decide) | exact absurd hk (by decide)))),
    xk_cap w (congrFun (mm_up_k (by first | omega | (intro h; subst h; first | exact absurd hr (by decide) | exact absurd hk (by decide)))) 0) (mm_up_k (by first | omega | (intro h; subst h; first | exact absurd hr (by decide) | exact absurd hk (by decide)))),
    xk_siz w (mm_up_k (by first | omega | (intro h; subst h; first | exact absurd hr (by decide) | exact absurd hk (by decide))))⟩
theorem xx_W.oput (w : xx_W G o d0 X E D H) {v : Int32} (hA : wm_O G (o + 16) 2 4 (updV (fun k => if k = 0 then Value.ref (o + 17) else if k = 1 then .int (X 95 0) else if k = 2 then .int (X 96 0) else .ref o) 2 (.int v)) H1) (hs : H1.size = H.size) (hq : ∀ q : Nat, q ≠ (o + 16) → H1[q]? = H[q]?) : xx_W G o d0 (mm_up X 96 0 v) E D H1 := by
  have hd : xg_d D ((o + 16)) = (1, 16) := (w.dfx 16 (by omega))
  have hk : xx_arr 96 = none := by decide
  have hr : True := trivial
  exact ⟨xk_main w (hq _ (xx_ne (w.dfx 0 (by omega)) hd (xx_tn (fun h => by omega)))) (fun k2 q1 q2 q3 => congrFun (mm_up_k (by first | omega | (intro h; subst h; exact absurd q2 (by decide)))) 0) (xg_le.rf X D),
    xk_arr w (fun k2 j2 t2 n2 h2 => hq _ (xx_ne (w.dfx j2 (by have := (xx_arrj h2).1; omega)) hd (xx_tn (fun h => by have := (xx_arrj h2).1; omega)))) (fun k2 h2 => mm_up_k (fun h => by first | exact h2 (by rw [h]; first | exact hk | decide) | (have := (xx_arrj hk2).2; omega))),
    xk_bod w (hq _ (xx_ne (w.dfx 3 (by omega)) hd (xx_tn (fun h => by omega)))) (congrFun (mm_up_k (by first | omega | (intro h; subst h; first | exact absurd hr (by decide) | exact absurd hk (by decide)))) 0) (xg_le.rf X D),
    xk_wrk w (hq _ (xx_ne (w.dfx 6 (by omega)) hd (xx_tn (fun h => by omega)))) (mm_up_k (by first | omega | (intro h; subst h; first | exact absurd hr (by decide) | exact absurd hk (by decide)))) (xg_le.rf X D),
    xk_shv w (hq _ (xx_ne (w.dfx 40 (by omega)) hd (xx_tn (fun h => by omega)))) (mm_up_k (by first | omega | (intro h; subst h; first | exact absurd hr (by decide) | exact absurd hk (by decide)))) (xg_le.rf X D),
    xk_trn w (hq _ (xx_ne (w.dfx 8 (by omega)) hd (xx_tn (fun h => by omega)))),
    xk_flt w (hq _ (xx_ne (w.dfx 17 (by omega)) hd (xx_tn (fun h => by omega)))),
    hA.to fun k _ => by
      show (if k = 2 then Value.int v else if k = 0 then Value.ref (o + 17) else if k = 1 then .int (X 95 0) else if k = 2 then .int (X 96 0) else .ref o) = (if k = 0 then Value.ref (o + 17) else if k = 1 then .int (mm_up X 96 0 v 95 0) else if k = 2 then .int (mm_up X 96 0 v 96 0) else .ref o)
      by_cases h : k = 2
      · subst h; rfl
      · rw [if_neg h]
        repeat' split
        all_goals first | rfl | omega,
    xk_txa w (hq _ (xx_ne (w.dfx 18 (by omega)) hd (xx_tn (fun h => by omega)))),
    xk_txt w (fun i hi => (hq _ (xx_ne (w.dfx (41 + 3 * i) (by omega)) hd (xx_tn (fun h => by omega))))) (fun k2 h1 h2 => (mm_up_k (by first | omega | (intro h; subst h; first | exact absurd hr (by decide) | exact absurd hk (by decide))))),
    xk_tst w (fun i hi => ⟨(hq _ (xx_ne (w.dfx (42 + 3 * i) (by omega)) hd (xx_tn (fun h => by omega)))), (hq _ (xx_ne (w.dfx (43 + 3 * i) (by omega)) hd (xx_tn (fun h => by omega))))⟩) (fun q z => hq q (xx_ne z hd (xx_tn (fun h => by omega)))) (mm_up_k (by first | omega | (intro h; subst h; first | exact absurd hr (by decide) | exact absurd hk (by decide)))) (xg_le.rf X D),
    xk_bdy w (fun b2 hb => hq _ (xx_ne (w.dby b2 0 hb (Or.inl rfl)) hd (xx_tn (fun h => by omega)))) (fun k2 h1 h2 => mm_up_k (by have := h2.1; have := h2.2; omega)) (congrFun (mm_up_k (by first | omega | (intro h; subst h; first | exact absurd hr (by decide) | exact absurd hk (by decide)))) 0) (xg_le.rf X D),
    xk_knd w (mm_up_k (by first | omega | (intro h; subst h; first | exact absurd hr (by decide) | exact absurd hk (by decide)))) (congrFun (mm_up_k (by first | omega | (intro h; subst h; first | exact absurd hr (by decide) | exact absurd hk (by decide)))) 0),
    xk_har w (fun b2 j2 hb q1 q2 hj => hq _ (xx_ne (w.dby b2 (1 + j2) hb (Or.inr ⟨q1, q2, by omega⟩)) hd (xx_tn (fun h => by omega)))) (fun k2 h1 h2 => mm_up_k (by have := h2.1; have := h2.2; omega)) (congrFun (mm_up_k (by first | omega | (intro h; subst h; first | exact absurd hr (by decide) | exact absurd hk (by decide)))) 0) (xg_le.rf X D),
    xk_row w (fun s2 h1 h2 => hq _ (xx_ne (w.row s2 h1 h2).2 hd (xx_tn (fun h => by omega)))) (mm_up_k (by first | omega | (intro h; subst h; first | exact absurd hr (by decide) | exact absurd hk (by decide)))) (mm_up_k (by first | omega | (intro h; subst h; first | exact absurd hr (by decide) | exact absurd hk (by decide)))) (mm_up_k (by first | omega | (intro h; subst h; first | exact absurd hr (by decide) | exact absurd hk (by decide)))) rfl (xg_le.rf X D),
    w.dfx,
    xk_dby w (mm_up_k (by first | omega | (intro h; subst h; first | exact absurd hr (by decide) | exact absurd hk (by decide)))) (congrFun (mm_up_k (by first | omega | (intro h; subst h; first | exact absurd hr (by decide) | exact absurd hk (by decide)))) 0) (xg_le.rf X D),
    fun q hz => w.dnw q (by rw [← hs]; exact hz),
    w.din,
    ⟨w.lim.1, by rw [hs]; exact w.lim.2⟩,
    xk_rng w (congrFun (mm_up_k (by first | omega | (intro h; subst h; first | exact absurd hr (by decide) | exact absurd hk (by decide)))) 0) (congrFun (mm_up_k (by first | omega | (intro h; subst h; first | exact absurd hr (by decide) | exact absurd hk (by decide)))) 0) (mm_up_k (by first | omega | (intro h; subst h; first | exact absurd hr (by decide) | exact absurd hk (by decide)))) (mm_up_k (by first | omega | (intro h; subst h; first | exact absurd hr (by decide) | exact absurd hk (by decide)))),
    xk_cap w (congrFun (mm_up_k (by first | omega | (intro h; subst h; first | exact absurd hr (by decide) | exact absurd hk (by decide)))) 0) (mm_up_k (by first | omega | (intro h; subst h; first | exact absurd hr (by decide) | exact absurd hk (by decide)))),
    xk_siz w (mm_up_k (by first | omega | (intro h; subst h; first | exact absurd hr (by decide) | exact absurd hk (by decide))))⟩
theorem xx_W.tput (w : xx_W G o d0 X E D H) {i u : Nat} {v : Int32} (hi : i < 16) (hu : 3 ≤ u) (hu2 : u < 6) (hA : wm_O G (o + (41 + 3 * i)) 3 7 (updV (fun q => if q = 0 then Value.ref (o + (42 + 3 * i)) else if q = 1 then .ref (o + (43 + 3 * i)) else if q < 6 then .int (X (88 + q) i) else .ref o) u (.int v)) H1) (hs : H1.size = H.size) (hq : ∀ q : Nat, q ≠ (o + (41 + 3 * i)) → H1[q]? = H[q]?) : xx_W G o d0 (mm_up X (88 + u) i v) E D H1 := by
  have hd : xg_d D ((o + (41 + 3 * i))) = (1, 41 + 3 * i) := (w.dfx (41 + 3 * i) (by omega))
  have hk : xx_arr (88 + u) = none := by unfold xx_arr; rw [List.getD_eq_getElem?_getD, List.getElem?_eq_none (by show 59 ≤ 88 + u; omega)]; rfl
  have hr : True := trivial
  exact ⟨xk_main w (hq _ (xx_ne (w.dfx 0 (by omega)) hd (xx_tn (fun h => by omega)))) (fun k2 q1 q2 q3 => congrFun (mm_up_k (by first | omega | (intro h; subst h; exact absurd q2 (by decide)))) 0) (xg_le.rf X D),
    xk_arr w (fun k2 j2 t2 n2 h2 => hq _ (xx_ne (w.dfx j2 (by have := (xx_arrj h2).1; omega)) hd (xx_tn (fun h => by have := (xx_arrj h2).1; omega)))) (fun k2 h2 => mm_up_k (fun h => by first | exact h2 (by rw [h]; first | exact hk | decide) | (have := (xx_arrj hk2).2; omega))),
    xk_bod w (hq _ (xx_ne (w.dfx 3 (by omega)) hd (xx_tn (fun h => by omega)))) (congrFun (mm_up_k (by first | omega | (intro h; subst h; first | exact absurd hr (by decide) | exact absurd hk (by decide)))) 0) (xg_le.rf X D),
    xk_wrk w (hq _ (xx_ne (w.dfx 6 (by omega)) hd (xx_tn (fun h => by omega)))) (mm_up_k (by first | omega | (intro h; subst h; first | exact absurd hr (by decide) | exact absurd hk (by decide)))) (xg_le.rf X D),
    xk_shv w (hq _ (xx_ne (w.dfx 40 (by omega)) hd (xx_tn (fun h => by omega)))) (mm_up_k (by first | omega | (intro h; subst h; first | exact absurd hr (by decide) | exact absurd hk (by decide)))) (xg_le.rf X D),
    xk_trn w (hq _ (xx_ne (w.dfx 8 (by omega)) hd (xx_tn (fun h => by omega)))),
    xk_flt w (hq _ (xx_ne (w.dfx 17 (by omega)) hd (xx_tn (fun h => by omega)))),
    xk_rdr w (hq _ (xx_ne (w.dfx 16 (by omega)) hd (xx_tn (fun h => by omega)))) (congrFun (mm_up_k (by first | omega | (intro h; subst h; first | exact absurd hr (by decide) | exact absurd hk (by decide)))) 0) (congrFun (mm_up_k (by first | omega | (intro h; subst h; first | exact absurd hr (by decide) | exact absurd hk (by decide)))) 0),
    xk_txa w (hq _ (xx_ne (w.dfx 18 (by omega)) hd (xx_tn (fun h => by omega)))),
    fun i2 hi2 => by
      by_cases y : i2 = i
      · subst y
        refine hA.to fun q _ => ?_
        show (if q = u then Value.int v else if q = 0 then Value.ref (o + (42 + 3 * i2)) else if q = 1 then .ref (o + (43 + 3 * i2)) else if q < 6 then .int (X (88 + q) i2) else .ref o) = (if q = 0 then Value.ref (o + (42 + 3 * i2)) else if q = 1 then .ref (o + (43 + 3 * i2)) else if q < 6 then .int (mm_up X (88 + u) i2 v (88 + q) i2) else .ref o)
        by_cases z : q = u
        · subst z
          rw [if_pos rfl, if_neg (by omega), if_neg (by omega), if_pos (by omega), mm_up_s]
        · rw [if_neg z, mm_up_k (by omega)]
      · refine ((w.txt i2 hi2).kept (hq _ (xx_ne (w.dfx (41 + 3 * i2) (by omega)) hd (xx_tn (fun h => by omega))))).to fun q _ => ?_
        split
        · rfl
        · split
          · rfl
          · split
            · by_cases z : 88 + q = 88 + u
              · rw [z, mm_up_n y]
              · rw [mm_up_k z]
            · rfl,
    xk_tst w (fun i hi => ⟨(hq _ (xx_ne (w.dfx (42 + 3 * i) (by omega)) hd (xx_tn (fun h => by omega)))), (hq _ (xx_ne (w.dfx (43 + 3 * i) (by omega)) hd (xx_tn (fun h => by omega))))⟩) (fun q z => hq q (xx_ne z hd (xx_tn (fun h => by omega)))) (mm_up_k (by first | omega | (intro h; subst h; first | exact absurd hr (by decide) | exact absurd hk (by decide)))) (xg_le.rf X D),
    xk_bdy w (fun b2 hb => hq _ (xx_ne (w.dby b2 0 hb (Or.inl rfl)) hd (xx_tn (fun h => by omega)))) (fun k2 h1 h2 => mm_up_k (by have := h2.1; have := h2.2; omega)) (congrFun (mm_up_k (by first | omega | (intro h; subst h; first | exact absurd hr (by decide) | exact absurd hk (by decide)))) 0) (xg_le.rf X D),
    xk_knd w (mm_up_k (by first | omega | (intro h; subst h; first | exact absurd hr (by decide) | exact absurd hk (by decide)))) (congrFun (mm_up_k (by first | omega | (intro h; subst h; first | exact absurd hr (by decide) | exact absurd hk (by decide)))) 0),
    xk_har w (fun b2 j2 hb q1 q2 hj => hq _ (xx_ne (w.dby b2 (1 + j2) hb (Or.inr ⟨q1, q2, by omega⟩)) hd (xx_tn (fun h => by omega)))) (fun k2 h1 h2 => mm_up_k (by have := h2.1; have := h2.2; omega)) (congrFun (mm_up_k (by first | omega | (intro h; subst h; first | exact absurd hr (by decide) | exact absurd hk (by decide)))) 0) (xg_le.rf X D),
    xk_row w (fun s2 h1 h2 => hq _ (xx_ne (w.row s2 h1 h2).2 hd (xx_tn (fun h => by omega)))) (mm_up_k (by first | omega | (intro h; subst h; first | exact absurd hr (by decide) | exact absurd hk (by decide)))) (mm_up_k (by first | omega | (intro h; subst h; first | exact absurd hr (by decide) | exact absurd hk (by decide)))) (mm_up_k (by first | omega | (intro h; subst h; first | exact absurd hr (by decide) | exact absurd hk (by decide)))) rfl (xg_le.rf X D),
    w.dfx,
    xk_dby w (mm_up_k (by first | omega | (intro h; subst h; first | exact absurd hr (by decide) | exact absurd hk (by decide)))) (congrFun (mm_up_k (by first | omega | (intro h; subst h; first | exact absurd hr (by decide) | exact absurd hk (by decide)))) 0) (xg_le.rf X D),
    fun q hz => w.dnw q (by rw [← hs]; exact hz),
    w.din,
    ⟨w.lim.1, by rw [hs]; exact w.lim.2⟩,
    xk_rng w (congrFun (mm_up_k (by first | omega | (intro h; subst h; first | exact absurd hr (by decide) | exact absurd hk (by decide)))) 0) (congrFun (mm_up_k (by first | omega | (intro h; subst h; first | exact absurd hr (by decide) | exact absurd hk (by decide)))) 0) (mm_up_k (by first | omega | (intro h; subst h; first | exact absurd hr (by decide) | exact absurd hk (by decide)))) (mm_up_k (by first | omega | (intro h; subst h; first | exact absurd hr (by decide) | exact absurd hk (by decide)))),
    xk_cap w (congrFun (mm_up_k (by first | omega | (intro h; subst h; first | exact absurd hr (by decide) | exact absurd hk (by decide)))) 0) (mm_up_k (by first | omega | (intro h; subst h; first | exact absurd hr (by decide) | exact absurd hk (by decide)))),
    xk_siz w (mm_up_k (by first | omega | (intro h; subst h; first | exact absurd hr (by decide) | exact absurd hk (by decide))))⟩
theorem xx_W.lput (w : xx_W G o d0 X E D H) {i : Nat} {v : Int32} (hi : i < 16) (hv0 : 0 ≤ v.toInt) (hv1 : v.toInt ≤ 160) (hv : ∃ f g : Nat → Value, wm_A G (o + (42 + 3 * i)) 11 160 f H ∧ wm_A G (o + (43 + 3 * i)) 11 160 g H ∧ ∀ k : Nat, k < v.toInt.toNat → xt_op G o D H (xg_l D i k).1 (f k) ∧ xt_op G o D H (some (xg_l D i k).2) (g k)) (hA : wm_O G (o + (41 + 3 * i)) 3 7 (updV (fun q => if q = 0 then Value.ref (o + (42 + 3 * i)) else if q = 1 then .ref (o + (43 + 3 * i)) else if q < 6 then .int (X (88 + q) i) else .ref o) 2 (.int v)) H1) (hs : H1.size = H.size) (hq : ∀ q : Nat, q ≠ (o + (41 + 3 * i)) → H1[q]? = H[q]?) : xx_W G o d0 (mm_up X 90 i v) E D H1 := by
  have hd : xg_d D ((o + (41 + 3 * i))) = (1, 41 + 3 * i) := (w.dfx (41 + 3 * i) (by omega))
  have hk : xx_arr 90 = none := by decide
  have hr : True := trivial
  exact ⟨xk_main w (hq _ (xx_ne (w.dfx 0 (by omega)) hd (xx_tn (fun h => by omega)))) (fun k2 q1 q2 q3 => congrFun (mm_up_k (by first | omega | (intro h; subst h; exact absurd q2 (by decide)))) 0) (xg_le.rf X D),
    xk_arr w (fun k2 j2 t2 n2 h2 => hq _ (xx_ne (w.dfx j2 (by have := (xx_arrj h2).1; omega)) hd (xx_tn (fun h => by have := (xx_arrj h2).1; omega)))) (fun k2 h2 => mm_up_k (fun h => by first | exact h2 (by rw [h]; first | exact hk | decide) | (have := (xx_arrj hk2).2; omega))),
    xk_bod w (hq _ (xx_ne (w.dfx 3 (by omega)) hd (xx_tn (fun h => by omega)))) (congrFun (mm_up_k (by first | omega | (intro h; subst h; first | exact absurd hr (by decide) | exact absurd hk (by decide)))) 0) (xg_le.rf X D),
    xk_wrk w (hq _ (xx_ne (w.dfx 6 (by omega)) hd (xx_tn (fun h => by omega)))) (mm_up_k (by first | omega | (intro h; subst h; first | exact absurd hr (by decide) | exact absurd hk (by decide)))) (xg_le.rf X D),
    xk_shv w (hq _ (xx_ne (w.dfx 40 (by omega)) hd (xx_tn (fun h => by omega)))) (mm_up_k (by first | omega | (intro h; subst h; first | exact absurd hr (by decide) | exact absurd hk (by decide)))) (xg_le.rf X D),
    xk_trn w (hq _ (xx_ne (w.dfx 8 (by omega)) hd (xx_tn (fun h => by omega)))),
    xk_flt w (hq _ (xx_ne (w.dfx 17 (by omega)) hd (xx_tn (fun h => by omega)))),
    xk_rdr w (hq _ (xx_ne (w.dfx 16 (by omega)) hd (xx_tn (fun h => by omega)))) (congrFun (mm_up_k (by first | omega | (intro h; subst h; first | exact absurd hr (by decide) | exact absurd hk (by decide)))) 0) (congrFun (mm_up_k (by first | omega | (intro h; subst h; first | exact absurd hr (by decide) | exact absurd hk (by decide)))) 0),
    xk_txa w (hq _ (xx_ne (w.dfx 18 (by omega)) hd (xx_tn (fun h => by omega)))),
    fun i2 hi2 => by
      by_cases y : i2 = i
      · subst y
        refine hA.to fun q _ => ?_
        show (if q = 2 then Value.int v else if q = 0 then Value.ref (o + (42 + 3 * i2)) else if q = 1 then .ref (o + (43 + 3 * i2)) else if q < 6 then .int (X (88 + q) i2) else .ref o) = (if q = 0 then Value.ref (o + (42 + 3 * i2)) else if q = 1 then .ref (o + (43 + 3 * i2)) else if q < 6 then .int (mm_up X 90 i2 v (88 + q) i2) else .ref o)
        by_cases z : q = 2
        · subst z
          rw [if_pos rfl, if_neg (by omega), if_neg (by omega), if_pos (by omega), mm_up_s]
        · rw [if_neg z, mm_up_k (by omega)]
      · refine ((w.txt i2 hi2).kept (hq _ (xx_ne (w.dfx (41 + 3 * i2) (by omega)) hd (xx_tn (fun h => by omega))))).to fun q _ => ?_
        split
        · rfl
        · split
          · rfl
          · split
            · by_cases z : 88 + q = 90
              · rw [z, mm_up_n y]
              · rw [mm_up_k z]
            · rfl,
    fun i2 hi2 => by
      have hq4 : ∀ q : Nat, xg_d D q = (4, 0) → H1[q]? = H[q]? := fun q z => hq q (xx_ne z hd (xx_tn (fun h => by omega)))
      have e1 : H1[o + (42 + 3 * i2)]? = H[o + (42 + 3 * i2)]? := hq _ (xx_ne (w.dfx (42 + 3 * i2) (by omega)) hd (xx_tn (fun h => by omega)))
      have e2 : H1[o + (43 + 3 * i2)]? = H[o + (43 + 3 * i2)]? := hq _ (xx_ne (w.dfx (43 + 3 * i2) (by omega)) hd (xx_tn (fun h => by omega)))
      have e : mm_up X 90 i v 90 i2 = if i2 = i then v else X 90 i2 := mm_up_a X 90 i v i2
      by_cases y : i2 = i
      · subst y
        rw [e, if_pos rfl]
        obtain ⟨f, g, h1, h2, h3⟩ := hv
        exact ⟨f, g, h1.kept e1, h2.kept e2, fun k hk => ⟨xt_op_kept hq4 (fun _ z => z) _ _ (h3 k hk).1, xt_op_kept hq4 (fun _ z => z) _ _ (h3 k hk).2⟩⟩
      · rw [e, if_neg y]
        obtain ⟨f, g, h1, h2, h3⟩ := w.tst i2 hi2
        exact ⟨f, g, h1.kept e1, h2.kept e2, fun k hk => ⟨xt_op_kept hq4 (fun _ z => z) _ _ (h3 k hk).1, xt_op_kept hq4 (fun _ z => z) _ _ (h3 k hk).2⟩⟩,
    xk_bdy w (fun b2 hb => hq _ (xx_ne (w.dby b2 0 hb (Or.inl rfl)) hd (xx_tn (fun h => by omega)))) (fun k2 h1 h2 => mm_up_k (by have := h2.1; have := h2.2; omega)) (congrFun (mm_up_k (by first | omega | (intro h; subst h; first | exact absurd hr (by decide) | exact absurd hk (by decide)))) 0) (xg_le.rf X D),
    xk_knd w (mm_up_k (by first | omega | (intro h; subst h; first | exact absurd hr (by decide) | exact absurd hk (by decide)))) (congrFun (mm_up_k (by first | omega | (intro h; subst h; first | exact absurd hr (by decide) | exact absurd hk (by decide)))) 0),
    xk_har w (fun b2 j2 hb q1 q2 hj => hq _ (xx_ne (w.dby b2 (1 + j2) hb (Or.inr ⟨q1, q2, by omega⟩)) hd (xx_tn (fun h => by omega)))) (fun k2 h1 h2 => mm_up_k (by have := h2.1; have := h2.2; omega)) (congrFun (mm_up_k (by first | omega | (intro h; subst h; first | exact absurd hr (by decide) | exact absurd hk (by decide)))) 0) (xg_le.rf X D),
    xk_row w (fun s2 h1 h2 => hq _ (xx_ne (w.row s2 h1 h2).2 hd (xx_tn (fun h => by omega)))) (mm_up_k (by first | omega | (intro h; subst h; first | exact absurd hr (by decide) | exact absurd hk (by decide)))) (mm_up_k (by first | omega | (intro h; subst h; first | exact absurd hr (by decide) | exact absurd hk (by decide)))) (mm_up_k (by first | omega | (intro h; subst h; first | exact absurd hr (by decide) | exact absurd hk (by decide)))) rfl (xg_le.rf X D),
    w.dfx,
    xk_dby w (mm_up_k (by first | omega | (intro h; subst h; first | exact absurd hr (by decide) | exact absurd hk (by decide)))) (congrFun (mm_up_k (by first | omega | (intro h; subst h; first | exact absurd hr (by decide) | exact absurd hk (by decide)))) 0) (xg_le.rf X D),
    fun q hz => w.dnw q (by rw [← hs]; exact hz),
    w.din,
    ⟨w.lim.1, by rw [hs]; exact w.lim.2⟩,
    xk_rng w (congrFun (mm_up_k (by first | omega | (intro h; subst h; first | exact absurd hr (by decide) | exact absurd hk (by decide)))) 0) (congrFun (mm_up_k (by first | omega | (intro h; subst h; first | exact absurd hr (by decide) | exact absurd hk (by decide)))) 0) (mm_up_k (by first | omega | (intro h; subst h; first | exact absurd hr (by decide) | exact absurd hk (by decide)))) (mm_up_k (by first | omega | (intro h; subst h; first | exact absurd hr (by decide) | exact absurd hk (by decide)))),
    ⟨w.cap.1, w.cap.2.1, fun i2 hi2 => by
      show 0 ≤ (mm_up X 90 i v 90 i2).toInt ∧ (mm_up X 90 i v 90 i2).toInt ≤ 160
      rw [mm_up_a]
      split
      · exact ⟨hv0, hv1⟩
      · exact w.cap.2.2 i2 hi2⟩,
    xk_siz w (mm_up_k (by first | omega | (intro h; subst h; first | exact absurd hr (by decide) | exact absurd hk (by decide))))⟩
theorem xx_W.bput (w : xx_W G o d0 X E D H) {b k f : Nat} {v : Int32} (hb : b < xx_n X) (hslot : xx_bq (xx_q X b) k = some (false, f)) (hk0 : k ≠ 0) (hA : wm_O G (xg_b D b) (4 + xx_q X b) (xx_bn.getD (xx_q X b) 0) (updV (xx_BV o D X b (xx_q X b)) k (.int v)) H1) (hs : H1.size = H.size) (hq : ∀ q : Nat, q ≠ (xg_b D b + 0) → H1[q]? = H[q]?) : xx_W G o d0 (mm_up X f b v) E D H1 := by
  have hd : xg_d D ((xg_b D b + 0)) = (2, 5 * b + 0) := (w.dby b 0 hb (Or.inl rfl))
  have hf := xx_bqf2 hslot
  have hk : xx_arr f = none := by unfold xx_arr; rw [List.getD_eq_getElem?_getD, List.getElem?_eq_none (by show 59 ≤ f; omega)]; rfl
  have hr : True := trivial
  exact ⟨xk_main w (hq _ (xx_ne (w.dfx 0 (by omega)) hd (xx_tn (fun h => by omega)))) (fun k2 q1 q2 q3 => congrFun (mm_up_k (by first | omega | (intro h; subst h; exact absurd q2 (by decide)))) 0) (xg_le.rf X D),
    xk_arr w (fun k2 j2 t2 n2 h2 => hq _ (xx_ne (w.dfx j2 (by have := (xx_arrj h2).1; omega)) hd (xx_tn (fun h => by have := (xx_arrj h2).1; omega)))) (fun k2 h2 => mm_up_k (fun h => by first | exact h2 (by rw [h]; first | exact hk | decide) | (have := (xx_arrj hk2).2; omega))),
    xk_bod w (hq _ (xx_ne (w.dfx 3 (by omega)) hd (xx_tn (fun h => by omega)))) (congrFun (mm_up_k (by first | omega | (intro h; subst h; first | exact absurd hr (by decide) | exact absurd hk (by decide)))) 0) (xg_le.rf X D),
    xk_wrk w (hq _ (xx_ne (w.dfx 6 (by omega)) hd (xx_tn (fun h => by omega)))) (mm_up_k (by first | omega | (intro h; subst h; first | exact absurd hr (by decide) | exact absurd hk (by decide)))) (xg_le.rf X D),
    xk_shv w (hq _ (xx_ne (w.dfx 40 (by omega)) hd (xx_tn (fun h => by omega)))) (mm_up_k (by first | omega | (intro h; subst h; first | exact absurd hr (by decide) | exact absurd hk (by decide)))) (xg_le.rf X D),
    xk_trn w (hq _ (xx_ne (w.dfx 8 (by omega)) hd (xx_tn (fun h => by omega)))),
    xk_flt w (hq _ (xx_ne (w.dfx 17 (by omega)) hd (xx_tn (fun h => by omega)))),
    xk_rdr w (hq _ (xx_ne (w.dfx 16 (by omega)) hd (xx_tn (fun h => by omega)))) (congrFun (mm_up_k (by first | omega | (intro h; subst h; first | exact absurd hr (by decide) | exact absurd hk (by decide)))) 0) (congrFun (mm_up_k (by first | omega | (intro h; subst h; first | exact absurd hr (by decide) | exact absurd hk (by decide)))) 0),
    xk_txa w (hq _ (xx_ne (w.dfx 18 (by omega)) hd (xx_tn (fun h => by omega)))),
    xk_txt w (fun i hi => (hq _ (xx_ne (w.dfx (41 + 3 * i) (by omega)) hd (xx_tn (fun h => by omega))))) (fun k2 h1 h2 => (mm_up_k (by first | omega | (intro h; subst h; first | exact absurd hr (by decide) | exact absurd hk (by decide))))),
    xk_tst w (fun i hi => ⟨(hq _ (xx_ne (w.dfx (42 + 3 * i) (by omega)) hd (xx_tn (fun h => by omega)))), (hq _ (xx_ne (w.dfx (43 + 3 * i) (by omega)) hd (xx_tn (fun h => by omega))))⟩) (fun q z => hq q (xx_ne z hd (xx_tn (fun h => by omega)))) (mm_up_k (by first | omega | (intro h; subst h; first | exact absurd hr (by decide) | exact absurd hk (by decide)))) (xg_le.rf X D),
    by
      have e : ∀ b2 : Nat, xx_q (mm_up X f b v) b2 = xx_q X b2 := fun b2 => by unfold xx_q; rw [mm_up_k (by omega)]
      intro b2 hb2
      rw [e]
      have hn : xx_n (mm_up X f b v) = xx_n X := by unfold xx_n; rw [mm_up_k (by omega)]
      rw [hn] at hb2
      by_cases y : b2 = b
      · subst y
        refine hA.to fun k2 _ => ?_
        show (if k2 = k then Value.int v else xx_BV o D X b2 (xx_q X b2) k2) = xx_BV o D (mm_up X f b2 v) b2 (xx_q X b2) k2
        by_cases z : k2 = k
        · subst z
          rw [if_pos rfl]
          unfold xx_BV
          rw [if_neg hk0, hslot]
          show Value.int v = Value.int (mm_up X f b2 v f b2)
          rw [mm_up_s]
        · rw [if_neg z]
          unfold xx_BV
          split
          · rfl
          · split
            · rename_i f2 hf2
              rw [mm_up_k (by intro h; subst h; exact z (xx_binj hf2 hslot))]
            · rfl
            · rfl
      · refine ((w.bdy b2 hb2).kept (hq _ (xx_ne (w.dby b2 0 hb2 (Or.inl rfl)) hd (xx_tn (fun h => by omega))))).to fun k2 _ => ?_
        unfold xx_BV
        split
        · rfl
        · split
          · rename_i f2 hf2
            by_cases z : f2 = f
            · rw [z, mm_up_n y]
            · rw [mm_up_k z]
          · rfl
          · rfl,
    xk_knd w (mm_up_k (by first | omega | (intro h; subst h; first | exact absurd hr (by decide) | exact absurd hk (by decide)))) (congrFun (mm_up_k (by first | omega | (intro h; subst h; first | exact absurd hr (by decide) | exact absurd hk (by decide)))) 0),
    fun b2 hb2 q1 q2 j2 hj2 => by
      have e : xx_q (mm_up X f b v) b2 = xx_q X b2 := by unfold xx_q; rw [mm_up_k (by omega)]
      rw [e] at q1 q2
      have hn : xx_n (mm_up X f b v) = xx_n X := by unfold xx_n; rw [mm_up_k (by omega)]
      rw [hn] at hb2
      have hm := xx_hfn j2 hj2
      refine ((w.har b2 hb2 q1 q2 j2 hj2).kept (hq _ (xx_ne (w.dby b2 (1 + j2) hb2 (Or.inr ⟨q1, q2, by omega⟩)) hd (xx_tn (fun h => by omega))))).to fun y _ => ?_
      unfold xx_HA
      rw [mm_up_k (by omega)],
    xk_row w (fun s2 h1 h2 => hq _ (xx_ne (w.row s2 h1 h2).2 hd (xx_tn (fun h => by omega)))) (mm_up_k (by first | omega | (intro h; subst h; first | exact absurd hr (by decide) | exact absurd hk (by decide)))) (mm_up_k (by first | omega | (intro h; subst h; first | exact absurd hr (by decide) | exact absurd hk (by decide)))) (mm_up_k (by first | omega | (intro h; subst h; first | exact absurd hr (by decide) | exact absurd hk (by decide)))) rfl (xg_le.rf X D),
    w.dfx,
    xk_dby w (mm_up_k (by first | omega | (intro h; subst h; first | exact absurd hr (by decide) | exact absurd hk (by decide)))) (congrFun (mm_up_k (by first | omega | (intro h; subst h; first | exact absurd hr (by decide) | exact absurd hk (by decide)))) 0) (xg_le.rf X D),
    fun q hz => w.dnw q (by rw [← hs]; exact hz),
    w.din,
    ⟨w.lim.1, by rw [hs]; exact w.lim.2⟩,
    xk_rng w (congrFun (mm_up_k (by first | omega | (intro h; subst h; first | exact absurd hr (by decide) | exact absurd hk (by decide)))) 0) (congrFun (mm_up_k (by first | omega | (intro h; subst h; first | exact absurd hr (by decide) | exact absurd hk (by decide)))) 0) (mm_up_k (by first | omega | (intro h; subst h; first | exact absurd hr (by decide) | exact absurd hk (by decide)))) (mm_up_k (by first | omega | (intro h; subst h; first | exact absurd hr (by decide) | exact absurd hk (by decide)))),
    xk_cap w (congrFun (mm_up_k (by first | omega | (intro h; subst h; first | exact absurd hr (by decide) | exact absurd hk (by decide)))) 0) (mm_up_k (by first | omega | (intro h; subst h; first | exact absurd hr (by decide) | exact absurd hk (by decide)))),
    xk_siz w (mm_up_k (by first | omega | (intro h; subst h; first | exact absurd hr (by decide) | exact absurd hk (by decide))))⟩
theorem xx_W.hput (w : xx_W G o d0 X E D H) {b j y : Nat} {v : Int32} (hb : b < xx_n X) (hq1 : 2 ≤ xx_q X b) (hq2 : xx_q X b ≤ 5) (hj : j < 4) (hy : y < 61) (hA : wm_A G (xg_b D b + (1 + j)) (if j = 3 then 1 else 0) 61 (updV (xx_HA X b (xx_hf.getD j 0)) y (.int v)) H1) (hs : H1.size = H.size) (hq : ∀ q : Nat, q ≠ (xg_b D b + (1 + j)) → H1[q]? = H[q]?) : xx_W G o d0 (mm_up X (xx_hf.getD j 0) (61 * b + y) v) E D H1 := by
  have hd : xg_d D ((xg_b D b + (1 + j))) = (2, 5 * b + (1 + j)) := (w.dby b (1 + j) hb (Or.inr ⟨hq1, hq2, by omega⟩))
  have hf := xx_hfn j hj
  have hk : xx_arr (xx_hf.getD j 0) = none := by unfold xx_arr; rw [List.getD_eq_getElem?_getD, List.getElem?_eq_none (by show 59 ≤ xx_hf.getD j 0; omega)]; rfl
  have hr : True := trivial
  exact ⟨xk_main w (hq _ (xx_ne (w.dfx 0 (by omega)) hd (xx_tn (fun h => by omega)))) (fun k2 q1 q2 q3 => congrFun (mm_up_k (by first | omega | (intro h; subst h; exact absurd q2 (by decide)))) 0) (xg_le.rf X D),
    xk_arr w (fun k2 j2 t2 n2 h2 => hq _ (xx_ne (w.dfx j2 (by have := (xx_arrj h2).1; omega)) hd (xx_tn (fun h => by have := (xx_arrj h2).1; omega)))) (fun k2 h2 => mm_up_k (fun h => by first | exact h2 (by rw [h]; first | exact hk | decide) | (have := (xx_arrj hk2).2; omega))),
    xk_bod w (hq _ (xx_ne (w.dfx 3 (by omega)) hd (xx_tn (fun h => by omega)))) (congrFun (mm_up_k (by first | omega | (intro h; subst h; first | exact absurd hr (by decide) | exact absurd hk (by decide)))) 0) (xg_le.rf X D),
    xk_wrk w (hq _ (xx_ne (w.dfx 6 (by omega)) hd (xx_tn (fun h => by omega)))) (mm_up_k (by first | omega | (intro h; subst h; first | exact absurd hr (by decide) | exact absurd hk (by decide)))) (xg_le.rf X D),
    xk_shv w (hq _ (xx_ne (w.dfx 40 (by omega)) hd (xx_tn (fun h => by omega)))) (mm_up_k (by first | omega | (intro h; subst h; first | exact absurd hr (by decide) | exact absurd hk (by decide)))) (xg_le.rf X D),
    xk_trn w (hq _ (xx_ne (w.dfx 8 (by omega)) hd (xx_tn (fun h => by omega)))),
    xk_flt w (hq _ (xx_ne (w.dfx 17 (by omega)) hd (xx_tn (fun h => by omega)))),
    xk_rdr w (hq _ (xx_ne (w.dfx 16 (by omega)) hd (xx_tn (fun h => by omega)))) (congrFun (mm_up_k (by first | omega | (intro h; subst h; first | exact absurd hr (by decide) | exact absurd hk (by decide)))) 0) (congrFun (mm_up_k (by first | omega | (intro h; subst h; first | exact absurd hr (by decide) | exact absurd hk (by decide)))) 0),
    xk_txa w (hq _ (xx_ne (w.dfx 18 (by omega)) hd (xx_tn (fun h => by omega)))),
    xk_txt w (fun i hi => (hq _ (xx_ne (w.dfx (41 + 3 * i) (by omega)) hd (xx_tn (fun h => by omega))))) (fun k2 h1 h2 => (mm_up_k (by first | omega | (intro h; subst h; first | exact absurd hr (by decide) | exact absurd hk (by decide))))),
    xk_tst w (fun i hi => ⟨(hq _ (xx_ne (w.dfx (42 + 3 * i) (by omega)) hd (xx_tn (fun h => by omega)))), (hq _ (xx_ne (w.dfx (43 + 3 * i) (by omega)) hd (xx_tn (fun h => by omega))))⟩) (fun q z => hq q (xx_ne z hd (xx_tn (fun h => by omega)))) (mm_up_k (by first | omega | (intro h; subst h; first | exact absurd hr (by decide) | exact absurd hk (by decide)))) (xg_le.rf X D),
    fun b2 hb2 => by
      have e : xx_q (mm_up X (xx_hf.getD j 0) (61 * b + y) v) b2 = xx_q X b2 := by unfold xx_q; rw [mm_up_k (by omega)]
      have hn : xx_n (mm_up X (xx_hf.getD j 0) (61 * b + y) v) = xx_n X := by unfold xx_n; rw [mm_up_k (by omega)]
      rw [hn] at hb2
      rw [e]
      refine ((w.bdy b2 hb2).kept (hq _ (xx_ne (w.dby b2 0 hb2 (Or.inl rfl)) hd (xx_tn (fun h => by omega))))).to fun k2 _ => ?_
      unfold xx_BV
      split
      · rfl
      · split
        · rename_i f2 hf2
          have := xx_bqf2 hf2
          rw [mm_up_k (by omega)]
        · rfl
        · rfl,
    xk_knd w (mm_up_k (by first | omega | (intro h; subst h; first | exact absurd hr (by decide) | exact absurd hk (by decide)))) (congrFun (mm_up_k (by first | omega | (intro h; subst h; first | exact absurd hr (by decide) | exact absurd hk (by decide)))) 0),
    fun b2 hb2 q1 q2 j2 hj2 => by
      have e : xx_q (mm_up X (xx_hf.getD j 0) (61 * b + y) v) b2 = xx_q X b2 := by unfold xx_q; rw [mm_up_k (by omega)]
      have hn : xx_n (mm_up X (xx_hf.getD j 0) (61 * b + y) v) = xx_n X := by unfold xx_n; rw [mm_up_k (by omega)]
      rw [hn] at hb2
      rw [e] at q1 q2
      by_cases z : b2 = b ∧ j2 = j
      · obtain ⟨z1, z2⟩ := z
        subst z1 z2
        refine hA.to fun y2 _ => ?_
        show (if y2 = y then Value.int v else Value.int (X (xx_hf.getD j2 0) (61 * b2 + y2))) = Value.int (mm_up X (xx_hf.getD j2 0) (61 * b2 + y) v (xx_hf.getD j2 0) (61 * b2 + y2))
        rw [mm_up_a]
        by_cases t : y2 = y
        · rw [if_pos t, if_pos (by omega)]
        · rw [if_neg t, if_neg (by omega)]
      · refine ((w.har b2 hb2 q1 q2 j2 hj2).kept (hq _ (xx_ne (w.dby b2 (1 + j2) hb2 (Or.inr ⟨q1, q2, by omega⟩)) hd (xx_tn (fun h => by omega))))).to fun y2 hy2 => ?_
        unfold xx_HA
        by_cases t : xx_hf.getD j2 0 = xx_hf.getD j 0
        · have t2 := xx_hfi j2 hj2 j hj t
          rw [t, mm_up_n (by omega)]
        · rw [mm_up_k t],
    xk_row w (fun s2 h1 h2 => hq _ (xx_ne (w.row s2 h1 h2).2 hd (xx_tn (fun h => by omega)))) (mm_up_k (by first | omega | (intro h; subst h; first | exact absurd hr (by decide) | exact absurd hk (by decide)))) (mm_up_k (by first | omega | (intro h; subst h; first | exact absurd hr (by decide) | exact absurd hk (by decide)))) (mm_up_k (by first | omega | (intro h; subst h; first | exact absurd hr (by decide) | exact absurd hk (by decide)))) rfl (xg_le.rf X D),
    w.dfx,
    xk_dby w (mm_up_k (by first | omega | (intro h; subst h; first | exact absurd hr (by decide) | exact absurd hk (by decide)))) (congrFun (mm_up_k (by first | omega | (intro h; subst h; first | exact absurd hr (by decide) | exact absurd hk (by decide)))) 0) (xg_le.rf X D),
    fun q hz => w.dnw q (by rw [← hs]; exact hz),
    w.din,
    ⟨w.lim.1, by rw [hs]; exact w.lim.2⟩,
    xk_rng w (congrFun (mm_up_k (by first | omega | (intro h; subst h; first | exact absurd hr (by decide) | exact absurd hk (by decide)))) 0) (congrFun (mm_up_k (by first | omega | (intro h; subst h; first | exact absurd hr (by decide) | exact absurd hk (by decide)))) 0) (mm_up_k (by first | omega | (intro h; subst h; first | exact absurd hr (by decide) | exact absurd hk (by decide)))) (mm_up_k (by first | omega | (intro h; subst h; first | exact absurd hr (by decide) | exact absurd hk (by decide)))),
    xk_cap w (congrFun (mm_up_k (by first | omega | (intro h; subst h; first | exact absurd hr (by decide) | exact absurd hk (by decide)))) 0) (mm_up_k (by first | omega | (intro h; subst h; first | exact absurd hr (by decide) | exact absurd hk (by decide)))),
    xk_siz w (mm_up_k (by first | omega | (intro h; subst h; first | exact absurd hr (by decide) | exact absurd hk (by decide))))⟩
theorem xx_W.rput (w : xx_W G o d0 X E D H) {s i : Nat} {e : Int64} {v : Int32} (h6 : s < 6) (hz : (X 58 s).toInt < -1) (hi : i < 60) (hA : wm_A G (xg_r D s) (xx_rt (-2 - (X 58 s).toInt).toNat) (X 100 s).toInt.toNat (updV (fun y => xx_el (-2 - (X 58 s).toInt).toNat (E 0 (60 * s + y)) (X 101 (60 * s + y))) i (xx_el (-2 - (X 58 s).toInt).toNat e v)) H1) (hs : H1.size = H.size) (hq : ∀ q : Nat, q ≠ (xg_r D s) → H1[q]? = H[q]?) : xx_W G o d0 (mm_up X 101 (60 * s + i) v) (mm_ue E 0 (60 * s + i) e) D H1 := by
  have hd : xg_d D ((xg_r D s)) = (3, s) := ((w.row s h6 hz).2)
  have hk : xx_arr 101 = none := by decide
  have hr : True := trivial
  exact ⟨xk_main w (hq _ (xx_ne (w.dfx 0 (by omega)) hd (xx_tn (fun h => by omega)))) (fun k2 q1 q2 q3 => congrFun (mm_up_k (by first | omega | (intro h; subst h; exact absurd q2 (by decide)))) 0) (xg_le.rf X D),
    xk_arr w (fun k2 j2 t2 n2 h2 => hq _ (xx_ne (w.dfx j2 (by have := (xx_arrj h2).1; omega)) hd (xx_tn (fun h => by have := (xx_arrj h2).1; omega)))) (fun k2 h2 => mm_up_k (fun h => by first | exact h2 (by rw [h]; first | exact hk | decide) | (have := (xx_arrj hk2).2; omega))),
    xk_bod w (hq _ (xx_ne (w.dfx 3 (by omega)) hd (xx_tn (fun h => by omega)))) (congrFun (mm_up_k (by first | omega | (intro h; subst h; first | exact absurd hr (by decide) | exact absurd hk (by decide)))) 0) (xg_le.rf X D),
    xk_wrk w (hq _ (xx_ne (w.dfx 6 (by omega)) hd (xx_tn (fun h => by omega)))) (mm_up_k (by first | omega | (intro h; subst h; first | exact absurd hr (by decide) | exact absurd hk (by decide)))) (xg_le.rf X D),
    xk_shv w (hq _ (xx_ne (w.dfx 40 (by omega)) hd (xx_tn (fun h => by omega)))) (mm_up_k (by first | omega | (intro h; subst h; first | exact absurd hr (by decide) | exact absurd hk (by decide)))) (xg_le.rf X D),
    xk_trn w (hq _ (xx_ne (w.dfx 8 (by omega)) hd (xx_tn (fun h => by omega)))),
    xk_flt w (hq _ (xx_ne (w.dfx 17 (by omega)) hd (xx_tn (fun h => by omega)))),
    xk_rdr w (hq _ (xx_ne (w.dfx 16 (by omega)) hd (xx_tn (fun h => by omega)))) (congrFun (mm_up_k (by first | omega | (intro h; subst h; first | exact absurd hr (by decide) | exact absurd hk (by decide)))) 0) (congrFun (mm_up_k (by first | omega | (intro h; subst h; first | exact absurd hr (by decide) | exact absurd hk (by decide)))) 0),
    xk_txa w (hq _ (xx_ne (w.dfx 18 (by omega)) hd (xx_tn (fun h => by omega)))),
    xk_txt w (fun i hi => (hq _ (xx_ne (w.dfx (41 + 3 * i) (by omega)) hd (xx_tn (fun h => by omega))))) (fun k2 h1 h2 => (mm_up_k (by first | omega | (intro h; subst h; first | exact absurd hr (by decide) | exact absurd hk (by decide))))),
    xk_tst w (fun i hi => ⟨(hq _ (xx_ne (w.dfx (42 + 3 * i) (by omega)) hd (xx_tn (fun h => by omega)))), (hq _ (xx_ne (w.dfx (43 + 3 * i) (by omega)) hd (xx_tn (fun h => by omega))))⟩) (fun q z => hq q (xx_ne z hd (xx_tn (fun h => by omega)))) (mm_up_k (by first | omega | (intro h; subst h; first | exact absurd hr (by decide) | exact absurd hk (by decide)))) (xg_le.rf X D),
    xk_bdy w (fun b2 hb => hq _ (xx_ne (w.dby b2 0 hb (Or.inl rfl)) hd (xx_tn (fun h => by omega)))) (fun k2 h1 h2 => mm_up_k (by have := h2.1; have := h2.2; omega)) (congrFun (mm_up_k (by first | omega | (intro h; subst h; first | exact absurd hr (by decide) | exact absurd hk (by decide)))) 0) (xg_le.rf X D),
    xk_knd w (mm_up_k (by first | omega | (intro h; subst h; first | exact absurd hr (by decide) | exact absurd hk (by decide)))) (congrFun (mm_up_k (by first | omega | (intro h; subst h; first | exact absurd hr (by decide) | exact absurd hk (by decide)))) 0),
    xk_har w (fun b2 j2 hb q1 q2 hj => hq _ (xx_ne (w.dby b2 (1 + j2) hb (Or.inr ⟨q1, q2, by omega⟩)) hd (xx_tn (fun h => by omega)))) (fun k2 h1 h2 => mm_up_k (by have := h2.1; have := h2.2; omega)) (congrFun (mm_up_k (by first | omega | (intro h; subst h; first | exact absurd hr (by decide) | exact absurd hk (by decide)))) 0) (xg_le.rf X D),
    fun s2 h2 hz2 => by
      have hb := w.siz s2 h2
      obtain ⟨r1, r2⟩ := w.row s2 h2 hz2
      refine ⟨?_, r2⟩
      by_cases t : s2 = s
      · subst t
        refine hA.to fun y hy => ?_
        show (if y = i then xx_el _ e v else _) = xx_el _ (mm_ue E 0 (60 * s2 + i) e 0 (60 * s2 + y)) (mm_up X 101 (60 * s2 + i) v 101 (60 * s2 + y))
        rw [mm_ue_a, mm_up_a]
        by_cases u : y = i
        · rw [if_pos u, if_pos (by omega), if_pos (by omega)]; rfl
        · rw [if_neg u, if_neg (by omega), if_neg (by omega)]; rfl
      · refine (r1.kept (hq _ (xx_ne r2 hd (xx_tn (fun h => by omega))))).to fun y hy => ?_
        have hy2 : y < (X 100 s2).toInt.toNat := hy
        rw [mm_ue_a, mm_up_a, if_neg (by omega), if_neg (by omega)]
        rfl,
    w.dfx,
    xk_dby w (mm_up_k (by first | omega | (intro h; subst h; first | exact absurd hr (by decide) | exact absurd hk (by decide)))) (congrFun (mm_up_k (by first | omega | (intro h; subst h; first | exact absurd hr (by decide) | exact absurd hk (by decide)))) 0) (xg_le.rf X D),
    fun q hz => w.dnw q (by rw [← hs]; exact hz),
    w.din,
    ⟨w.lim.1, by rw [hs]; exact w.lim.2⟩,
    xk_rng w (congrFun (mm_up_k (by first | omega | (intro h; subst h; first | exact absurd hr (by decide) | exact absurd hk (by decide)))) 0) (congrFun (mm_up_k (by first | omega | (intro h; subst h; first | exact absurd hr (by decide) | exact absurd hk (by decide)))) 0) (mm_up_k (by first | omega | (intro h; subst h; first | exact absurd hr (by decide) | exact absurd hk (by decide)))) (mm_up_k (by first | omega | (intro h; subst h; first | exact absurd hr (by decide) | exact absurd hk (by decide)))),
    xk_cap w (congrFun (mm_up_k (by first | omega | (intro h; subst h; first | exact absurd hr (by decide) | exact absurd hk (by decide)))) 0) (mm_up_k (by first | omega | (intro h; subst h; first | exact absurd hr (by decide) | exact absurd hk (by decide)))),
    xk_siz w (mm_up_k (by first | omega | (intro h; subst h; first | exact absurd hr (by decide) | exact absurd hk (by decide))))⟩
theorem xx_W.tsp (w : xx_W G o d0 X E D H) {i k : Nat} {f : Nat → Value} {u : Value} (hi : i < 16) (hk : (X 90 i).toInt.toNat ≤ k) (hf : wm_A G (o + (42 + 3 * i)) 11 160 f H) (hA : wm_A G (o + (42 + 3 * i)) 11 160 (updV f k u) H1) (hs : H1.size = H.size) (hq : ∀ q : Nat, q ≠ (o + (42 + 3 * i)) → H1[q]? = H[q]?) : xx_W G o d0 X E D H1 := by
  have hd : xg_d D ((o + (42 + 3 * i))) = (1, 42 + 3 * i) := (w.dfx (42 + 3 * i) (by omega))
  exact ⟨xk_main w (hq _ (xx_ne (w.dfx 0 (by omega)) hd (xx_tn (fun h => by omega)))) (fun _ _ _ _ => rfl) (xg_le.rf X D),
    xk_arr w (fun k2 j2 t2 n2 h2 => hq _ (xx_ne (w.dfx j2 (by have := (xx_arrj h2).1; omega)) hd (xx_tn (fun h => by have := (xx_arrj h2).1; omega)))) (fun _ _ => rfl),
    xk_bod w (hq _ (xx_ne (w.dfx 3 (by omega)) hd (xx_tn (fun h => by omega)))) rfl (xg_le.rf X D),
    xk_wrk w (hq _ (xx_ne (w.dfx 6 (by omega)) hd (xx_tn (fun h => by omega)))) rfl (xg_le.rf X D),
    xk_shv w (hq _ (xx_ne (w.dfx 40 (by omega)) hd (xx_tn (fun h => by omega)))) rfl (xg_le.rf X D),
    xk_trn w (hq _ (xx_ne (w.dfx 8 (by omega)) hd (xx_tn (fun h => by omega)))),
    xk_flt w (hq _ (xx_ne (w.dfx 17 (by omega)) hd (xx_tn (fun h => by omega)))),
    xk_rdr w (hq _ (xx_ne (w.dfx 16 (by omega)) hd (xx_tn (fun h => by omega)))) rfl rfl,
    xk_txa w (hq _ (xx_ne (w.dfx 18 (by omega)) hd (xx_tn (fun h => by omega)))),
    xk_txt w (fun i2 hi2 => (hq _ (xx_ne (w.dfx (41 + 3 * i2) (by omega)) hd (xx_tn (fun h => by omega))))) (fun _ _ _ => rfl),
    fun i2 hi2 => by
      have hq4 : ∀ q : Nat, xg_d D q = (4, 0) → H1[q]? = H[q]? := fun q z => hq q (xx_ne z hd (xx_tn (fun h => by omega)))
      have e2 : H1[o + (43 + 3 * i2)]? = H[o + (43 + 3 * i2)]? := hq _ (xx_ne (w.dfx (43 + 3 * i2) (by omega)) hd (xx_tn (fun h => by omega)))
      obtain ⟨f2, g2, h1, h2, h3⟩ := w.tst i2 hi2
      have kp : ∀ y : Nat, y < (X 90 i2).toInt.toNat → xt_op G o D H1 (xg_l D i2 y).1 (f2 y) ∧ xt_op G o D H1 (some (xg_l D i2 y).2) (g2 y) := fun y hy => ⟨xt_op_kept hq4 (fun _ z => z) _ _ (h3 y hy).1, xt_op_kept hq4 (fun _ z => z) _ _ (h3 y hy).2⟩
      by_cases t : i2 = i
      · subst t
        have hcap := (w.cap.2.2 i2 hi2).2
        have un := (h1).uniq hf
        refine ⟨updV f k u, g2, hA, h2.kept e2, fun y hy => ?_⟩
        have hy160 : y < 160 := by omega
        have := kp y hy
        rw [show updV f k u y = f y from if_neg (by omega), ← un y hy160]
        exact this
      · have e1 : H1[o + (42 + 3 * i2)]? = H[o + (42 + 3 * i2)]? := hq _ (xx_ne (w.dfx (42 + 3 * i2) (by omega)) hd (xx_tn (fun h => by omega)))
        exact ⟨f2, g2, h1.kept e1, h2.kept e2, kp⟩,
    xk_bdy w (fun b2 hb => hq _ (xx_ne (w.dby b2 0 hb (Or.inl rfl)) hd (xx_tn (fun h => by omega)))) (fun _ _ _ => rfl) rfl (xg_le.rf X D),
    xk_knd w rfl rfl,
    xk_har w (fun b2 j2 hb q1 q2 hj => hq _ (xx_ne (w.dby b2 (1 + j2) hb (Or.inr ⟨q1, q2, by omega⟩)) hd (xx_tn (fun h => by omega)))) (fun _ _ _ => rfl) rfl (xg_le.rf X D),
    xk_row w (fun s2 h1 h2 => hq _ (xx_ne (w.row s2 h1 h2).2 hd (xx_tn (fun h => by omega)))) rfl rfl rfl rfl (xg_le.rf X D),
    w.dfx,
    w.dby,
    fun q hz => w.dnw q (by rw [← hs]; exact hz),
    w.din,
    ⟨w.lim.1, by rw [hs]; exact w.lim.2⟩,
    w.rng,
    w.cap,
    w.siz⟩
theorem xx_W.gvp (w : xx_W G o d0 X E D H) {i k : Nat} {f : Nat → Value} {u : Value} (hi : i < 16) (hk : (X 90 i).toInt.toNat ≤ k) (hf : wm_A G (o + (43 + 3 * i)) 11 160 f H) (hA : wm_A G (o + (43 + 3 * i)) 11 160 (updV f k u) H1) (hs : H1.size = H.size) (hq : ∀ q : Nat, q ≠ (o + (43 + 3 * i)) → H1[q]? = H[q]?) : xx_W G o d0 X E D H1 := by
  have hd : xg_d D ((o + (43 + 3 * i))) = (1, 43 + 3 * i) := (w.dfx (43 + 3 * i) (by omega))
  exact ⟨xk_main w (hq _ (xx_ne (w.dfx 0 (by omega)) hd (xx_tn (fun h => by omega)))) (fun _ _ _ _ => rfl) (xg_le.rf X D),
    xk_arr w (fun k2 j2 t2 n2 h2 => hq _ (xx_ne (w.dfx j2 (by have := (xx_arrj h2).1; omega)) hd (xx_tn (fun h => by have := (xx_arrj h2).1; omega)))) (fun _ _ => rfl),
    xk_bod w (hq _ (xx_ne (w.dfx 3 (by omega)) hd (xx_tn (fun h => by omega)))) rfl (xg_le.rf X D),
    xk_wrk w (hq _ (xx_ne (w.dfx 6 (by omega)) hd (xx_tn (fun h => by omega)))) rfl (xg_le.rf X D),
    xk_shv w (hq _ (xx_ne (w.dfx 40 (by omega)) hd (xx_tn (fun h => by omega)))) rfl (xg_le.rf X D),
    xk_trn w (hq _ (xx_ne (w.dfx 8 (by omega)) hd (xx_tn (fun h => by omega)))),
    xk_flt w (hq _ (xx_ne (w.dfx 17 (by omega)) hd (xx_tn (fun h => by omega)))),
    xk_rdr w (hq _ (xx_ne (w.dfx 16 (by omega)) hd (xx_tn (fun h => by omega)))) rfl rfl,
    xk_txa w (hq _ (xx_ne (w.dfx 18 (by omega)) hd (xx_tn (fun h => by omega)))),
    xk_txt w (fun i2 hi2 => (hq _ (xx_ne (w.dfx (41 + 3 * i2) (by omega)) hd (xx_tn (fun h => by omega))))) (fun _ _ _ => rfl),
    fun i2 hi2 => by
      have hq4 : ∀ q : Nat, xg_d D q = (4, 0) → H1[q]? = H[q]? := fun q z => hq q (xx_ne z hd (xx_tn (fun h => by omega)))
      have e2 : H1[o + (42 + 3 * i2)]? = H[o + (42 + 3 * i2)]? := hq _ (xx_ne (w.dfx (42 + 3 * i2) (by omega)) hd (xx_tn (fun h => by omega)))
      obtain ⟨f2, g2, h1, h2, h3⟩ := w.tst i2 hi2
      have kp : ∀ y : Nat, y < (X 90 i2).toInt.toNat → xt_op G o D H1 (xg_l D i2 y).1 (f2 y) ∧ xt_op G o D H1 (some (xg_l D i2 y).2) (g2 y) := fun y hy => ⟨xt_op_kept hq4 (fun _ z => z) _ _ (h3 y hy).1, xt_op_kept hq4 (fun _ z => z) _ _ (h3 y hy).2⟩
      by_cases t : i2 = i
      · subst t
        have hcap := (w.cap.2.2 i2 hi2).2
        have un := (h2).uniq hf
        refine ⟨f2, updV f k u, h1.kept e2, hA, fun y hy => ?_⟩
        have hy160 : y < 160 := by omega
        have := kp y hy
        rw [show updV f k u y = f y from if_neg (by omega), ← un y hy160]
        exact this
      · have e1 : H1[o + (43 + 3 * i2)]? = H[o + (43 + 3 * i2)]? := hq _ (xx_ne (w.dfx (43 + 3 * i2) (by omega)) hd (xx_tn (fun h => by omega)))
        exact ⟨f2, g2, h1.kept e2, h2.kept e1, kp⟩,
    xk_bdy w (fun b2 hb => hq _ (xx_ne (w.dby b2 0 hb (Or.inl rfl)) hd (xx_tn (fun h => by omega)))) (fun _ _ _ => rfl) rfl (xg_le.rf X D),
    xk_knd w rfl rfl,
    xk_har w (fun b2 j2 hb q1 q2 hj => hq _ (xx_ne (w.dby b2 (1 + j2) hb (Or.inr ⟨q1, q2, by omega⟩)) hd (xx_tn (fun h => by omega)))) (fun _ _ _ => rfl) rfl (xg_le.rf X D),
    xk_row w (fun s2 h1 h2 => hq _ (xx_ne (w.row s2 h1 h2).2 hd (xx_tn (fun h => by omega)))) rfl rfl rfl rfl (xg_le.rf X D),
    w.dfx,
    w.dby,
    fun q hz => w.dnw q (by rw [← hs]; exact hz),
    w.din,
    ⟨w.lim.1, by rw [hs]; exact w.lim.2⟩,
    w.rng,
    w.cap,
    w.siz⟩
theorem xx_W.bodst (w : xx_W G o d0 X E D H) {k : Nat} {f : Nat → Value} {u : Value} (hk : xx_n X ≤ k) (hf : wm_A G (o + 3) 7 120 f H) (hA : wm_A G (o + 3) 7 120 (updV f k u) H1) (hs : H1.size = H.size) (hq : ∀ q : Nat, q ≠ (o + 3) → H1[q]? = H[q]?) : xx_W G o d0 X E D H1 := by
  have hd : xg_d D ((o + 3)) = (1, 3) := (w.dfx 3 (by omega))
  have hcap := w.cap.2.1
  exact ⟨xk_main w (hq _ (xx_ne (w.dfx 0 (by omega)) hd (xx_tn (fun h => by omega)))) (fun _ _ _ _ => rfl) (xg_le.rf X D),
    xk_arr w (fun k2 j2 t2 n2 h2 => hq _ (xx_ne (w.dfx j2 (by have := (xx_arrj h2).1; omega)) hd (xx_tn (fun h => by have := (xx_arrj h2).1; omega)))) (fun _ _ => rfl),
    by
      obtain ⟨f2, h1, h2⟩ := w.bod
      refine ⟨updV f k u, hA, fun b hb => ?_⟩
      have h120 : b < 120 := by unfold xx_n at hb; omega
      rw [show updV f k u b = f b from if_neg (by omega), ← h1.uniq hf b h120]
      exact h2 b hb,
    xk_wrk w (hq _ (xx_ne (w.dfx 6 (by omega)) hd (xx_tn (fun h => by omega)))) rfl (xg_le.rf X D),
    xk_shv w (hq _ (xx_ne (w.dfx 40 (by omega)) hd (xx_tn (fun h => by omega)))) rfl (xg_le.rf X D),
    xk_trn w (hq _ (xx_ne (w.dfx 8 (by omega)) hd (xx_tn (fun h => by omega)))),
    xk_flt w (hq _ (xx_ne (w.dfx 17 (by omega)) hd (xx_tn (fun h => by omega)))),
    xk_rdr w (hq _ (xx_ne (w.dfx 16 (by omega)) hd (xx_tn (fun h => by omega)))) rfl rfl,
    xk_txa w (hq _ (xx_ne (w.dfx 18 (by omega)) hd (xx_tn (fun h => by omega)))),
    xk_txt w (fun i2 hi2 => (hq _ (xx_ne (w.dfx (41 + 3 * i2) (by omega)) hd (xx_tn (fun h => by omega))))) (fun _ _ _ => rfl),
    xk_tst w (fun i2 hi2 => ⟨(hq _ (xx_ne (w.dfx (42 + 3 * i2) (by omega)) hd (xx_tn (fun h => by omega)))), (hq _ (xx_ne (w.dfx (43 + 3 * i2) (by omega)) hd (xx_tn (fun h => by omega))))⟩) (fun q z => hq q (xx_ne z hd (xx_tn (fun h => by omega)))) rfl (xg_le.rf X D),
    xk_bdy w (fun b2 hb => hq _ (xx_ne (w.dby b2 0 hb (Or.inl rfl)) hd (xx_tn (fun h => by omega)))) (fun _ _ _ => rfl) rfl (xg_le.rf X D),
    xk_knd w rfl rfl,
    xk_har w (fun b2 j2 hb q1 q2 hj => hq _ (xx_ne (w.dby b2 (1 + j2) hb (Or.inr ⟨q1, q2, by omega⟩)) hd (xx_tn (fun h => by omega)))) (fun _ _ _ => rfl) rfl (xg_le.rf X D),
    xk_row w (fun s2 h1 h2 => hq _ (xx_ne (w.row s2 h1 h2).2 hd (xx_tn (fun h => by omega)))) rfl rfl rfl rfl (xg_le.rf X D),
    w.dfx,
    w.dby,
    fun q hz => w.dnw q (by rw [← hs]; exact hz),
    w.din,
    ⟨w.lim.1, by rw [hs]; exact w.lim.2⟩,
    w.rng,
    w.cap,
    w.siz⟩
theorem xx_W.bmore (w : xx_W G o d0 X E D H) {v : Int32} (hv : v.toInt = (X 4 0).toInt + 1) (hv2 : v.toInt ≤ 120) (hb : ∃ f : Nat → Value, wm_A G (o + 3) 7 120 f H ∧ ∀ b : Nat, b < xx_n X + 1 → f b = .ref (xg_b D b)) (hB : wm_O G (xg_b D (xx_n X)) (4 + xx_q X (xx_n X)) (xx_bn.getD (xx_q X (xx_n X)) 0) (xx_BV o D X (xx_n X) (xx_q X (xx_n X))) H) (hK : 0 ≤ (X 60 (xx_n X)).toInt ∧ (X 60 (xx_n X)).toInt < 8)
    (hR : 2 ≤ xx_q X (xx_n X) → xx_q X (xx_n X) ≤ 5 → ∀ j : Nat, j < 4 → wm_A G (xg_b D (xx_n X) + (1 + j)) (if j = 3 then 1 else 0) 61 (xx_HA X (xx_n X) (xx_hf.getD j 0)) H) (hT : ∀ i : Nat, (i = 0 ∨ 2 ≤ xx_q X (xx_n X) ∧ xx_q X (xx_n X) ≤ 5 ∧ i < 5) → xg_d D (xg_b D (xx_n X) + i) = (2, 5 * xx_n X + i)) (hA : wm_O G o 0 59 (updV (xx_V o D X) 4 (.int v)) H1) (hs : H1.size = H.size) (hq : ∀ q : Nat, q ≠ o → H1[q]? = H[q]?) : xx_W G o d0 (mm_up X 4 0 v) E D H1 := by
  have hd : xg_d D (o) = (1, 0) := (w.dfx 0 (by omega))
  have hk : xx_arr 4 = none := by decide
  have hr : True := trivial
  have hc0 := w.cap.1
  have hn : xx_n (mm_up X 4 0 v) = xx_n X + 1 := by unfold xx_n; rw [mm_up_s]; omega
  have hcase : ∀ b : Nat, b < xx_n X + 1 → b < xx_n X ∨ b = xx_n X := fun b h => by omega
  have hdb : ∀ b i : Nat, b < xx_n X + 1 → (i = 0 ∨ 2 ≤ xx_q X b ∧ xx_q X b ≤ 5 ∧ i < 5) → xg_d D (xg_b D b + i) = (2, 5 * b + i) := fun b i hb2 hi => by
    rcases hcase b hb2 with z | z
    · exact w.dby b i z hi
    · rw [z] at hi ⊢; exact hT i hi
  exact ⟨hA.to (fun k2 _ => by
      show (if k2 = 4 then Value.int v else xx_V o D X k2) = xx_V o D (mm_up X 4 0 v) k2
      by_cases q : k2 = 4
      · subst q
        rw [if_pos rfl]
        unfold xx_V
        rw [if_neg (by decide)]
        show Value.int v = Value.int (mm_up X 4 0 v 4 0)
        rw [mm_up_s]
      · rw [if_neg q]
        unfold xx_V
        rw [congrFun (mm_up_k (S := X) (k := 4) (j := 0) (v := v) (k2 := 5) (by decide)) 0]
        rw [mm_up_k q]),
    xk_arr w (fun k2 j2 t2 n2 h2 => hq _ (xx_ne (w.dfx j2 (by have := (xx_arrj h2).1; omega)) hd (xx_tn (fun h => by have := (xx_arrj h2).1; omega)))) (fun k2 h2 => mm_up_k (fun h => by first | exact h2 (by rw [h]; first | exact hk | decide) | (have := (xx_arrj hk2).2; omega))),
    by
      obtain ⟨f, h1, h2⟩ := hb
      refine ⟨f, h1.kept (hq _ (xx_ne (w.dfx 3 (by omega)) hd (xx_tn (fun h => by omega)))), fun b hb2 => h2 b (by omega)⟩,
    xk_wrk w (hq _ (xx_ne (w.dfx 6 (by omega)) hd (xx_tn (fun h => by omega)))) (mm_up_k (by first | omega | (intro h; subst h; first | exact absurd hr (by decide) | exact absurd hk (by decide)))) (xg_le.rf X D),
    xk_shv w (hq _ (xx_ne (w.dfx 40 (by omega)) hd (xx_tn (fun h => by omega)))) (mm_up_k (by first | omega | (intro h; subst h; first | exact absurd hr (by decide) | exact absurd hk (by decide)))) (xg_le.rf X D),
    xk_trn w (hq _ (xx_ne (w.dfx 8 (by omega)) hd (xx_tn (fun h => by omega)))),
    xk_flt w (hq _ (xx_ne (w.dfx 17 (by omega)) hd (xx_tn (fun h => by omega)))),
    xk_rdr w (hq _ (xx_ne (w.dfx 16 (by omega)) hd (xx_tn (fun h => by omega)))) (congrFun (mm_up_k (by first | omega | (intro h; subst h; first | exact absurd hr (by decide) | exact absurd hk (by decide)))) 0) (congrFun (mm_up_k (by first | omega | (intro h; subst h; first | exact absurd hr (by decide) | exact absurd hk (by decide)))) 0),
    xk_txa w (hq _ (xx_ne (w.dfx 18 (by omega)) hd (xx_tn (fun h => by omega)))),
    xk_txt w (fun i hi => (hq _ (xx_ne (w.dfx (41 + 3 * i) (by omega)) hd (xx_tn (fun h => by omega))))) (fun k2 h1 h2 => (mm_up_k (by first | omega | (intro h; subst h; first | exact absurd hr (by decide) | exact absurd hk (by decide))))),
    xk_tst w (fun i hi => ⟨(hq _ (xx_ne (w.dfx (42 + 3 * i) (by omega)) hd (xx_tn (fun h => by omega)))), (hq _ (xx_ne (w.dfx (43 + 3 * i) (by omega)) hd (xx_tn (fun h => by omega))))⟩) (fun q z => hq q (xx_ne z hd (xx_tn (fun h => by omega)))) (mm_up_k (by first | omega | (intro h; subst h; first | exact absurd hr (by decide) | exact absurd hk (by decide)))) (xg_le.rf X D),
    fun b hb2 => by
      rw [hn] at hb2
      have e : xx_q (mm_up X 4 0 v) b = xx_q X b := by unfold xx_q; rw [mm_up_k (by decide)]
      have base : wm_O G (xg_b D b) (4 + xx_q X b) (xx_bn.getD (xx_q X b) 0) (xx_BV o D X b (xx_q X b)) H := by
        rcases hcase b hb2 with z | z
        · exact w.bdy b z
        · rw [z]; exact hB
      rw [e]
      refine (base.kept (hq _ (xx_ne (hdb b 0 hb2 (Or.inl rfl)) hd (xx_tn (fun h => by omega))))).to fun k2 _ => ?_
      unfold xx_BV
      split
      · rfl
      · split
        · rename_i f2 hf2
          have := xx_bqf2 hf2
          rw [mm_up_k (by omega)]
        · rfl
        · rfl,
    fun b hb2 => by
      rw [hn] at hb2
      rw [mm_up_k (by decide)]
      rcases hcase b hb2 with z | z
      · exact w.knd b z
      · rw [z]; exact hK,
    fun b hb2 q1 q2 j hj => by
      rw [hn] at hb2
      have e : xx_q (mm_up X 4 0 v) b = xx_q X b := by unfold xx_q; rw [mm_up_k (by decide)]
      rw [e] at q1 q2
      have hm := xx_hfn j hj
      have base : wm_A G (xg_b D b + (1 + j)) (if j = 3 then 1 else 0) 61 (xx_HA X b (xx_hf.getD j 0)) H := by
        rcases hcase b hb2 with z | z
        · exact w.har b z q1 q2 j hj
        · subst z; exact hR q1 q2 j hj
      refine (base.kept (hq _ (xx_ne (hdb b (1 + j) hb2 (Or.inr ⟨q1, q2, by omega⟩)) hd (xx_tn (fun h => by omega))))).to fun y _ => ?_
      unfold xx_HA
      rw [mm_up_k (by omega)],
    xk_row w (fun s2 h1 h2 => hq _ (xx_ne (w.row s2 h1 h2).2 hd (xx_tn (fun h => by omega)))) (mm_up_k (by first | omega | (intro h; subst h; first | exact absurd hr (by decide) | exact absurd hk (by decide)))) (mm_up_k (by first | omega | (intro h; subst h; first | exact absurd hr (by decide) | exact absurd hk (by decide)))) (mm_up_k (by first | omega | (intro h; subst h; first | exact absurd hr (by decide) | exact absurd hk (by decide)))) rfl (xg_le.rf X D),
    w.dfx,
    fun b i hb2 hi => hdb b i (by omega) (by
      have e : xx_q (mm_up X 4 0 v) b = xx_q X b := by unfold xx_q; rw [mm_up_k (by decide)]
      rw [e] at hi; exact hi),
    fun q hz => w.dnw q (by rw [← hs]; exact hz),
    w.din,
    ⟨w.lim.1, by rw [hs]; exact w.lim.2⟩,
    by
      rw [mm_up_s, mm_up_k (by decide), mm_up_k (by decide), mm_up_k (by decide)]
      exact ⟨by have := w.rng.1; omega, fun m hm => by have := w.rng.2.1 m hm; omega, fun q hq6 => by have := w.rng.2.2 q hq6; omega⟩,
    by
      rw [mm_up_s, mm_up_k (by decide)]
      exact ⟨by omega, hv2, w.cap.2.2⟩,
    xk_siz w (mm_up_k (by first | omega | (intro h; subst h; first | exact absurd hr (by decide) | exact absurd hk (by decide))))⟩
theorem xx_W.sput (w : xx_W G o d0 X E D H) {v : Int32} (hv : v.toInt < (X 4 0).toInt) (hA : wm_O G o 0 59 (updV (xx_V o D X) 5 (xx_b D v)) H1) (hs : H1.size = H.size) (hq : ∀ q : Nat, q ≠ o → H1[q]? = H[q]?) : xx_W G o d0 (mm_up X 5 0 v) E D H1 := by
  have hd : xg_d D (o) = (1, 0) := (w.dfx 0 (by omega))
  have hk : xx_arr 5 = none := by decide
  have hr : True := trivial
  exact ⟨hA.to (fun k2 _ => by
      show (if k2 = 5 then xx_b D v else xx_V o D X k2) = xx_V o D (mm_up X 5 0 v) k2
      by_cases q : k2 = 5
      · subst q
        rw [if_pos rfl]
        unfold xx_V
        rw [if_pos rfl, mm_up_s]
      · rw [if_neg q]
        unfold xx_V
        rw [if_neg q, if_neg q]
        rw [mm_up_k q]),
    xk_arr w (fun k2 j2 t2 n2 h2 => hq _ (xx_ne (w.dfx j2 (by have := (xx_arrj h2).1; omega)) hd (xx_tn (fun h => by have := (xx_arrj h2).1; omega)))) (fun k2 h2 => mm_up_k (fun h => by first | exact h2 (by rw [h]; first | exact hk | decide) | (have := (xx_arrj hk2).2; omega))),
    xk_bod w (hq _ (xx_ne (w.dfx 3 (by omega)) hd (xx_tn (fun h => by omega)))) (congrFun (mm_up_k (by first | omega | (intro h; subst h; first | exact absurd hr (by decide) | exact absurd hk (by decide)))) 0) (xg_le.rf X D),
    xk_wrk w (hq _ (xx_ne (w.dfx 6 (by omega)) hd (xx_tn (fun h => by omega)))) (mm_up_k (by first | omega | (intro h; subst h; first | exact absurd hr (by decide) | exact absurd hk (by decide)))) (xg_le.rf X D),
    xk_shv w (hq _ (xx_ne (w.dfx 40 (by omega)) hd (xx_tn (fun h => by omega)))) (mm_up_k (by first | omega | (intro h; subst h; first | exact absurd hr (by decide) | exact absurd hk (by decide)))) (xg_le.rf X D),
    xk_trn w (hq _ (xx_ne (w.dfx 8 (by omega)) hd (xx_tn (fun h => by omega)))),
    xk_flt w (hq _ (xx_ne (w.dfx 17 (by omega)) hd (xx_tn (fun h => by omega)))),
    xk_rdr w (hq _ (xx_ne (w.dfx 16 (by omega)) hd (xx_tn (fun h => by omega)))) (congrFun (mm_up_k (by first | omega | (intro h; subst h; first | exact absurd hr (by decide) | exact absurd hk (by decide)))) 0) (congrFun (mm_up_k (by first | omega | (intro h; subst h; first | exact absurd hr (by decide) | exact absurd hk (by decide)))) 0),
    xk_txa w (hq _ (xx_ne (w.dfx 18 (by omega)) hd (xx_tn (fun h => by omega)))),
    xk_txt w (fun i hi => (hq _ (xx_ne (w.dfx (41 + 3 * i) (by omega)) hd (xx_tn (fun h => by omega))))) (fun k2 h1 h2 => (mm_up_k (by first | omega | (intro h; subst h; first | exact absurd hr (by decide) | exact absurd hk (by decide))))),
    xk_tst w (fun i hi => ⟨(hq _ (xx_ne (w.dfx (42 + 3 * i) (by omega)) hd (xx_tn (fun h => by omega)))), (hq _ (xx_ne (w.dfx (43 + 3 * i) (by omega)) hd (xx_tn (fun h => by omega))))⟩) (fun q z => hq q (xx_ne z hd (xx_tn (fun h => by omega)))) (mm_up_k (by first | omega | (intro h; subst h; first | exact absurd hr (by decide) | exact absurd hk (by decide)))) (xg_le.rf X D),
    xk_bdy w (fun b2 hb => hq _ (xx_ne (w.dby b2 0 hb (Or.inl rfl)) hd (xx_tn (fun h => by omega)))) (fun k2 h1 h2 => mm_up_k (by have := h2.1; have := h2.2; omega)) (congrFun (mm_up_k (by first | omega | (intro h; subst h; first | exact absurd hr (by decide) | exact absurd hk (by decide)))) 0) (xg_le.rf X D),
    xk_knd w (mm_up_k (by first | omega | (intro h; subst h; first | exact absurd hr (by decide) | exact absurd hk (by decide)))) (congrFun (mm_up_k (by first | omega | (intro h; subst h; first | exact absurd hr (by decide) | exact absurd hk (by decide)))) 0),
    xk_har w (fun b2 j2 hb q1 q2 hj => hq _ (xx_ne (w.dby b2 (1 + j2) hb (Or.inr ⟨q1, q2, by omega⟩)) hd (xx_tn (fun h => by omega)))) (fun k2 h1 h2 => mm_up_k (by have := h2.1; have := h2.2; omega)) (congrFun (mm_up_k (by first | omega | (intro h; subst h; first | exact absurd hr (by decide) | exact absurd hk (by decide)))) 0) (xg_le.rf X D),
    xk_row w (fun s2 h1 h2 => hq _ (xx_ne (w.row s2 h1 h2).2 hd (xx_tn (fun h => by omega)))) (mm_up_k (by first | omega | (intro h; subst h; first | exact absurd hr (by decide) | exact absurd hk (by decide)))) (mm_up_k (by first | omega | (intro h; subst h; first | exact absurd hr (by decide) | exact absurd hk (by decide)))) (mm_up_k (by first | omega | (intro h; subst h; first | exact absurd hr (by decide) | exact absurd hk (by decide)))) rfl (xg_le.rf X D),
    w.dfx,
    xk_dby w (mm_up_k (by first | omega | (intro h; subst h; first | exact absurd hr (by decide) | exact absurd hk (by decide)))) (congrFun (mm_up_k (by first | omega | (intro h; subst h; first | exact absurd hr (by decide) | exact absurd hk (by decide)))) 0) (xg_le.rf X D),
    fun q hz => w.dnw q (by rw [← hs]; exact hz),
    w.din,
    ⟨w.lim.1, by rw [hs]; exact w.lim.2⟩,
    ⟨by rw [mm_up_s]; exact hv, w.rng.2.1, w.rng.2.2⟩,
    xk_cap w (congrFun (mm_up_k (by first | omega | (intro h; subst h; first | exact absurd hr (by decide) | exact absurd hk (by decide)))) 0) (mm_up_k (by first | omega | (intro h; subst h; first | exact absurd hr (by decide) | exact absurd hk (by decide)))),
    xk_siz w (mm_up_k (by first | omega | (intro h; subst h; first | exact absurd hr (by decide) | exact absurd hk (by decide))))⟩
theorem xx_W.grow {D' : xg} (w : xx_W G o d0 X E D H) (hle : xg_le X D D') (hs : H.size ≤ H1.size) (hq : ∀ q : Nat, q < H.size → H1[q]? = H[q]?) (hn : ∀ q : Nat, H1.size ≤ q → xg_d D' q = (0, 0)) (ho : ∀ q : Nat, q < H.size → xg_d D' q = xg_d D q) : xx_W G o d0 X E D' H1 := by
  have hl : ∀ q : Nat, xg_d D q ≠ (0, 0) → q < H.size := fun q h => by
    rcases Nat.lt_or_ge q H.size with z | z
    · exact z
    · exact absurd (w.dnw q z) h
  have ho0 : xg_d D o = (1, 0) := w.dfx 0 (by omega)
  exact ⟨xk_main w (hq o (hl o (by rw [ho0]; exact nofun))) (fun _ _ _ _ => rfl) hle,
    xk_arr w (fun k2 j2 t2 n2 h2 => hq _ (hl _ (by rw [w.dfx j2 (by have := (xx_arrj h2).1; omega)]; exact nofun))) (fun _ _ => rfl),
    xk_bod w (hq _ (hl _ (by rw [w.dfx 3 (by omega)]; exact nofun))) rfl hle, xk_wrk w (hq _ (hl _ (by rw [w.dfx 6 (by omega)]; exact nofun))) rfl hle, xk_shv w (hq _ (hl _ (by rw [w.dfx 40 (by omega)]; exact nofun))) rfl hle, xk_trn w (hq _ (hl _ (by rw [w.dfx 8 (by omega)]; exact nofun))), xk_flt w (hq _ (hl _ (by rw [w.dfx 17 (by omega)]; exact nofun))), xk_rdr w (hq _ (hl _ (by rw [w.dfx 16 (by omega)]; exact nofun))) rfl rfl, xk_txa w (hq _ (hl _ (by rw [w.dfx 18 (by omega)]; exact nofun))),
    xk_txt w (fun i2 hi2 => (hq _ (hl _ (by rw [w.dfx (41 + 3 * i2) (by omega)]; exact nofun)))) (fun _ _ _ => rfl), xk_tst w (fun i2 hi2 => ⟨(hq _ (hl _ (by rw [w.dfx (42 + 3 * i2) (by omega)]; exact nofun))), (hq _ (hl _ (by rw [w.dfx (43 + 3 * i2) (by omega)]; exact nofun)))⟩) (fun q z => hq q (hl q (by rw [z]; exact nofun))) rfl hle,
    xk_bdy w (fun b2 hb => hq _ (hl _ (by rw [show xg_d D (xg_b D b2) = (2, 5 * b2 + 0) from w.dby b2 0 hb (Or.inl rfl)]; exact nofun))) (fun _ _ _ => rfl) rfl hle, xk_knd w rfl rfl,
    xk_har w (fun b2 j2 hb q1 q2 hj => hq _ (hl _ (by rw [w.dby b2 (1 + j2) hb (Or.inr ⟨q1, q2, by omega⟩)]; exact nofun))) (fun _ _ _ => rfl) rfl hle,
    xk_row w (fun s2 h1 h2 => hq _ (hl _ (by rw [(w.row s2 h1 h2).2]; exact nofun))) rfl rfl rfl rfl hle, xk_dfx w hle, xk_dby w rfl rfl hle, hn,
    fun q h => by
      rcases Nat.lt_or_ge q H.size with z | z
      · rw [ho q z] at h; exact w.din q h
      · exact Or.inr (Nat.le_trans w.lim.2 z),
    ⟨w.lim.1, Nat.le_trans w.lim.2 hs⟩, w.rng, w.cap, w.siz⟩
theorem xx_W.kept (w : xx_W G o d0 X E D H) (hs : H.size ≤ H1.size) (hn : ∀ q : Nat, H1.size ≤ q → xg_d D q = (0, 0)) (hq : ∀ q : Nat, xx_F o d0 q → q < H.size → H1[q]? = H[q]?) : xx_W G o d0 X E D H1 := by
  have hl : ∀ q : Nat, xg_d D q ≠ (0, 0) → q < H.size := fun q h => by
    rcases Nat.lt_or_ge q H.size with z | z
    · exact z
    · exact absurd (w.dnw q z) h
  have hk : ∀ q : Nat, xg_d D q ≠ (0, 0) → H1[q]? = H[q]? := fun q h => hq q (w.din q h) (hl q h)
  have hf : ∀ j : Nat, j ≤ 88 → H1[o + j]? = H[o + j]? := fun j hj => hk _ (by rw [w.dfx j hj]; exact nofun)
  have hle := xg_le.rf X D
  exact ⟨xk_main w (hf 0 (by omega)) (fun _ _ _ _ => rfl) hle, xk_arr w (fun k2 j2 t2 n2 h2 => hf j2 (by have := (xx_arrj h2).1; omega)) (fun _ _ => rfl),
    xk_bod w (hf 3 (by omega)) rfl hle, xk_wrk w (hf 6 (by omega)) rfl hle, xk_shv w (hf 40 (by omega)) rfl hle, xk_trn w (hf 8 (by omega)), xk_flt w (hf 17 (by omega)), xk_rdr w (hf 16 (by omega)) rfl rfl, xk_txa w (hf 18 (by omega)),
    xk_txt w (fun i2 hi2 => hf _ (by omega)) (fun _ _ _ => rfl), xk_tst w (fun i2 hi2 => ⟨hf _ (by omega), hf _ (by omega)⟩) (fun q z => hk q (by rw [z]; exact nofun)) rfl hle,
    xk_bdy w (fun b2 hb => hk _ (by rw [show xg_d D (xg_b D b2) = (2, 5 * b2 + 0) from w.dby b2 0 hb (Or.inl rfl)]; exact nofun)) (fun _ _ _ => rfl) rfl hle, xk_knd w rfl rfl,
    xk_har w (fun b2 j2 hb q1 q2 hj => hk _ (by rw [w.dby b2 (1 + j2) hb (Or.inr ⟨q1, q2, by omega⟩)]; exact nofun)) (fun _ _ _ => rfl) rfl hle,
    xk_row w (fun s2 h1 h2 => hk _ (by rw [(w.row s2 h1 h2).2]; exact nofun)) rfl rfl rfl rfl hle, w.dfx, w.dby, hn, w.din, ⟨w.lim.1, Nat.le_trans w.lim.2 hs⟩, w.rng, w.cap, w.siz⟩
end XP
