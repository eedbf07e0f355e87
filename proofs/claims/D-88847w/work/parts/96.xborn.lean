/-! BODIES BORN: add, body, hole, shelter, man -/
set_option maxRecDepth 100000
section XBN
variable {G : wm_G} {o d0 : Nat} {X X' Y : mm_S} {E E' : mm_E} {D D' : xg} {H H1 : Heap}
/-- a body's fields that aren't behind arrays -/
def xx_nh (k : Nat) : Prop := 60 ≤ k ∧ k < 81 ∧ k ≠ 63 ∧ k ≠ 65 ∧ k ≠ 70 ∧ k ≠ 71
theorem xx_hfo (j : Nat) (hj : j < 4) : xx_hf.getD j 0 = 63 ∨ xx_hf.getD j 0 = 65 ∨ xx_hf.getD j 0 = 70 ∨ xx_hf.getD j 0 = 71 := (xx_hfn j hj).2.2.2.2.2.2.2
theorem xx_W.born (w : xx_W G o d0 X E D H) (hX : ∀ k : Nat, k ≠ 4 → k ≠ 5 → (k < 60 ∨ 81 ≤ k) → X' k = X k) (hX2 : ∀ k b : Nat, xx_nh k → b < xx_n X → X' k b = X k b)
    (hX3 : ∀ j b y : Nat, j < 4 → b < xx_n X → y < 61 → X' (xx_hf.getD j 0) (61 * b + y) = X (xx_hf.getD j 0) (61 * b + y))
    (h4 : (X' 4 0).toInt = (X 4 0).toInt + 1) (h120 : (X' 4 0).toInt ≤ 120) (h5 : (X' 5 0).toInt < (X' 4 0).toInt) (hm : wm_O G o 0 59 (xx_V o D' X') H1)
    (hb : ∃ f : Nat → Value, wm_A G (o + 3) 7 120 f H1 ∧ ∀ b : Nat, b < xx_n X + 1 → f b = .ref (xg_b D' b))
    (hB : wm_O G (xg_b D' (xx_n X)) (4 + xx_q X' (xx_n X)) (xx_bn.getD (xx_q X' (xx_n X)) 0) (xx_BV o D' X' (xx_n X) (xx_q X' (xx_n X))) H1) (hK : 0 ≤ (X' 60 (xx_n X)).toInt ∧ (X' 60 (xx_n X)).toInt < 8)
    (hR : 2 ≤ xx_q X' (xx_n X) → xx_q X' (xx_n X) ≤ 5 → ∀ j : Nat, j < 4 → wm_A G (xg_b D' (xx_n X) + (1 + j)) (if j = 3 then 1 else 0) 61 (xx_HA X' (xx_n X) (xx_hf.getD j 0)) H1) (hD : xg_le X D D')
    (hT : ∀ i : Nat, (i = 0 ∨ 2 ≤ xx_q X' (xx_n X) ∧ xx_q X' (xx_n X) ≤ 5 ∧ i < 5) → xg_d D' (xg_b D' (xx_n X) + i) = (2, 5 * xx_n X + i))
    (hs : H.size ≤ H1.size) (hq : ∀ q : Nat, xg_d D q ≠ (0, 0) → q ≠ o → q ≠ o + 3 → H1[q]? = H[q]?) (hn : ∀ q : Nat, H1.size ≤ q → xg_d D' q = (0, 0)) (hi : ∀ q : Nat, xg_d D' q ≠ (0, 0) → xx_F o d0 q) : xx_W G o d0 X' E D' H1 := by
  have hc0 := w.cap.1
  have hN : xx_n X' = xx_n X + 1 := by unfold xx_n; rw [h4]; omega
  have hcase : ∀ b : Nat, b < xx_n X + 1 → b < xx_n X ∨ b = xx_n X := fun b h => by omega
  have hf : ∀ j : Nat, j ≤ 88 → j ≠ 0 → j ≠ 3 → H1[o + j]? = H[o + j]? := fun j hj h0 h3 => hq _ (by rw [w.dfx j hj]; exact fun z => absurd (congrArg Prod.fst z) (Nat.one_ne_zero)) (by omega) (by omega)
  have d0' : xg_d D o = (1, 0) := w.dfx 0 (by omega)
  have d3' : xg_d D (o + 3) = (1, 3) := w.dfx 3 (by omega)
  have ht : ∀ q a c : Nat, xg_d D q = (a, c) → a ≠ 1 → a ≠ 0 → H1[q]? = H[q]? := fun q a c h h1 h0 => hq q (by rw [h]; exact fun z => h0 (congrArg Prod.fst z)) (fun e => by rw [e, d0'] at h; exact h1 (congrArg Prod.fst h).symm) (fun e => by rw [e, d3'] at h; exact h1 (congrArg Prod.fst h).symm)
  have nh60 : xx_nh 60 := ⟨by decide, by decide, by decide, by decide, by decide, by decide⟩
  have eq : ∀ b : Nat, b < xx_n X → xx_q X' b = xx_q X b := fun b hb => by unfold xx_q; rw [hX2 60 b nh60 hb]
  refine ⟨hm, xk_arr w (fun k2 j2 t2 n2 h2 => hf j2 (by have := (xx_arrj h2).1; omega) (by have := (xx_arrj h2).1; omega) (by have := (xx_arrj h2).1; omega)) (fun k2 h2 => ?_), ?_,
    xk_wrk w (hf 6 (by omega) (by omega) (by omega)) (hX 9 (by omega) (by omega) (by omega)) hD, xk_shv w (hf 40 (by omega) (by omega) (by omega)) (hX 58 (by omega) (by omega) (by omega)) hD, xk_trn w (hf 8 (by omega) (by omega) (by omega)), xk_flt w (hf 17 (by omega) (by omega) (by omega)),
    xk_rdr w (hf 16 (by omega) (by omega) (by omega)) (congrFun (hX 95 (by omega) (by omega) (by omega)) 0) (congrFun (hX 96 (by omega) (by omega) (by omega)) 0), xk_txa w (hf 18 (by omega) (by omega) (by omega)),
    xk_txt w (fun i hi => hf _ (by omega) (by omega) (by omega)) (fun k h1 h2 => hX k (by omega) (by omega) (by omega)), xk_tst w (fun i hi => ⟨hf _ (by omega) (by omega) (by omega), hf _ (by omega) (by omega) (by omega)⟩) (fun q z => ht q 4 0 z (by decide) (by decide)) (hX 90 (by omega) (by omega) (by omega)) hD,
    fun b hb2 => ?_, fun b hb2 => ?_, fun b hb2 q1 q2 j hj => ?_, xk_row w (fun s2 h1 h2 => ht _ 3 _ (w.row s2 h1 h2).2 (by decide) (by decide)) (hX 58 (by omega) (by omega) (by omega)) (hX 100 (by omega) (by omega) (by omega)) (hX 101 (by omega) (by omega) (by omega)) rfl hD,
    xk_dfx w hD, fun b i hb2 hi2 => ?_, hn, hi, ⟨w.lim.1, Nat.le_trans w.lim.2 hs⟩, ⟨h5, fun m hm2 => ?_, fun q hq6 => ?_⟩, ⟨by omega, h120, ?_⟩, xk_siz w (hX 100 (by omega) (by omega) (by omega))⟩
  · rcases hx : xx_arr k2 with _ | x
    · exact absurd hx h2
    · have h := (xx_arrj (n := x.2.2) (t := x.2.1) (j := x.1) hx).2
      exact hX k2 h.2.1 h.2.2.1 (Or.inl (by omega))
  · obtain ⟨f, h1, h2⟩ := hb
    exact ⟨f, h1, fun b h => h2 b (by omega)⟩
  · rw [hN] at hb2
    rcases hcase b hb2 with z | z
    · rw [eq b z, hD.1 b z]
      refine ((w.bdy b z).kept (ht _ 2 _ (w.dby b 0 z (Or.inl rfl)) (by decide) (by decide))).to fun k2 _ => ?_
      unfold xx_BV
      split
      · rfl
      · split
        · rename_i f hf2
          have h := xx_bqf2 hf2
          rw [hX2 f b ⟨by omega, by omega, by omega, by omega, by omega, by omega⟩ z]
        · rw [hD.1 b z]
        · rfl
    · rw [z]; exact hB
  · rw [hN] at hb2
    rcases hcase b hb2 with z | z
    · rw [hX2 60 b nh60 z]; exact w.knd b z
    · rw [z]; exact hK
  · rw [hN] at hb2
    rcases hcase b hb2 with z | z
    · rw [eq b z] at q1 q2
      rw [hD.1 b z]
      refine ((w.har b z q1 q2 j hj).kept (ht _ 2 _ (w.dby b (1 + j) z (Or.inr ⟨q1, q2, by omega⟩)) (by decide) (by decide))).to fun y hy => ?_
      unfold xx_HA
      rw [hX3 j b y hj z hy]
    · rw [z] at q1 q2 ⊢; exact hR q1 q2 j hj
  · rw [hN] at hb2
    rcases hcase b hb2 with z | z
    · rw [eq b z] at hi2
      have h := w.dby b i z hi2
      rw [hD.1 b z, hD.2.2.1 _ (by rw [h]; exact fun y => absurd (congrArg Prod.fst y) (show ¬ (2 = 0) by decide))]
      exact h
    · rw [z] at hi2 ⊢; exact hT i hi2
  · rw [hX 9 (by omega) (by omega) (by omega), h4]
    have := w.rng.2.1 m hm2
    omega
  · rw [hX 58 (by omega) (by omega) (by omega), h4]
    have := w.rng.2.2 q hq6
    omega
  · rw [hX 90 (by omega) (by omega) (by omega)]
    exact w.cap.2.2
/-- a body of number n entered at b, h arrays behind it -/
def xg_bo (D : xg) (n b h : Nat) : xg := (fun k => if k = n then b else D.1 k, D.2.1, fun q => if b ≤ q ∧ q ≤ b + h then (2, 5 * n + (q - b)) else xg_d D q, D.2.2.2)
theorem xg_bo_b (D : xg) (n b h : Nat) : xg_b (xg_bo D n b h) n = b := if_pos rfl
theorem xg_bo_d (D : xg) (n b h q : Nat) : xg_d (xg_bo D n b h) q = if b ≤ q ∧ q ≤ b + h then (2, 5 * n + (q - b)) else xg_d D q := rfl
theorem xg_bo_le (w : xx_W G o d0 X E D H) (h : Nat) : xg_le X D (xg_bo D (xx_n X) H.size h) := ⟨fun b hb => if_neg (by omega), fun _ _ _ => rfl, fun q hq => by
  rw [xg_bo_d, if_neg (fun z => hq (w.dnw q z.1))], fun _ _ _ => rfl⟩
theorem xg_bo_t (w : xx_W G o d0 X E D H) {h i : Nat} (hi : i ≤ h) : xg_d (xg_bo D (xx_n X) H.size h) (xg_b (xg_bo D (xx_n X) H.size h) (xx_n X) + i) = (2, 5 * xx_n X + i) := by
  rw [xg_bo_b, xg_bo_d, if_pos (by omega)]
  exact congrArg (fun z => (2, 5 * xx_n X + z)) (by omega)
theorem xg_bo_n (w : xx_W G o d0 X E D H) {h : Nat} (hs : H1.size = H.size + 1 + h) : ∀ q : Nat, H1.size ≤ q → xg_d (xg_bo D (xx_n X) H.size h) q = (0, 0) := fun q hq => by
  rw [xg_bo_d, if_neg (by omega)]
  exact w.dnw q (by omega)
theorem xg_bo_i (w : xx_W G o d0 X E D H) {h : Nat} : ∀ q : Nat, xg_d (xg_bo D (xx_n X) H.size h) q ≠ (0, 0) → xx_F o d0 q := fun q hq => by
  rw [xg_bo_d] at hq
  split at hq
  · rename_i z
    exact Or.inr (Nat.le_trans w.lim.2 z.1)
  · exact w.din q hq
/-- a body's own fields written at the new number alone -/
def xe_Y (X Y : mm_S) : Prop := (∀ k : Nat, ¬ xx_nh k → Y k = X k) ∧ ∀ k b : Nat, b ≠ xx_n X → Y k b = X k b
theorem xe_cl (X : mm_S) : (fd_ X 4).toNatClampNeg = xx_n X := by
  rw [ww_cl]
  rfl
theorem xe_Y.rf (X : mm_S) : xe_Y X X := ⟨fun _ _ => rfl, fun _ _ _ => rfl⟩
theorem xe_Y.wr (h : xe_Y X Y) {k : Nat} {v : Int32} (hk : xx_nh k) : xe_Y X (wr_ Y k (fd_ X 4) v) := by
  unfold wr_
  rw [xe_cl]
  refine ⟨fun j hj => ?_, fun j b hb => ?_⟩
  · rw [mm_up_k (fun e => hj (by rw [e]; exact hk))]; exact h.1 j hj
  · rw [← h.2 j b hb]
    show (if j = k ∧ b = xx_n X then v else Y j b) = Y j b
    rw [if_neg (fun z => hb z.2)]
/-- what a body that is yet to come has -/
def xv_nw (X : mm_S) : Prop := (∀ k : Nat, xx_nh k → X k (xx_n X) = if k = 69 then -1 else 0) ∧ ∀ j y : Nat, j < 4 → y < 61 → X (xx_hf.getD j 0) (61 * xx_n X + y) = 0
theorem xx_W.bornY {f : Nat → Value} {q h : Nat} (w : xx_W G o d0 X E D H) (hN : xv_nw X) (hY : xe_Y X Y) (hX : ∀ k : Nat, k ≠ 4 → k ≠ 5 → X' k = Y k) (h4 : (X' 4 0).toInt = (X 4 0).toInt + 1) (h120 : (X 4 0).toInt < 120) (h5 : (X' 5 0).toInt < (X' 4 0).toInt)
    (hm : wm_O G o 0 59 (xx_V o (xg_bo D (xx_n X) H.size h) X') H1) (hb : wm_A G (o + 3) 7 120 (updV f (xx_n X) (.ref H.size)) H1) (hf : ∀ b : Nat, b < xx_n X → f b = .ref (xg_b D b)) (hq8 : q < 8) (h60 : (X' 60 (xx_n X)).toInt = (q : Int))
    (hB : wm_O G H.size (4 + q) (xx_bn.getD q 0) (xx_BV o (xg_bo D (xx_n X) H.size h) X' (xx_n X) q) H1) (hR : 2 ≤ q → q ≤ 5 → h = 4 ∧ ∀ j : Nat, j < 4 → wm_A G (H.size + (1 + j)) (if j = 3 then 1 else 0) 61 (fun _ => .int 0) H1)
    (hs : H1.size = H.size + 1 + h) (ho : ∀ p : Nat, p < H.size → p ≠ o → p ≠ o + 3 → H1[p]? = H[p]?) : xx_W G o d0 X' E (xg_bo D (xx_n X) H.size h) H1 := by
  have eq : xx_q X' (xx_n X) = q := by unfold xx_q; rw [h60]; omega
  have hcap := w.cap
  have nx : ∀ j : Nat, j < 4 → ¬ xx_nh (xx_hf.getD j 0) := fun j hj z => by have := xx_hfo j hj; have := z.2; omega
  have nb : ∀ j : Nat, j < 4 → xx_hf.getD j 0 ≠ 4 ∧ xx_hf.getD j 0 ≠ 5 := fun j hj => by have := xx_hfo j hj; omega
  refine w.born (fun k a b c => (hX k a b).trans (hY.1 k (fun z => by have := z.1; have := z.2.1; omega))) (fun k b hk hb2 => ?_) (fun j b y hj hb2 hy => ?_) h4 (by omega) h5 hm ⟨_, hb, fun b hb2 => ?_⟩ ?_ ?_ ?_ (xg_bo_le w h) ?_ (by omega) (fun p hp a b => ho p (w.dlt hp) a b) (xg_bo_n w hs) (xg_bo_i w)
  · rw [hX k (by have := hk.1; omega) (by have := hk.1; omega), hY.2 k b (by omega)]
  · rw [hX _ (nb j hj).1 (nb j hj).2, hY.1 _ (nx j hj)]
  · by_cases z : b = xx_n X
    · rw [z, xg_bo_b, show updV f (xx_n X) (.ref H.size) (xx_n X) = .ref H.size from if_pos rfl]
    · rw [show updV f (xx_n X) (.ref H.size) b = f b from if_neg z, hf b (by omega), show xg_b (xg_bo D (xx_n X) H.size h) b = xg_b D b from if_neg z]
  · rw [eq, xg_bo_b]; exact hB
  · rw [h60]; omega
  · rw [eq]
    intro q1 q2 j hj
    rw [xg_bo_b]
    refine ((hR q1 q2).2 j hj).to fun y hy => ?_
    unfold xx_HA
    rw [hX _ (nb j hj).1 (nb j hj).2, hY.1 _ (nx j hj), hN.2 j y hj hy]
  · rw [eq]
    intro i hi2
    refine xg_bo_t w ?_
    rcases hi2 with z | ⟨q1, q2, q3⟩
    · omega
    · have := (hR q1 q2).1
      omega
/-- the main object's fields behind a body's birth -/
theorem xx_V_b (w : xx_W G o d0 X E D H) (hD : xg_le X D D') (h5 : X' 5 0 = X 5 0) (hX : ∀ k : Nat, k ≠ 4 → k ≠ 5 → k < 59 → X' k 0 = X k 0) : ∀ k : Nat, k < 59 → updV (xx_V o D X) 4 (.int (X' 4 0)) k = xx_V o D' X' k := by
  intro k hk
  show (if k = 4 then _ else xx_V o D X k) = _
  by_cases a : k = 4
  · rw [if_pos a, a]; rfl
  · rw [if_neg a]
    unfold xx_V
    by_cases b : k = 5
    · rw [if_pos b, if_pos b, h5, xx_b_le hD w.cap.1 w.rng.1]
    · rw [if_neg b, if_neg b, hX k a b hk]
/-- with the shelter -/
theorem xx_V_s {b : Nat} (hX : ∀ k : Nat, k ≠ 4 → k ≠ 5 → k < 59 → X' k 0 = X k 0) (hv : xx_b D' (X' 5 0) = .ref b) : ∀ k : Nat, k < 59 → updV (updV (xx_V o D X) 5 (.ref b)) 4 (.int (X' 4 0)) k = xx_V o D' X' k := by
  intro k hk
  show (if k = 4 then _ else if k = 5 then _ else xx_V o D X k) = _
  by_cases a : k = 4
  · rw [if_pos a, a]; rfl
  · rw [if_neg a]
    unfold xx_V
    by_cases b : k = 5
    · rw [if_pos b, if_pos b, hv]
    · rw [if_neg b, if_neg b, if_neg b, hX k a b hk]
end XBN
/-- a contract that speaks of the heap alone -/
def xe_Met (l : Launch) (G : wm_G) (y : MethodName) (ws : List Cond) (d mc ms : Nat) (H0 : Heap) (as : List Value) (A : Nat → Prop) (Post : Option Value → Heap → Prop) : Prop :=
  Met l y ws (wm_rc d mc ms) (va_Pc as (fun U => wm_K G U ∧ xn_T U ∧ U.heap = H0)) (wm_Q Post A) mc ms A
theorem xe_start {l : Launch} {G : wm_G} {y : MethodName} {own : String} {cc : ByteArray} {maxL : Nat} {ret : Option FieldType} {d mc ms : Nat} {H0 : Heap} {as : List Value} {A : Nat → Prop} {Post : Option Value → Heap → Prop} (hy : plainName y.cls = true) (hlen : (lg_sl as).length ≤ maxL) (hOw : y.cls = own)
    (body : ∀ (p : Program) (e : Env) (s : State) (m : MethodId) (below : List Frame) (meth : Method) (c : Code), p.tables.exec = Jvm.exec → c.code = cc → c.maxLocals = maxL → meth.sig.returnType = ret → meth.locks = false → (∀ w ∈ lw_all, w.before as.toArray s = true) → s.vm.findClass own = some m.cls → wm_K G s → xn_T s → s.heap = H0 → va_S A s.heap H0 [] → ∀ ls : Array Slot, lv_has ls maxL (lv_args 0 as) →
      W p l e (wm_rc d mc ms) s m as.toArray below meth c H0 [] 0 0 (MQ below (wm_Q Post A) as.toArray s mc ms A) (F0 m 0 ls [])) : xe_Met l G y (ws_ y cc maxL ret) d mc ms H0 as A Post := by
  refine Met.ofW (cc := cc) (maxL := maxL) (ret := ret) hy rfl ?_
  intro p e s m args below meth c s₁ B hml hv
  obtain ⟨rfl, hK, hN, hH⟩ := hv
  have hts := atoms_spec (ws := ws_ y cc maxL ret) B.pre
  have hts : ∀ w ∈ lw_all, w.before _ s = true := fun w h => hts w (List.mem_cons_of_mem _ h)
  have hown : s.vm.findClass own = some m.cls := by rw [← hOw]; exact findClass_of_methodNamed B.named
  have hl := lv_entry as hlen
  rw [lg_entry_eq]
  rw [hH]
  exact body p e s m below meth c B.exec B.bytes hml B.returns B.notSynchronized hts hown hK hN hH (by rw [← hH]; exact va_S.rf) _ hl
section XEC
variable {p : Program} {l : Launch} {e : Env} {R : Room} {s : State} {m : MethodId} {args : Array Value} {below : List Frame} {meth : Method} {c : Code} {H : Heap} {locs : List Loc} {cells slots : Nat} {Q : State → Prop}
variable {cc : ByteArray} {pc : Nat} {ls : Array Slot} {rest : List Value} {G : wm_G} {H0 : Heap} {A A1 : Nat → Prop} {Post : Option Value → Heap → Prop}
variable {nL n maxL d mc ms index : Nat} {y : MethodName} {bytes : ByteArray} {ret : Option FieldType} {own C : String} {rc : Nat} {As st0 : List Value}
theorem xe_callV (F : CallFix p m c cc nL s args lw_all own) (hK : wm_K G s) (hN : xn_T s) (hM : xe_Met l G y (ws_ y bytes maxL ret) d mc ms H (.ref rc :: As) A1 Post) (hg : GoodIn lw_all (wsV own index C y (ws_ y bytes maxL ret))) (hr : xr_ s H C rc) (hy : y.cls = C ∧ xw_y y n) (hn : As.length = n) (hR : d + 1 ≤ R.frames ∧ 8 + (maxL + 11) + 60 * d ≤ R.locals) (hsz : ls.size = nL) (hst : st0 = As.reverse ++ .ref rc :: rest) (hrest : (rest.map fun v => v.category).sum ≤ 8) (hd : decode cc pc = .ok (.invokevirtual index, 3)) (hroom : cells + mc ≤ R.cells ∧ slots + ms ≤ R.slots) (hS : va_S A H0 H locs) (hA : ∀ q, A1 q → A q)
    (kk : ∀ (v : Option Value) (H1 : Heap) (locs1 : List Loc), Post v H1 → H.size ≤ H1.size → va_S A H0 H1 locs1 → W p l e R s m args below meth c H1 locs1 (cells + mc) (slots + ms) Q (F0 m (pc + 3) ls (v.toList ++ rest))) : W p l e R s m args below meth c H locs cells slots Q (F0 m pc ls st0) := by
  have hr := va_runV (l := l) (H := H) (locs := locs) (cells := cells) (slots := slots) (g := F0 m pc ls st0) (p := p) (e := e) (below := below) (meth := meth) (rest := rest) F hM (cwV n F.2.2.2.2 hg rfl rfl rfl hy hR) (xz_preV hK hN hr As) rfl hn hsz hst (lv_room hrest) hd hroom
  exact wm_call hr hS hA hA fun v H1 locs1 hp hz _ hS1 => kk v H1 locs1 hp hz hS1
end XEC
/-- add: what it leaves -/
def xe_ad (G : wm_G) (o b : Nat) (V f : Nat → Value) (n : Int32) (H0 : Heap) : Option Value → Heap → Prop := fun v H => v = some (.int n) ∧ wm_O G o 0 59 (updV V 4 (.int (n + 1))) H ∧ wm_A G (o + 3) 7 120 (updV f n.toNatClampNeg (.ref b)) H ∧ H.size = H0.size ∧ ∀ q : Nat, q ≠ o → q ≠ o + 3 → H[q]? = H0[q]?
set_option maxHeartbeats 4000000 in
theorem xc_add (lQ : Launch) (G : wm_G) (o b q : Nat) (V Vb f : Nat → Value) (n : Int32) (Hz : Heap) (hO : wm_O G o 0 59 V Hz) (h3 : V 3 = .ref (o + 3)) (h4 : V 4 = .int n) (hA : wm_A G (o + 3) 7 120 f Hz) (hq : q < 8) (hB : wm_O G b (4 + q) (xx_bn.getD q 0) Vb Hz) (hn : vp_in n 120) :
    xe_Met lQ G yX0_add (ws_ yX0_add cX0_add 2 (some .int)) 0 0 0 Hz [.ref o, .ref b] (fun q => q = o ∨ q = o + 3) (xe_ad G o b V f n Hz) := by
  refine xe_start (own := RX0) (by decide +kernel) (Nat.le_of_ble_eq_true rfl) rfl (fun pQ eQ sQ mQ belowQ methQ cQ hx hb hml hr hlocks hts hown hK hN hHz hS ls hl => ?_)
  have hl : lv_has ls 2 [(0, .ref o), (1, .ref b)] := hl
  refine lv_aload_n hx hb dX0_add_0 rfl (lv_at hl 0 rfl) ?_
  refine wm_get hx hb hts in_X0 hown hK (ci := 0) rfl hO 3 (by decide) q270 (fun _ h => h) (v := .ref (o + 3)) h3 dX0_add_1 ?_
  refine lv_aload_n hx hb dX0_add_4 rfl (lv_at hl 0 rfl) ?_
  refine wm_get hx hb hts in_X0 hown hK (ci := 0) rfl hO 4 (by decide) q271 (fun _ h => h) (v := .int n) h4 dX0_add_5 ?_
  refine lv_aload_n hx hb dX0_add_8 rfl (lv_at hl 1 rfl) ?_
  refine wm_aast hx hb hK (t := 7) rfl hA hS (Or.inr rfl) (wm_O.recv (q := (xk_C q, xk_T q, xx_bn.getD q 0)) hK (xk_cl q hq) hB) (xk_yBody hK hN q hq) hn dX0_add_9 (fun H1 locs1 hA1 hz1 o1 hS => ?_)
  have hO1 := hO.kept (o1 o (by omega))
  refine lv_aload_n hx hb dX0_add_10 rfl (lv_at hl 0 rfl) ?_
  refine lv_dup hx hb dX0_add_11 rfl ?_
  refine wm_get hx hb hts in_X0 hown hK (ci := 0) rfl hO1 4 (by decide) q271 (fun _ h => h) (v := .int n) h4 dX0_add_12 ?_
  refine lv_dup_x1 hx hb dX0_add_15 rfl rfl ?_
  refine lv_iconst (v := 1) hx hb dX0_add_16 (by decide) ?_
  refine nv_iadd hx hb dX0_add_17 (fun v17 e17 => ?_)
  refine wm_put hx hb hts in_X0 tyX0 tyX0_ok nmX0 hown hK (ci := 0) rfl hO1 hS (Or.inl rfl) 4 (by decide) q271 (fun _ h => h) rfl rfl rfl dX0_add_18 (fun H2 locs2 hO2 hz2 o2 hS => ?_)
  refine wm_iret hx hb hr hlocks hS (fun _ h => h) ⟨rfl, ?_, hA1.kept (o2 _ (by omega)), by rw [hz2, hz1], fun q h1 h2 => (o2 q h1).trans (o1 q h2)⟩ dX0_add_21
  rw [← e17]
  exact hO2
def xe_P (E2 : mm_E) (D : xg) (r : Int32 × mm_S) : xz_P := fun v X' E' D' _ => E' = E2 ∧ v = some (.int r.1) ∧ X' = r.2 ∧ xg_l D' = xg_l D
abbrev xe_F : xz_T := fun _ _ _ _ => False
def xf_nb (X : mm_S) : Int32 × mm_S := (fd_ X 4, X)
def xf_bo (X Y : mm_S) : Int32 × mm_S := (fd_ X 4, fw_ Y 4 (fd_ X 4 + 1))
def xf_mkB (X : mm_S) (k : Int32) : Int32 × mm_S := if ff_in k 0 1 = 0 then (-1, X) else if fd_ X 4 = 120 then (-3, X) else xf_bo X (wr_ X 60 (fd_ X 4) (if k = 0 then 0 else 1))
def xf_mkH (X : mm_S) (k w : Int32) : Int32 × mm_S := if ff_in k 2 5 = 0 then (-1, X) else if w < 0 then (-1, X) else if 32 ≤ w / 100 then (-1, X) else if jr_ w 100 = 0 then (-1, X) else if fd_ X 4 = 120 then (-3, X)
  else xf_bo X (wr_ (wr_ (wr_ (wr_ X 60 (fd_ X 4) (if k = 2 then 2 else if k = 3 then 3 else if k = 4 then 4 else 5)) 61 (fd_ X 4) (w / 100)) 62 (fd_ X 4) (jr_ w 100)) 67 (fd_ X 4) (w / 100))
def xf_mkS (X : mm_S) (u y : Int32) : Int32 × mm_S := if ff_isSpan u = 0 then (-1, X) else if ff_in y 1 60 = 0 then (-1, X) else if ¬ fd_ X 5 < 0 then (-2, X) else if fd_ X 4 = 120 then (-3, X)
  else xf_bo X (fw_ (wr_ (wr_ (wr_ (wr_ X 60 (fd_ X 4) 6) 73 (fd_ X 4) (u / 100)) 74 (fd_ X 4) (jr_ u 100)) 75 (fd_ X 4) y) 5 (fd_ X 4))
def xf_mkM (X : mm_S) (s w : Int32) : Int32 × mm_S := if ff_in s 0 999 = 0 then (-1, X) else if ff_in w 0 99 = 0 then (-1, X) else if fd_ X 4 = 120 then (-3, X)
  else xf_bo X (wr_ (wr_ (wr_ (wr_ X 60 (fd_ X 4) 7) 77 (fd_ X 4) s) 78 (fd_ X 4) (w / 10)) 79 (fd_ X 4) (jr_ w 10))
theorem xe_in {X : mm_S} (h0 : 0 ≤ (X 4 0).toInt) (h1 : (X 4 0).toInt ≤ 120) (h : ¬ fd_ X 4 = 120) : vp_in (fd_ X 4) 120 ∧ (X 4 0).toInt < 120 ∧ (fd_ X 4 + 1).toInt = (X 4 0).toInt + 1 := by
  have a := ww_ne h
  have b : (120 : Int32).toInt = 120 := by decide
  have c : (X 4 0).toInt < 120 := by have : (fd_ X 4).toInt = (X 4 0).toInt := rfl; omega
  exact ⟨ww_in h0 c, c, ww_a1 (p := fd_ X 4) (by show (X 4 0).toInt < _; omega) h0⟩

theorem wm_A.at {G : wm_G} {a b t n : Nat} {f : Nat → Value} {H : Heap} (h : wm_A G a t n f H) (e : a = b) : wm_A G b t n f H := by rw [← e]; exact h

set_option maxHeartbeats 4000000 in
theorem xc_body (lQ : Launch) (G : wm_G) (o d0 : Nat) (X : mm_S) (E : mm_E) (D : xg) (Hz : Heap) (k : Int32) (hNw : xv_nw X) (hWz : xx_W G o d0 X E D Hz) : xz_Met lQ G o d0 yX0_body (ws_ yX0_body cX0_body 2 (some .int)) 6 5 261 Hz [Value.ref o, .int k] (xe_P E D (xf_mkB X k)) RX3 xe_F := by
  refine xz_start (own := RX0) (by decide +kernel) (Nat.le_of_ble_eq_true rfl) rfl (fun pQ eQ sQ mQ belowQ methQ cQ hx hb hml hr hlocks htb hts hown hK hN hHz hS ls hl => ?_)
  have hl : lv_has ls 2 [(0, .ref o), (1, .int k)] := hl
  subst hHz
  have hW := hWz
  have hlim := hW.lim
  have hcap := hW.cap
  have hcl := xe_cl X
  have eN : Int32.ofNat (xx_n X) = fd_ X 4 := by rw [← hcl]; exact xb_of hcap.1
  refine lv_iload_n hx hb dX0_body_0 rfl (lv_at hl 1 rfl) ?_
  refine lv_i2l (v := (k).toInt64) hx hb dX0_body_1 rfl ?_
  refine lv_lconst (v := 0) hx hb dX0_body_2 (by decide) ?_
  refine lv_lconst (v := 1) hx hb dX0_body_3 (by decide) ?_
  refine xx_within (rest := []) k 0 1 ⟨hx, hb, hml, hown, hts⟩ rfl (by decide) (by decide) q459 hl.1 rfl rfl (Nat.le_of_ble_eq_true rfl) rfl rfl ⟨Nat.zero_le _, Nat.zero_le _⟩ dX0_body_4 (fun v4 e4 => ?_)
  refine lv_if_ne (tgt := 12) hx hb dX0_body_7 (by decide) (fun c7 => ?_) (fun c7 => ?_)
  rotate_left
  · skip
    refine lv_iconst (v := (-1)) hx hb dX0_body_10 (by decide) ?_
    have hres : xf_mkB X k = (-1, X) := by rw [xf_mkB, if_pos (e4.symm.trans c7)]
    exact xz_iret hx hb hr hlocks hW hS ⟨rfl, by rw [hres], by rw [hres], rfl⟩ (Nat.zero_le _) (Nat.zero_le _) dX0_body_11
  refine lv_aload_n hx hb dX0_body_12 rfl (lv_at hl 0 rfl) ?_
  refine xx_geti hx hb hts hown hK hW 4 rfl rfl (by decide) (by decide) q271 dX0_body_13 ?_
  refine lv_bipush (v := 120) hx hb dX0_body_16 (by decide) ?_
  refine lv_icmp_ne (tgt := 26) hx hb dX0_body_18 (by decide) (fun c120 => ?_) (fun c120 => ?_)
  rotate_left
  · skip
    refine lv_bipush (v := (-3)) hx hb dX0_body_21 (by decide) ?_
    refine lv_goto (tgt := 61) hx hb dX0_body_23 (by decide) ?_
    have hres : xf_mkB X k = (-3, X) := by rw [xf_mkB, if_neg (fun z => c7 (e4.trans z)), if_pos c120]
    exact xz_iret hx hb hr hlocks hW hS ⟨rfl, by rw [hres], by rw [hres], rfl⟩ (Nat.zero_le _) (Nat.zero_le _) dX0_body_61
  refine lv_aload_n hx hb dX0_body_26 rfl (lv_at hl 0 rfl) ?_
  refine lv_iload_n hx hb dX0_body_27 rfl (lv_at hl 1 rfl) ?_
  refine lv_if_ne (tgt := 46) hx hb dX0_body_28 (by decide) (fun c28 => ?_) (fun c28 => ?_)
  rotate_left
  · skip
    have hres : xf_mkB X k = xf_bo X (wr_ X 60 (fd_ X 4) (if k = 0 then 0 else 1)) := by rw [xf_mkB, if_neg (fun z => c7 (e4.trans z)), if_neg c120]
    have hk60 : (if k = 0 then (0 : Int32) else 1) = 0 := by rw [if_pos c28]
    refine wm_new (V := (fun k => if k = 0 then .int 0 else .null)) hx hb hts in_X6 tyX6 tyX6_ok hown q122 q481 q93 hK (ci := 4) rfl (fun j hj => ?dv31) hS (Nat.le_of_ble_eq_true rfl) (Nat.le_of_ble_eq_true rfl) dX0_body_31 (fun Ha hO hza hoa hS => ?_)
    case dv31 =>
      rcases (show j = 0 ∨ j = 1 by omega) with rfl | rfl <;> rfl
    refine lv_dup hx hb dX0_body_34 rfl ?_
    have hWa := hW.made (by omega) hoa
    refine lv_aload_n hx hb dX0_body_35 rfl (lv_at hl 0 rfl) ?_
    refine lv_aload_n hx hb dX0_body_36 rfl (lv_at hl 0 rfl) ?_
    refine xx_geti hx hb hts hown hK hWa 4 rfl rfl (by decide) (by decide) q271 dX0_body_37 ?_
    refine wn_callI (As := [.ref o, .int (fd_ X 4)]) (rest := [.ref sQ.heap.size, .ref o]) (n := 2) ⟨hx, hb, hml, hown, hts⟩ hK hN (wn_Body_4 lQ G o sQ.heap.size (fd_ X 4) _ _ hO) q484 q93 q482 q483 rfl (by decide +kernel) rfl ⟨(Nat.le_of_ble_eq_true rfl), (Nat.le_of_ble_eq_true rfl)⟩ hl.1 rfl (Nat.le_of_ble_eq_true rfl) dX0_body_40 ⟨(Nat.le_of_ble_eq_true rfl), (Nat.le_of_ble_eq_true rfl)⟩ hS (fun q h => by rw [h]; exact Or.inr (by omega)) (fun Hb locsb hp hzb hS => ?_)
    obtain ⟨Vb, hOb, hPb, hzb, hob, hAb⟩ := hp
    refine lv_goto (tgt := 58) hx hb dX0_body_43 (by decide) ?_
    have hoc : ∀ a : Nat, a < sQ.heap.size → Hb[a]? = sQ.heap[a]? := fun a ha => (hob a (by omega) (by omega)).trans (hoa a ha)
    have hsz : Hb.size = sQ.heap.size + 1 + 0 := by omega
    have hWb := hW.made (by omega) hoc
    obtain ⟨f, hf1, hf2⟩ := hWb.bod
    obtain ⟨hin, hlt, hn1⟩ := xe_in hcap.1 hcap.2.1 c120
    refine xe_callV (As := [.ref sQ.heap.size]) (rest := []) (n := 1) ⟨hx, hb, hml, hown, hts⟩ hK hN (xc_add lQ G o sQ.heap.size 0 (xx_V o D X) Vb f (fd_ X 4) Hb hWb.main rfl rfl hf1 (by decide) hOb hin) (lw_V q506 q508 qs1 q84 q509) ?rcv58 (by decide +kernel) rfl ⟨(Nat.le_of_ble_eq_true rfl), (Nat.le_of_ble_eq_true rfl)⟩ hl.1 rfl (Nat.le_of_ble_eq_true rfl) dX0_body_58 ⟨(Nat.le_of_ble_eq_true rfl), (Nat.le_of_ble_eq_true rfl)⟩ hS (fun q h => Or.inl (by rcases h with h | h <;> omega)) (fun v He locse hp hze hS => ?_)
    case rcv58 => exact wm_O.recv (q := (RX0, TX0, 59)) hK rfl hWb.main
    obtain ⟨rfl, hOe, hAe, hze2, hoe⟩ := hp
    have hoe2 : ∀ a : Nat, a ≠ o → a ≠ o + 3 → He[a]? = Hb[a]? := hoe
    have hbs : ∀ a : Nat, sQ.heap.size ≤ a → He[a]? = Hb[a]? := fun a h => hoe2 a (by omega) (by omega)
    generalize hY : wr_ X 60 (fd_ X 4) (if k = 0 then 0 else 1) = Y
    have hYe : xe_Y X Y := by rw [← hY]; exact (xe_Y.rf X).wr ⟨by decide, by decide, by decide, by decide, by decide, by decide⟩
    obtain ⟨X1, hX⟩ : ∃ X1 : mm_S, fw_ Y 4 (fd_ X 4 + 1) = X1 := ⟨_, rfl⟩
    have e60 : X1 60 (xx_n X) = 0 := by rw [← hX, ← hY, hk60]; simp [fw_, wr_, mm_up, hcl]
    have hXY : ∀ k : Nat, k ≠ 4 → k ≠ 5 → X1 k = Y k := fun k h1 h2 => by rw [← hX]; exact mm_up_k h1
    have hX0 : ∀ k : Nat, k ≠ 4 → k ≠ 5 → k < 59 → X1 k 0 = X k 0 := fun k h1 h2 h3 => by rw [hXY k h1 h2, hYe.1 k (fun z => by have := z.1; omega)]
    have e4 : X1 4 0 = fd_ X 4 + 1 := by rw [← hX]; exact mm_up_s _ _ _ _
    have e5 : X1 5 0 = X 5 0 := by rw [← hX]; show mm_up Y 4 0 _ 5 0 = _; rw [mm_up_k (by decide), hYe.1 5 (fun z => absurd z.1 (by decide))]
    have hWe : xx_W G o d0 X1 E (xg_bo D (xx_n X) sQ.heap.size 0) He := by
      refine hW.bornY (q := 0) (h := 0) hNw hYe hXY (by rw [e4]; exact hn1) hlt (by rw [e5, e4, hn1]; have := hW.rng.1; omega) (hOe.to fun k hk => ?_) (hcl ▸ hAe) hf2 (by decide) (by rw [e60]; rfl) (((hOb.to fun k hk => ?_).kept (hbs _ (Nat.le_refl _)))) (fun h1 h2 => absurd h1 (by decide)) (by omega) (fun a h1 h2 h3 => (hoe2 a h2 h3).trans (hoc a h1))
      · rw [← e4]
        exact xx_V_b hW (xg_bo_le hW 0) e5 hX0 k hk
      · rcases (show k = 0 ∨ k = 1 by have : k < 2 := hk; omega) with rfl | rfl
        · rw [hPb.1]; show Value.int (fd_ X 4) = .int (Int32.ofNat (xx_n X)); rw [eN]
        · rw [hPb.2.1]; rfl
    refine W.widen (k := 5) (n := 261) (Nat.le_of_ble_eq_true rfl) (Nat.le_of_ble_eq_true rfl) ?_
    exact xz_iret hx hb hr hlocks hWe hS ⟨rfl, by rw [hres]; rfl, by rw [hres, ← hX, ← hY]; rfl, rfl⟩ (Nat.le_refl _) (Nat.le_refl _) dX0_body_61
  · skip
    have hres : xf_mkB X k = xf_bo X (wr_ X 60 (fd_ X 4) (if k = 0 then 0 else 1)) := by rw [xf_mkB, if_neg (fun z => c7 (e4.trans z)), if_neg c120]
    have hk60 : (if k = 0 then (0 : Int32) else 1) = 1 := by rw [if_neg c28]
    refine wm_new (V := (fun k => if k = 0 then .int 0 else .null)) hx hb hts in_X7 tyX7 tyX7_ok hown q494 q495 q94 hK (ci := 5) rfl (fun j hj => ?dv46) hS (Nat.le_of_ble_eq_true rfl) (Nat.le_of_ble_eq_true rfl) dX0_body_46 (fun Ha hO hza hoa hS => ?_)
    case dv46 =>
      rcases (show j = 0 ∨ j = 1 ∨ j = 2 by omega) with rfl | rfl | rfl <;> rfl
    refine lv_dup hx hb dX0_body_49 rfl ?_
    have hWa := hW.made (by omega) hoa
    refine lv_aload_n hx hb dX0_body_50 rfl (lv_at hl 0 rfl) ?_
    refine lv_aload_n hx hb dX0_body_51 rfl (lv_at hl 0 rfl) ?_
    refine xx_geti hx hb hts hown hK hWa 4 rfl rfl (by decide) (by decide) q271 dX0_body_52 ?_
    refine wn_callI (As := [.ref o, .int (fd_ X 4)]) (rest := [.ref sQ.heap.size, .ref o]) (n := 2) ⟨hx, hb, hml, hown, hts⟩ hK hN (wn_Way_5 lQ G o sQ.heap.size (fd_ X 4) _ _ hO) q498 q94 q496 q497 rfl (by decide +kernel) rfl ⟨(Nat.le_of_ble_eq_true rfl), (Nat.le_of_ble_eq_true rfl)⟩ hl.1 rfl (Nat.le_of_ble_eq_true rfl) dX0_body_55 ⟨(Nat.le_of_ble_eq_true rfl), (Nat.le_of_ble_eq_true rfl)⟩ hS (fun q h => by rw [h]; exact Or.inr (by omega)) (fun Hb locsb hp hzb hS => ?_)
    obtain ⟨Vb, hOb, hPb, hzb, hob, hAb⟩ := hp
    have hoc : ∀ a : Nat, a < sQ.heap.size → Hb[a]? = sQ.heap[a]? := fun a ha => (hob a (by omega) (by omega)).trans (hoa a ha)
    have hsz : Hb.size = sQ.heap.size + 1 + 0 := by omega
    have hWb := hW.made (by omega) hoc
    obtain ⟨f, hf1, hf2⟩ := hWb.bod
    obtain ⟨hin, hlt, hn1⟩ := xe_in hcap.1 hcap.2.1 c120
    refine xe_callV (As := [.ref sQ.heap.size]) (rest := []) (n := 1) ⟨hx, hb, hml, hown, hts⟩ hK hN (xc_add lQ G o sQ.heap.size 1 (xx_V o D X) Vb f (fd_ X 4) Hb hWb.main rfl rfl hf1 (by decide) hOb hin) (lw_V q506 q508 qs1 q84 q509) ?rcv58 (by decide +kernel) rfl ⟨(Nat.le_of_ble_eq_true rfl), (Nat.le_of_ble_eq_true rfl)⟩ hl.1 rfl (Nat.le_of_ble_eq_true rfl) dX0_body_58 ⟨(Nat.le_of_ble_eq_true rfl), (Nat.le_of_ble_eq_true rfl)⟩ hS (fun q h => Or.inl (by rcases h with h | h <;> omega)) (fun v He locse hp hze hS => ?_)
    case rcv58 => exact wm_O.recv (q := (RX0, TX0, 59)) hK rfl hWb.main
    obtain ⟨rfl, hOe, hAe, hze2, hoe⟩ := hp
    have hoe2 : ∀ a : Nat, a ≠ o → a ≠ o + 3 → He[a]? = Hb[a]? := hoe
    have hbs : ∀ a : Nat, sQ.heap.size ≤ a → He[a]? = Hb[a]? := fun a h => hoe2 a (by omega) (by omega)
    generalize hY : wr_ X 60 (fd_ X 4) (if k = 0 then 0 else 1) = Y
    have hYe : xe_Y X Y := by rw [← hY]; exact (xe_Y.rf X).wr ⟨by decide, by decide, by decide, by decide, by decide, by decide⟩
    obtain ⟨X1, hX⟩ : ∃ X1 : mm_S, fw_ Y 4 (fd_ X 4 + 1) = X1 := ⟨_, rfl⟩
    have e60 : X1 60 (xx_n X) = 1 := by rw [← hX, ← hY, hk60]; simp [fw_, wr_, mm_up, hcl]
    have hXY : ∀ k : Nat, k ≠ 4 → k ≠ 5 → X1 k = Y k := fun k h1 h2 => by rw [← hX]; exact mm_up_k h1
    have hX0 : ∀ k : Nat, k ≠ 4 → k ≠ 5 → k < 59 → X1 k 0 = X k 0 := fun k h1 h2 h3 => by rw [hXY k h1 h2, hYe.1 k (fun z => by have := z.1; omega)]
    have e4 : X1 4 0 = fd_ X 4 + 1 := by rw [← hX]; exact mm_up_s _ _ _ _
    have e5 : X1 5 0 = X 5 0 := by rw [← hX]; show mm_up Y 4 0 _ 5 0 = _; rw [mm_up_k (by decide), hYe.1 5 (fun z => absurd z.1 (by decide))]
    have hWe : xx_W G o d0 X1 E (xg_bo D (xx_n X) sQ.heap.size 0) He := by
      refine hW.bornY (q := 1) (h := 0) hNw hYe hXY (by rw [e4]; exact hn1) hlt (by rw [e5, e4, hn1]; have := hW.rng.1; omega) (hOe.to fun k hk => ?_) (hcl ▸ hAe) hf2 (by decide) (by rw [e60]; rfl) (((hOb.to fun k hk => ?_).kept (hbs _ (Nat.le_refl _)))) (fun h1 h2 => absurd h1 (by decide)) (by omega) (fun a h1 h2 h3 => (hoe2 a h2 h3).trans (hoc a h1))
      · rw [← e4]
        exact xx_V_b hW (xg_bo_le hW 0) e5 hX0 k hk
      · rcases (show k = 0 ∨ k = 1 ∨ k = 2 by have : k < 3 := hk; omega) with rfl | rfl | rfl
        · rw [hPb.1]; show Value.int (fd_ X 4) = .int (Int32.ofNat (xx_n X)); rw [eN]
        · rw [hPb.2.1]; rfl
        · rw [hPb.2.2.1]; rfl
    refine W.widen (k := 5) (n := 261) (Nat.le_of_ble_eq_true rfl) (Nat.le_of_ble_eq_true rfl) ?_
    exact xz_iret hx hb hr hlocks hWe hS ⟨rfl, by rw [hres]; rfl, by rw [hres, ← hX, ← hY]; rfl, rfl⟩ (Nat.le_refl _) (Nat.le_refl _) dX0_body_61

set_option maxHeartbeats 4000000 in
theorem xc_hole (lQ : Launch) (G : wm_G) (o d0 : Nat) (X : mm_S) (E : mm_E) (D : xg) (Hz : Heap) (k : Int32) (w : Int32) (hNw : xv_nw X) (hWz : xx_W G o d0 X E D Hz) : xz_Met lQ G o d0 yX0_hole (ws_ yX0_hole cX0_hole 5 (some .int)) 6 5 261 Hz [Value.ref o, .int k, .int w] (xe_P E D (xf_mkH X k w)) RX3 xe_F := by
  refine xz_start (own := RX0) (by decide +kernel) (Nat.le_of_ble_eq_true rfl) rfl (fun pQ eQ sQ mQ belowQ methQ cQ hx hb hml hr hlocks htb hts hown hK hN hHz hS ls hl => ?_)
  have hl : lv_has ls 5 [(0, .ref o), (1, .int k), (2, .int w)] := hl
  subst hHz
  have hW := hWz
  have hlim := hW.lim
  have hcap := hW.cap
  have hcl := xe_cl X
  have eN : Int32.ofNat (xx_n X) = fd_ X 4 := by rw [← hcl]; exact xb_of hcap.1
  have KB : ∀ h : xf_mkH X k w = (-1, X), W pQ lQ eQ (wm_rc 6 5 261) sQ mQ ([Value.ref o, .int k, .int w] : List Value).toArray belowQ methQ cQ sQ.heap [] 0 0 (xz_Q G o d0 (xe_P E D (xf_mkH X k w)) RX3 xe_F belowQ ([Value.ref o, .int k, .int w] : List Value).toArray sQ 5 261) (F0 mQ 34 ls []) := by
    intro hres
    refine lv_iconst (v := (-1)) hx hb dX0_hole_34 (by decide) ?_
    exact xz_iret hx hb hr hlocks hW hS ⟨rfl, by rw [hres], by rw [hres], rfl⟩ (Nat.zero_le _) (Nat.zero_le _) dX0_hole_35
  refine lv_iload_n hx hb dX0_hole_0 rfl (lv_at hl 1 rfl) ?_
  refine lv_i2l (v := (k).toInt64) hx hb dX0_hole_1 rfl ?_
  refine lv_ldc2 (v := 2) hx hb hown (hts _ q514) dX0_hole_2 ?_
  refine lv_ldc2 (v := 5) hx hb hown (hts _ q515) dX0_hole_5 ?_
  refine xx_within (rest := []) k 2 5 ⟨hx, hb, hml, hown, hts⟩ rfl (by decide) (by decide) q459 hl.1 rfl rfl (Nat.le_of_ble_eq_true rfl) rfl rfl ⟨Nat.zero_le _, Nat.zero_le _⟩ dX0_hole_8 (fun v8 e8 => ?_)
  refine lv_if_eq (tgt := 34) hx hb dX0_hole_11 (by decide) (fun c11 => KB (by rw [xf_mkH, if_pos (e8.symm.trans c11)])) (fun c11 => ?_)
  have n11 : ¬ ff_in k 2 5 = 0 := fun z => c11 (e8.trans z)
  refine lv_iload_n hx hb dX0_hole_14 rfl (lv_at hl 2 rfl) ?_
  refine lv_if_lt (tgt := 34) hx hb dX0_hole_15 (by decide) (fun c15 => KB (by rw [xf_mkH, if_neg n11, if_pos c15])) (fun c15 => ?_)
  refine lv_iload_n hx hb dX0_hole_18 rfl (lv_at hl 2 rfl) ?_
  refine lv_bipush (v := 100) hx hb dX0_hole_19 (by decide) ?_
  refine nv_idiv hx hb dX0_hole_21 (by decide) (fun v21 e21 => ?_)
  refine lv_bipush (v := 32) hx hb dX0_hole_22 (by decide) ?_
  refine lv_icmp_ge (tgt := 34) hx hb dX0_hole_24 (by decide) (fun c24 => KB (by rw [xf_mkH, if_neg n11, if_neg c15, if_pos (by rw [← e21]; exact c24)])) (fun c24 => ?_)
  refine lv_iload_n hx hb dX0_hole_27 rfl (lv_at hl 2 rfl) ?_
  refine lv_bipush (v := 100) hx hb dX0_hole_28 (by decide) ?_
  refine nv_irem hx hb dX0_hole_30 (by decide) (fun v30 e30 => ?_)
  refine lv_if_ne (tgt := 36) hx hb dX0_hole_31 (by decide) (fun c31 => ?_) (fun c31 => KB (by rw [xf_mkH, if_neg n11, if_neg c15, if_neg (by rw [← e21]; exact c24), if_pos (by rw [← e30]; exact c31)]))
  refine lv_aload_n hx hb dX0_hole_36 rfl (lv_at hl 0 rfl) ?_
  refine xx_geti hx hb hts hown hK hW 4 rfl rfl (by decide) (by decide) q271 dX0_hole_37 ?_
  refine lv_bipush (v := 120) hx hb dX0_hole_40 (by decide) ?_
  have hpre : xf_mkH X k w = if fd_ X 4 = 120 then (-3, X) else xf_bo X (wr_ (wr_ (wr_ (wr_ X 60 (fd_ X 4) (if k = 2 then 2 else if k = 3 then 3 else if k = 4 then 4 else 5)) 61 (fd_ X 4) (w / 100)) 62 (fd_ X 4) (jr_ w 100)) 67 (fd_ X 4) (w / 100)) := by rw [xf_mkH, if_neg n11, if_neg c15, if_neg (by rw [← e21]; exact c24), if_neg (by rw [← e30]; exact c31)]
  refine lv_icmp_ne (tgt := 48) hx hb dX0_hole_42 (by decide) (fun c120 => ?_) (fun c120 => ?_)
  rotate_left
  · skip
    refine lv_bipush (v := (-3)) hx hb dX0_hole_45 (by decide) ?_
    have hres : xf_mkH X k w = (-3, X) := by rw [hpre, if_pos c120]
    exact xz_iret hx hb hr hlocks hW hS ⟨rfl, by rw [hres], by rw [hres], rfl⟩ (Nat.zero_le _) (Nat.zero_le _) dX0_hole_47
  rw [if_neg c120] at hpre
  refine lv_iload_n hx hb dX0_hole_48 rfl (lv_at hl 2 rfl) ?_
  refine lv_bipush (v := 100) hx hb dX0_hole_49 (by decide) ?_
  refine nv_idiv hx hb dX0_hole_51 (by decide) (fun v51 e51 => ?_)
  refine lv_istore_n (lv' := [(3, .int v51), (0, .ref o), (1, .int k), (2, .int w)]) hx hb dX0_hole_52 rfl hl (by decide) rfl (fun ls hl => ?_)
  refine lv_iload_n hx hb dX0_hole_53 rfl (lv_at hl 3 rfl) ?_
  refine lv_bipush (v := 100) hx hb dX0_hole_54 (by decide) ?_
  refine nv_irem hx hb dX0_hole_56 (by decide) (fun v56 e56 => ?_)
  refine lv_istore (lv' := [(4, .int v56), (3, .int v51), (0, .ref o), (1, .int k), (2, .int w)]) hx hb dX0_hole_57 hl (by decide) rfl (fun ls hl => ?_)
  rw [← e51, ← e56] at hpre
  refine lv_aload_n hx hb dX0_hole_59 rfl (lv_at hl 2 rfl) ?_
  refine lv_iload_n hx hb dX0_hole_60 rfl (lv_at hl 3 rfl) ?_
  refine lv_iconst (v := 2) hx hb dX0_hole_61 (by decide) ?_
  refine lv_icmp_ne (tgt := 83) hx hb dX0_hole_62 (by decide) (fun c62 => ?_) (fun c62 => ?_)
  rotate_left
  · skip
    have hk60 : (if k = 2 then (2 : Int32) else if k = 3 then 3 else if k = 4 then 4 else 5) = 2 := by rw [if_pos c62]
    refine wm_new (V := (fun k => if k = 0 then .int 0 else if k = 3 then .int 0 else if k = 4 then .int 0 else if k = 6 then .int 0 else if k = 8 then .int 0 else if k = 9 then .int 0 else if k = 10 then .int 0 else if k = 11 then .int 0 else .null)) hx hb hts in_X8 tyX8 tyX8_ok hown q124 q516 q95 hK (ci := 6) rfl (fun j hj => ?dv65) hS (Nat.le_of_ble_eq_true rfl) (Nat.le_of_ble_eq_true rfl) dX0_hole_65 (fun Ha hO hza hoa hS => ?_)
    case dv65 =>
      rcases (show j = 0 ∨ j = 1 ∨ j = 2 ∨ j = 3 ∨ j = 4 ∨ j = 5 ∨ j = 6 ∨ j = 7 ∨ j = 8 ∨ j = 9 ∨ j = 10 ∨ j = 11 ∨ j = 12 ∨ j = 13 ∨ j = 14 by omega) with rfl | rfl | rfl | rfl | rfl | rfl | rfl | rfl | rfl | rfl | rfl | rfl | rfl | rfl | rfl <;> rfl
    refine lv_dup hx hb dX0_hole_68 rfl ?_
    have hWa := hW.made (by omega) hoa
    refine lv_aload_n hx hb dX0_hole_69 rfl (lv_at hl 2 rfl) ?_
    refine lv_aload_n hx hb dX0_hole_70 rfl (lv_at hl 2 rfl) ?_
    refine xx_geti hx hb hts hown hK hWa 4 rfl rfl (by decide) (by decide) q271 dX0_hole_71 ?_
    refine lv_iload_n hx hb dX0_hole_74 rfl (lv_at hl 1 rfl) ?_
    refine lv_iload hx hb dX0_hole_75 (lv_at hl 0 rfl) ?_
    refine wn_callI (As := [.ref o, .int (fd_ X 4), .int v51, .int v56]) (rest := [.ref sQ.heap.size, .ref o]) (n := 4) ⟨hx, hb, hml, hown, hts⟩ hK hN (wn_Hole_6 lQ G o sQ.heap.size (fd_ X 4) v51 v56 _ _ hO) q519 q95 q517 q518 rfl (by decide +kernel) rfl ⟨(Nat.le_of_ble_eq_true rfl), (Nat.le_of_ble_eq_true rfl)⟩ hl.1 rfl (Nat.le_of_ble_eq_true rfl) dX0_hole_77 ⟨(Nat.le_of_ble_eq_true rfl), (Nat.le_of_ble_eq_true rfl)⟩ hS (fun q h => by rcases h with h | h <;> exact Or.inr (by omega)) (fun Hb locsb hp hzb hS => ?_)
    obtain ⟨Vb, hOb, hPb, hzb, hob, hAb⟩ := hp
    refine lv_goto (tgt := 144) hx hb dX0_hole_80 (by decide) ?_
    have hoc : ∀ a : Nat, a < sQ.heap.size → Hb[a]? = sQ.heap[a]? := fun a ha => (hob a (by omega) (by omega)).trans (hoa a ha)
    have hsz : Hb.size = sQ.heap.size + 1 + 4 := by omega
    have hWb := hW.made (by omega) hoc
    obtain ⟨f, hf1, hf2⟩ := hWb.bod
    obtain ⟨hin, hlt, hn1⟩ := xe_in hcap.1 hcap.2.1 c120
    refine xe_callV (As := [.ref sQ.heap.size]) (rest := []) (n := 1) ⟨hx, hb, hml, hown, hts⟩ hK hN (xc_add lQ G o sQ.heap.size 2 (xx_V o D X) Vb f (fd_ X 4) Hb hWb.main rfl rfl hf1 (by decide) hOb hin) (lw_V q506 q508 qs1 q84 q509) ?rcv144 (by decide +kernel) rfl ⟨(Nat.le_of_ble_eq_true rfl), (Nat.le_of_ble_eq_true rfl)⟩ hl.1 rfl (Nat.le_of_ble_eq_true rfl) dX0_hole_144 ⟨(Nat.le_of_ble_eq_true rfl), (Nat.le_of_ble_eq_true rfl)⟩ hS (fun q h => Or.inl (by rcases h with h | h <;> omega)) (fun v He locse hp hze hS => ?_)
    case rcv144 => exact wm_O.recv (q := (RX0, TX0, 59)) hK rfl hWb.main
    obtain ⟨rfl, hOe, hAe, hze2, hoe⟩ := hp
    have hoe2 : ∀ a : Nat, a ≠ o → a ≠ o + 3 → He[a]? = Hb[a]? := hoe
    have hbs : ∀ a : Nat, sQ.heap.size ≤ a → He[a]? = Hb[a]? := fun a h => hoe2 a (by omega) (by omega)
    generalize hY : wr_ (wr_ (wr_ (wr_ X 60 (fd_ X 4) (if k = 2 then 2 else if k = 3 then 3 else if k = 4 then 4 else 5)) 61 (fd_ X 4) v51) 62 (fd_ X 4) v56) 67 (fd_ X 4) v51 = Y
    have hYe : xe_Y X Y := by rw [← hY]; exact ((((xe_Y.rf X).wr ⟨by decide, by decide, by decide, by decide, by decide, by decide⟩).wr ⟨by decide, by decide, by decide, by decide, by decide, by decide⟩).wr ⟨by decide, by decide, by decide, by decide, by decide, by decide⟩).wr ⟨by decide, by decide, by decide, by decide, by decide, by decide⟩
    obtain ⟨X1, hX⟩ : ∃ X1 : mm_S, fw_ Y 4 (fd_ X 4 + 1) = X1 := ⟨_, rfl⟩
    have e61 : X1 61 (xx_n X) = v51 := by rw [← hX, ← hY]; simp [fw_, wr_, mm_up, hcl]
    have e62 : X1 62 (xx_n X) = v56 := by rw [← hX, ← hY]; simp [fw_, wr_, mm_up, hcl]
    have e64 : X1 64 (xx_n X) = 0 := by rw [← hX, ← hY]; simp [fw_, wr_, mm_up]; exact hNw.1 64 ⟨by decide, by decide, by decide, by decide, by decide, by decide⟩
    have e66 : X1 66 (xx_n X) = 0 := by rw [← hX, ← hY]; simp [fw_, wr_, mm_up]; exact hNw.1 66 ⟨by decide, by decide, by decide, by decide, by decide, by decide⟩
    have e67 : X1 67 (xx_n X) = v51 := by rw [← hX, ← hY]; simp [fw_, wr_, mm_up, hcl]
    have e68 : X1 68 (xx_n X) = 0 := by rw [← hX, ← hY]; simp [fw_, wr_, mm_up]; exact hNw.1 68 ⟨by decide, by decide, by decide, by decide, by decide, by decide⟩
    have e69 : X1 69 (xx_n X) = -1 := by rw [← hX, ← hY]; simp [fw_, wr_, mm_up]; exact hNw.1 69 ⟨by decide, by decide, by decide, by decide, by decide, by decide⟩
    have e60 : X1 60 (xx_n X) = 2 := by rw [← hX, ← hY, hk60]; simp [fw_, wr_, mm_up, hcl]
    have hXY : ∀ k : Nat, k ≠ 4 → k ≠ 5 → X1 k = Y k := fun k h1 h2 => by rw [← hX]; exact mm_up_k h1
    have hX0 : ∀ k : Nat, k ≠ 4 → k ≠ 5 → k < 59 → X1 k 0 = X k 0 := fun k h1 h2 h3 => by rw [hXY k h1 h2, hYe.1 k (fun z => by have := z.1; omega)]
    have e4 : X1 4 0 = fd_ X 4 + 1 := by rw [← hX]; exact mm_up_s _ _ _ _
    have e5 : X1 5 0 = X 5 0 := by rw [← hX]; show mm_up Y 4 0 _ 5 0 = _; rw [mm_up_k (by decide), hYe.1 5 (fun z => absurd z.1 (by decide))]
    have hWe : xx_W G o d0 X1 E (xg_bo D (xx_n X) sQ.heap.size 4) He := by
      refine hW.bornY (q := 2) (h := 4) hNw hYe hXY (by rw [e4]; exact hn1) hlt (by rw [e5, e4, hn1]; have := hW.rng.1; omega) (hOe.to fun k hk => ?_) (hcl ▸ hAe) hf2 (by decide) (by rw [e60]; rfl) (((hOb.to fun k hk => ?_).kept (hbs _ (Nat.le_refl _)))) (fun _ _ => ⟨rfl, fun j hj => ?_⟩) (by omega) (fun a h1 h2 h3 => (hoe2 a h2 h3).trans (hoc a h1))
      · rw [← e4]
        exact xx_V_b hW (xg_bo_le hW 4) e5 hX0 k hk
      · rcases (show k = 0 ∨ k = 1 ∨ k = 2 ∨ k = 3 ∨ k = 4 ∨ k = 5 ∨ k = 6 ∨ k = 7 ∨ k = 8 ∨ k = 9 ∨ k = 10 ∨ k = 11 ∨ k = 12 ∨ k = 13 ∨ k = 14 by have : k < 15 := hk; omega) with rfl | rfl | rfl | rfl | rfl | rfl | rfl | rfl | rfl | rfl | rfl | rfl | rfl | rfl | rfl
        · rw [hPb.1]; show Value.int (fd_ X 4) = .int (Int32.ofNat (xx_n X)); rw [eN]
        · rw [hPb.2.1]; rfl
        · rw [hPb.2.2.1]; rfl
        · refine (hPb.2.2.2.1).trans ?_; show _ = Value.int (X1 61 (xx_n X)); rw [e61]; try rfl
        · refine (hPb.2.2.2.2.1).trans ?_; show _ = Value.int (X1 62 (xx_n X)); rw [e62]; try rfl
        · rw [hPb.2.2.2.2.2.1]; show Value.ref _ = .ref (xg_b (xg_bo D (xx_n X) sQ.heap.size 4) (xx_n X) + 1); rw [xg_bo_b]; exact congrArg Value.ref (show Ha.size + 0 = sQ.heap.size + 1 by omega)
        · refine (hPb.2.2.2.2.2.2.2.2.2.2.2.2.1 6 (by decide) (by decide) (by decide)).trans ?_; show _ = Value.int (X1 64 (xx_n X)); rw [e64]; try rfl
        · rw [hPb.2.2.2.2.2.2.1]; show Value.ref _ = .ref (xg_b (xg_bo D (xx_n X) sQ.heap.size 4) (xx_n X) + 2); rw [xg_bo_b]; exact congrArg Value.ref (show Ha.size + 1 = sQ.heap.size + 2 by omega)
        · refine (hPb.2.2.2.2.2.2.2.2.2.2.2.2.1 8 (by decide) (by decide) (by decide)).trans ?_; show _ = Value.int (X1 66 (xx_n X)); rw [e66]; try rfl
        · refine (hPb.2.2.2.2.2.2.2.1).trans ?_; show _ = Value.int (X1 67 (xx_n X)); rw [e67]; try rfl
        · refine (hPb.2.2.2.2.2.2.2.2.2.2.2.2.1 10 (by decide) (by decide) (by decide)).trans ?_; show _ = Value.int (X1 68 (xx_n X)); rw [e68]; try rfl
        · refine (hPb.2.2.2.2.2.2.2.2.1).trans ?_; show _ = Value.int (X1 69 (xx_n X)); rw [e69]; try rfl
        · rw [hPb.2.2.2.2.2.2.2.2.2.1]; show Value.ref _ = .ref (xg_b (xg_bo D (xx_n X) sQ.heap.size 4) (xx_n X) + 3); rw [xg_bo_b]; exact congrArg Value.ref (show Ha.size + 2 = sQ.heap.size + 3 by omega)
        · rw [hPb.2.2.2.2.2.2.2.2.2.2.1]; show Value.ref _ = .ref (xg_b (xg_bo D (xx_n X) sQ.heap.size 4) (xx_n X) + 4); rw [xg_bo_b]; exact congrArg Value.ref (show Ha.size + 3 = sQ.heap.size + 4 by omega)
        · rw [hPb.2.2.2.2.2.2.2.2.2.2.2.1]; rfl
      · refine ((hAb j hj).kept (hbs _ (by omega))).at ?_
        omega
    refine W.widen (k := 5) (n := 261) (Nat.le_of_ble_eq_true rfl) (Nat.le_of_ble_eq_true rfl) ?_
    exact xz_iret hx hb hr hlocks hWe hS ⟨rfl, by rw [hpre]; rfl, by rw [hpre, ← hX, ← hY]; rfl, rfl⟩ (Nat.le_refl _) (Nat.le_refl _) dX0_hole_147
  refine lv_iload_n hx hb dX0_hole_83 rfl (lv_at hl 3 rfl) ?_
  refine lv_iconst (v := 3) hx hb dX0_hole_84 (by decide) ?_
  refine lv_icmp_ne (tgt := 106) hx hb dX0_hole_85 (by decide) (fun c85 => ?_) (fun c85 => ?_)
  rotate_left
  · skip
    have hk60 : (if k = 2 then (2 : Int32) else if k = 3 then 3 else if k = 4 then 4 else 5) = 3 := by rw [if_neg c62, if_pos c85]
    refine wm_new (V := (fun k => if k = 0 then .int 0 else if k = 3 then .int 0 else if k = 4 then .int 0 else if k = 6 then .int 0 else if k = 8 then .int 0 else if k = 9 then .int 0 else if k = 10 then .int 0 else if k = 11 then .int 0 else if k = 15 then .int 0 else .null)) hx hb hts in_X9 tyX9 tyX9_ok hown q572 q573 q96 hK (ci := 7) rfl (fun j hj => ?dv88) hS (Nat.le_of_ble_eq_true rfl) (Nat.le_of_ble_eq_true rfl) dX0_hole_88 (fun Ha hO hza hoa hS => ?_)
    case dv88 =>
      rcases (show j = 0 ∨ j = 1 ∨ j = 2 ∨ j = 3 ∨ j = 4 ∨ j = 5 ∨ j = 6 ∨ j = 7 ∨ j = 8 ∨ j = 9 ∨ j = 10 ∨ j = 11 ∨ j = 12 ∨ j = 13 ∨ j = 14 ∨ j = 15 ∨ j = 16 by omega) with rfl | rfl | rfl | rfl | rfl | rfl | rfl | rfl | rfl | rfl | rfl | rfl | rfl | rfl | rfl | rfl | rfl <;> rfl
    refine lv_dup hx hb dX0_hole_91 rfl ?_
    have hWa := hW.made (by omega) hoa
    refine lv_aload_n hx hb dX0_hole_92 rfl (lv_at hl 2 rfl) ?_
    refine lv_aload_n hx hb dX0_hole_93 rfl (lv_at hl 2 rfl) ?_
    refine xx_geti hx hb hts hown hK hWa 4 rfl rfl (by decide) (by decide) q271 dX0_hole_94 ?_
    refine lv_iload_n hx hb dX0_hole_97 rfl (lv_at hl 1 rfl) ?_
    refine lv_iload hx hb dX0_hole_98 (lv_at hl 0 rfl) ?_
    refine wn_callI (As := [.ref o, .int (fd_ X 4), .int v51, .int v56]) (rest := [.ref sQ.heap.size, .ref o]) (n := 4) ⟨hx, hb, hml, hown, hts⟩ hK hN (wn_Tube_7 lQ G o sQ.heap.size (fd_ X 4) v51 v56 _ _ hO) q576 q96 q574 q575 rfl (by decide +kernel) rfl ⟨(Nat.le_of_ble_eq_true rfl), (Nat.le_of_ble_eq_true rfl)⟩ hl.1 rfl (Nat.le_of_ble_eq_true rfl) dX0_hole_100 ⟨(Nat.le_of_ble_eq_true rfl), (Nat.le_of_ble_eq_true rfl)⟩ hS (fun q h => by rcases h with h | h <;> exact Or.inr (by omega)) (fun Hb locsb hp hzb hS => ?_)
    obtain ⟨Vb, hOb, hPb, hzb, hob, hAb⟩ := hp
    refine lv_goto (tgt := 144) hx hb dX0_hole_103 (by decide) ?_
    have hoc : ∀ a : Nat, a < sQ.heap.size → Hb[a]? = sQ.heap[a]? := fun a ha => (hob a (by omega) (by omega)).trans (hoa a ha)
    have hsz : Hb.size = sQ.heap.size + 1 + 4 := by omega
    have hWb := hW.made (by omega) hoc
    obtain ⟨f, hf1, hf2⟩ := hWb.bod
    obtain ⟨hin, hlt, hn1⟩ := xe_in hcap.1 hcap.2.1 c120
    refine xe_callV (As := [.ref sQ.heap.size]) (rest := []) (n := 1) ⟨hx, hb, hml, hown, hts⟩ hK hN (xc_add lQ G o sQ.heap.size 3 (xx_V o D X) Vb f (fd_ X 4) Hb hWb.main rfl rfl hf1 (by decide) hOb hin) (lw_V q506 q508 qs1 q84 q509) ?rcv144 (by decide +kernel) rfl ⟨(Nat.le_of_ble_eq_true rfl), (Nat.le_of_ble_eq_true rfl)⟩ hl.1 rfl (Nat.le_of_ble_eq_true rfl) dX0_hole_144 ⟨(Nat.le_of_ble_eq_true rfl), (Nat.le_of_ble_eq_true rfl)⟩ hS (fun q h => Or.inl (by rcases h with h | h <;> omega)) (fun v He locse hp hze hS => ?_)
    case rcv144 => exact wm_O.recv (q := (RX0, TX0, 59)) hK rfl hWb.main
    obtain ⟨rfl, hOe, hAe, hze2, hoe⟩ := hp
    have hoe2 : ∀ a : Nat, a ≠ o → a ≠ o + 3 → He[a]? = Hb[a]? := hoe
    have hbs : ∀ a : Nat, sQ.heap.size ≤ a → He[a]? = Hb[a]? := fun a h => hoe2 a (by omega) (by omega)
    generalize hY : wr_ (wr_ (wr_ (wr_ X 60 (fd_ X 4) (if k = 2 then 2 else if k = 3 then 3 else if k = 4 then 4 else 5)) 61 (fd_ X 4) v51) 62 (fd_ X 4) v56) 67 (fd_ X 4) v51 = Y
    have hYe : xe_Y X Y := by rw [← hY]; exact ((((xe_Y.rf X).wr ⟨by decide, by decide, by decide, by decide, by decide, by decide⟩).wr ⟨by decide, by decide, by decide, by decide, by decide, by decide⟩).wr ⟨by decide, by decide, by decide, by decide, by decide, by decide⟩).wr ⟨by decide, by decide, by decide, by decide, by decide, by decide⟩
    obtain ⟨X1, hX⟩ : ∃ X1 : mm_S, fw_ Y 4 (fd_ X 4 + 1) = X1 := ⟨_, rfl⟩
    have e61 : X1 61 (xx_n X) = v51 := by rw [← hX, ← hY]; simp [fw_, wr_, mm_up, hcl]
    have e62 : X1 62 (xx_n X) = v56 := by rw [← hX, ← hY]; simp [fw_, wr_, mm_up, hcl]
    have e64 : X1 64 (xx_n X) = 0 := by rw [← hX, ← hY]; simp [fw_, wr_, mm_up]; exact hNw.1 64 ⟨by decide, by decide, by decide, by decide, by decide, by decide⟩
    have e66 : X1 66 (xx_n X) = 0 := by rw [← hX, ← hY]; simp [fw_, wr_, mm_up]; exact hNw.1 66 ⟨by decide, by decide, by decide, by decide, by decide, by decide⟩
    have e67 : X1 67 (xx_n X) = v51 := by rw [← hX, ← hY]; simp [fw_, wr_, mm_up, hcl]
    have e68 : X1 68 (xx_n X) = 0 := by rw [← hX, ← hY]; simp [fw_, wr_, mm_up]; exact hNw.1 68 ⟨by decide, by decide, by decide, by decide, by decide, by decide⟩
    have e69 : X1 69 (xx_n X) = -1 := by rw [← hX, ← hY]; simp [fw_, wr_, mm_up]; exact hNw.1 69 ⟨by decide, by decide, by decide, by decide, by decide, by decide⟩
    have e72 : X1 72 (xx_n X) = 0 := by rw [← hX, ← hY]; simp [fw_, wr_, mm_up]; exact hNw.1 72 ⟨by decide, by decide, by decide, by decide, by decide, by decide⟩
    have e60 : X1 60 (xx_n X) = 3 := by rw [← hX, ← hY, hk60]; simp [fw_, wr_, mm_up, hcl]
    have hXY : ∀ k : Nat, k ≠ 4 → k ≠ 5 → X1 k = Y k := fun k h1 h2 => by rw [← hX]; exact mm_up_k h1
    have hX0 : ∀ k : Nat, k ≠ 4 → k ≠ 5 → k < 59 → X1 k 0 = X k 0 := fun k h1 h2 h3 => by rw [hXY k h1 h2, hYe.1 k (fun z => by have := z.1; omega)]
    have e4 : X1 4 0 = fd_ X 4 + 1 := by rw [← hX]; exact mm_up_s _ _ _ _
    have e5 : X1 5 0 = X 5 0 := by rw [← hX]; show mm_up Y 4 0 _ 5 0 = _; rw [mm_up_k (by decide), hYe.1 5 (fun z => absurd z.1 (by decide))]
    have hWe : xx_W G o d0 X1 E (xg_bo D (xx_n X) sQ.heap.size 4) He := by
      refine hW.bornY (q := 3) (h := 4) hNw hYe hXY (by rw [e4]; exact hn1) hlt (by rw [e5, e4, hn1]; have := hW.rng.1; omega) (hOe.to fun k hk => ?_) (hcl ▸ hAe) hf2 (by decide) (by rw [e60]; rfl) (((hOb.to fun k hk => ?_).kept (hbs _ (Nat.le_refl _)))) (fun _ _ => ⟨rfl, fun j hj => ?_⟩) (by omega) (fun a h1 h2 h3 => (hoe2 a h2 h3).trans (hoc a h1))
      · rw [← e4]
        exact xx_V_b hW (xg_bo_le hW 4) e5 hX0 k hk
      · rcases (show k = 0 ∨ k = 1 ∨ k = 2 ∨ k = 3 ∨ k = 4 ∨ k = 5 ∨ k = 6 ∨ k = 7 ∨ k = 8 ∨ k = 9 ∨ k = 10 ∨ k = 11 ∨ k = 12 ∨ k = 13 ∨ k = 14 ∨ k = 15 ∨ k = 16 by have : k < 17 := hk; omega) with rfl | rfl | rfl | rfl | rfl | rfl | rfl | rfl | rfl | rfl | rfl | rfl | rfl | rfl | rfl | rfl | rfl
        · rw [hPb.1]; show Value.int (fd_ X 4) = .int (Int32.ofNat (xx_n X)); rw [eN]
        · rw [hPb.2.1]; rfl
        · rw [hPb.2.2.1]; rfl
        · refine (hPb.2.2.2.1).trans ?_; show _ = Value.int (X1 61 (xx_n X)); rw [e61]; try rfl
        · refine (hPb.2.2.2.2.1).trans ?_; show _ = Value.int (X1 62 (xx_n X)); rw [e62]; try rfl
        · rw [hPb.2.2.2.2.2.1]; show Value.ref _ = .ref (xg_b (xg_bo D (xx_n X) sQ.heap.size 4) (xx_n X) + 1); rw [xg_bo_b]; exact congrArg Value.ref (show Ha.size + 0 = sQ.heap.size + 1 by omega)
        · refine (hPb.2.2.2.2.2.2.2.2.2.2.2.2.2.1 6 (by decide) (by decide) (by decide)).trans ?_; show _ = Value.int (X1 64 (xx_n X)); rw [e64]; try rfl
        · rw [hPb.2.2.2.2.2.2.1]; show Value.ref _ = .ref (xg_b (xg_bo D (xx_n X) sQ.heap.size 4) (xx_n X) + 2); rw [xg_bo_b]; exact congrArg Value.ref (show Ha.size + 1 = sQ.heap.size + 2 by omega)
        · refine (hPb.2.2.2.2.2.2.2.2.2.2.2.2.2.1 8 (by decide) (by decide) (by decide)).trans ?_; show _ = Value.int (X1 66 (xx_n X)); rw [e66]; try rfl
        · refine (hPb.2.2.2.2.2.2.2.1).trans ?_; show _ = Value.int (X1 67 (xx_n X)); rw [e67]; try rfl
        · refine (hPb.2.2.2.2.2.2.2.2.2.2.2.2.2.1 10 (by decide) (by decide) (by decide)).trans ?_; show _ = Value.int (X1 68 (xx_n X)); rw [e68]; try rfl
        · refine (hPb.2.2.2.2.2.2.2.2.1).trans ?_; show _ = Value.int (X1 69 (xx_n X)); rw [e69]; try rfl
        · rw [hPb.2.2.2.2.2.2.2.2.2.1]; show Value.ref _ = .ref (xg_b (xg_bo D (xx_n X) sQ.heap.size 4) (xx_n X) + 3); rw [xg_bo_b]; exact congrArg Value.ref (show Ha.size + 2 = sQ.heap.size + 3 by omega)
        · rw [hPb.2.2.2.2.2.2.2.2.2.2.1]; show Value.ref _ = .ref (xg_b (xg_bo D (xx_n X) sQ.heap.size 4) (xx_n X) + 4); rw [xg_bo_b]; exact congrArg Value.ref (show Ha.size + 3 = sQ.heap.size + 4 by omega)
        · rw [hPb.2.2.2.2.2.2.2.2.2.2.2.1]; rfl
        · refine (hPb.2.2.2.2.2.2.2.2.2.2.2.2.2.1 15 (by decide) (by decide) (by decide)).trans ?_; show _ = Value.int (X1 72 (xx_n X)); rw [e72]; try rfl
        · rw [hPb.2.2.2.2.2.2.2.2.2.2.2.2.1]; rfl
      · refine ((hAb j hj).kept (hbs _ (by omega))).at ?_
        omega
    refine W.widen (k := 5) (n := 261) (Nat.le_of_ble_eq_true rfl) (Nat.le_of_ble_eq_true rfl) ?_
    exact xz_iret hx hb hr hlocks hWe hS ⟨rfl, by rw [hpre]; rfl, by rw [hpre, ← hX, ← hY]; rfl, rfl⟩ (Nat.le_refl _) (Nat.le_refl _) dX0_hole_147
  refine lv_iload_n hx hb dX0_hole_106 rfl (lv_at hl 3 rfl) ?_
  refine lv_iconst (v := 4) hx hb dX0_hole_107 (by decide) ?_
  refine lv_icmp_ne (tgt := 129) hx hb dX0_hole_108 (by decide) (fun c108 => ?_) (fun c108 => ?_)
  rotate_left
  · skip
    have hk60 : (if k = 2 then (2 : Int32) else if k = 3 then 3 else if k = 4 then 4 else 5) = 4 := by rw [if_neg c62, if_neg c85, if_pos c108]
    refine wm_new (V := (fun k => if k = 0 then .int 0 else if k = 3 then .int 0 else if k = 4 then .int 0 else if k = 6 then .int 0 else if k = 8 then .int 0 else if k = 9 then .int 0 else if k = 10 then .int 0 else if k = 11 then .int 0 else .null)) hx hb hts in_X10 tyX10 tyX10_ok hown q600 q601 q97 hK (ci := 8) rfl (fun j hj => ?dv111) hS (Nat.le_of_ble_eq_true rfl) (Nat.le_of_ble_eq_true rfl) dX0_hole_111 (fun Ha hO hza hoa hS => ?_)
    case dv111 =>
      rcases (show j = 0 ∨ j = 1 ∨ j = 2 ∨ j = 3 ∨ j = 4 ∨ j = 5 ∨ j = 6 ∨ j = 7 ∨ j = 8 ∨ j = 9 ∨ j = 10 ∨ j = 11 ∨ j = 12 ∨ j = 13 ∨ j = 14 ∨ j = 15 by omega) with rfl | rfl | rfl | rfl | rfl | rfl | rfl | rfl | rfl | rfl | rfl | rfl | rfl | rfl | rfl | rfl <;> rfl
    refine lv_dup hx hb dX0_hole_114 rfl ?_
    have hWa := hW.made (by omega) hoa
    refine lv_aload_n hx hb dX0_hole_115 rfl (lv_at hl 2 rfl) ?_
    refine lv_aload_n hx hb dX0_hole_116 rfl (lv_at hl 2 rfl) ?_
    refine xx_geti hx hb hts hown hK hWa 4 rfl rfl (by decide) (by decide) q271 dX0_hole_117 ?_
    refine lv_iload_n hx hb dX0_hole_120 rfl (lv_at hl 1 rfl) ?_
    refine lv_iload hx hb dX0_hole_121 (lv_at hl 0 rfl) ?_
    refine wn_callI (As := [.ref o, .int (fd_ X 4), .int v51, .int v56]) (rest := [.ref sQ.heap.size, .ref o]) (n := 4) ⟨hx, hb, hml, hown, hts⟩ hK hN (wn_Shaft_8 lQ G o sQ.heap.size (fd_ X 4) v51 v56 _ _ hO) q604 q97 q602 q603 rfl (by decide +kernel) rfl ⟨(Nat.le_of_ble_eq_true rfl), (Nat.le_of_ble_eq_true rfl)⟩ hl.1 rfl (Nat.le_of_ble_eq_true rfl) dX0_hole_123 ⟨(Nat.le_of_ble_eq_true rfl), (Nat.le_of_ble_eq_true rfl)⟩ hS (fun q h => by rcases h with h | h <;> exact Or.inr (by omega)) (fun Hb locsb hp hzb hS => ?_)
    obtain ⟨Vb, hOb, hPb, hzb, hob, hAb⟩ := hp
    refine lv_goto (tgt := 144) hx hb dX0_hole_126 (by decide) ?_
    have hoc : ∀ a : Nat, a < sQ.heap.size → Hb[a]? = sQ.heap[a]? := fun a ha => (hob a (by omega) (by omega)).trans (hoa a ha)
    have hsz : Hb.size = sQ.heap.size + 1 + 4 := by omega
    have hWb := hW.made (by omega) hoc
    obtain ⟨f, hf1, hf2⟩ := hWb.bod
    obtain ⟨hin, hlt, hn1⟩ := xe_in hcap.1 hcap.2.1 c120
    refine xe_callV (As := [.ref sQ.heap.size]) (rest := []) (n := 1) ⟨hx, hb, hml, hown, hts⟩ hK hN (xc_add lQ G o sQ.heap.size 4 (xx_V o D X) Vb f (fd_ X 4) Hb hWb.main rfl rfl hf1 (by decide) hOb hin) (lw_V q506 q508 qs1 q84 q509) ?rcv144 (by decide +kernel) rfl ⟨(Nat.le_of_ble_eq_true rfl), (Nat.le_of_ble_eq_true rfl)⟩ hl.1 rfl (Nat.le_of_ble_eq_true rfl) dX0_hole_144 ⟨(Nat.le_of_ble_eq_true rfl), (Nat.le_of_ble_eq_true rfl)⟩ hS (fun q h => Or.inl (by rcases h with h | h <;> omega)) (fun v He locse hp hze hS => ?_)
    case rcv144 => exact wm_O.recv (q := (RX0, TX0, 59)) hK rfl hWb.main
    obtain ⟨rfl, hOe, hAe, hze2, hoe⟩ := hp
    have hoe2 : ∀ a : Nat, a ≠ o → a ≠ o + 3 → He[a]? = Hb[a]? := hoe
    have hbs : ∀ a : Nat, sQ.heap.size ≤ a → He[a]? = Hb[a]? := fun a h => hoe2 a (by omega) (by omega)
    generalize hY : wr_ (wr_ (wr_ (wr_ X 60 (fd_ X 4) (if k = 2 then 2 else if k = 3 then 3 else if k = 4 then 4 else 5)) 61 (fd_ X 4) v51) 62 (fd_ X 4) v56) 67 (fd_ X 4) v51 = Y
    have hYe : xe_Y X Y := by rw [← hY]; exact ((((xe_Y.rf X).wr ⟨by decide, by decide, by decide, by decide, by decide, by decide⟩).wr ⟨by decide, by decide, by decide, by decide, by decide, by decide⟩).wr ⟨by decide, by decide, by decide, by decide, by decide, by decide⟩).wr ⟨by decide, by decide, by decide, by decide, by decide, by decide⟩
    obtain ⟨X1, hX⟩ : ∃ X1 : mm_S, fw_ Y 4 (fd_ X 4 + 1) = X1 := ⟨_, rfl⟩
    have e61 : X1 61 (xx_n X) = v51 := by rw [← hX, ← hY]; simp [fw_, wr_, mm_up, hcl]
    have e62 : X1 62 (xx_n X) = v56 := by rw [← hX, ← hY]; simp [fw_, wr_, mm_up, hcl]
    have e64 : X1 64 (xx_n X) = 0 := by rw [← hX, ← hY]; simp [fw_, wr_, mm_up]; exact hNw.1 64 ⟨by decide, by decide, by decide, by decide, by decide, by decide⟩
    have e66 : X1 66 (xx_n X) = 0 := by rw [← hX, ← hY]; simp [fw_, wr_, mm_up]; exact hNw.1 66 ⟨by decide, by decide, by decide, by decide, by decide, by decide⟩
    have e67 : X1 67 (xx_n X) = v51 := by rw [← hX, ← hY]; simp [fw_, wr_, mm_up, hcl]
    have e68 : X1 68 (xx_n X) = 0 := by rw [← hX, ← hY]; simp [fw_, wr_, mm_up]; exact hNw.1 68 ⟨by decide, by decide, by decide, by decide, by decide, by decide⟩
    have e69 : X1 69 (xx_n X) = -1 := by rw [← hX, ← hY]; simp [fw_, wr_, mm_up]; exact hNw.1 69 ⟨by decide, by decide, by decide, by decide, by decide, by decide⟩
    have e60 : X1 60 (xx_n X) = 4 := by rw [← hX, ← hY, hk60]; simp [fw_, wr_, mm_up, hcl]
    have hXY : ∀ k : Nat, k ≠ 4 → k ≠ 5 → X1 k = Y k := fun k h1 h2 => by rw [← hX]; exact mm_up_k h1
    have hX0 : ∀ k : Nat, k ≠ 4 → k ≠ 5 → k < 59 → X1 k 0 = X k 0 := fun k h1 h2 h3 => by rw [hXY k h1 h2, hYe.1 k (fun z => by have := z.1; omega)]
    have e4 : X1 4 0 = fd_ X 4 + 1 := by rw [← hX]; exact mm_up_s _ _ _ _
    have e5 : X1 5 0 = X 5 0 := by rw [← hX]; show mm_up Y 4 0 _ 5 0 = _; rw [mm_up_k (by decide), hYe.1 5 (fun z => absurd z.1 (by decide))]
    have hWe : xx_W G o d0 X1 E (xg_bo D (xx_n X) sQ.heap.size 4) He := by
      refine hW.bornY (q := 4) (h := 4) hNw hYe hXY (by rw [e4]; exact hn1) hlt (by rw [e5, e4, hn1]; have := hW.rng.1; omega) (hOe.to fun k hk => ?_) (hcl ▸ hAe) hf2 (by decide) (by rw [e60]; rfl) (((hOb.to fun k hk => ?_).kept (hbs _ (Nat.le_refl _)))) (fun _ _ => ⟨rfl, fun j hj => ?_⟩) (by omega) (fun a h1 h2 h3 => (hoe2 a h2 h3).trans (hoc a h1))
      · rw [← e4]
        exact xx_V_b hW (xg_bo_le hW 4) e5 hX0 k hk
      · rcases (show k = 0 ∨ k = 1 ∨ k = 2 ∨ k = 3 ∨ k = 4 ∨ k = 5 ∨ k = 6 ∨ k = 7 ∨ k = 8 ∨ k = 9 ∨ k = 10 ∨ k = 11 ∨ k = 12 ∨ k = 13 ∨ k = 14 ∨ k = 15 by have : k < 16 := hk; omega) with rfl | rfl | rfl | rfl | rfl | rfl | rfl | rfl | rfl | rfl | rfl | rfl | rfl | rfl | rfl | rfl
        · rw [hPb.1]; show Value.int (fd_ X 4) = .int (Int32.ofNat (xx_n X)); rw [eN]
        · rw [hPb.2.1]; rfl
        · rw [hPb.2.2.1]; rfl
        · refine (hPb.2.2.2.1).trans ?_; show _ = Value.int (X1 61 (xx_n X)); rw [e61]; try rfl
        · refine (hPb.2.2.2.2.1).trans ?_; show _ = Value.int (X1 62 (xx_n X)); rw [e62]; try rfl
        · rw [hPb.2.2.2.2.2.1]; show Value.ref _ = .ref (xg_b (xg_bo D (xx_n X) sQ.heap.size 4) (xx_n X) + 1); rw [xg_bo_b]; exact congrArg Value.ref (show Ha.size + 0 = sQ.heap.size + 1 by omega)
        · refine (hPb.2.2.2.2.2.2.2.2.2.2.2.2.2.1 6 (by decide) (by decide) (by decide)).trans ?_; show _ = Value.int (X1 64 (xx_n X)); rw [e64]; try rfl
        · rw [hPb.2.2.2.2.2.2.1]; show Value.ref _ = .ref (xg_b (xg_bo D (xx_n X) sQ.heap.size 4) (xx_n X) + 2); rw [xg_bo_b]; exact congrArg Value.ref (show Ha.size + 1 = sQ.heap.size + 2 by omega)
        · refine (hPb.2.2.2.2.2.2.2.2.2.2.2.2.2.1 8 (by decide) (by decide) (by decide)).trans ?_; show _ = Value.int (X1 66 (xx_n X)); rw [e66]; try rfl
        · refine (hPb.2.2.2.2.2.2.2.1).trans ?_; show _ = Value.int (X1 67 (xx_n X)); rw [e67]; try rfl
        · refine (hPb.2.2.2.2.2.2.2.2.2.2.2.2.2.1 10 (by decide) (by decide) (by decide)).trans ?_; show _ = Value.int (X1 68 (xx_n X)); rw [e68]; try rfl
        · refine (hPb.2.2.2.2.2.2.2.2.1).trans ?_; show _ = Value.int (X1 69 (xx_n X)); rw [e69]; try rfl
        · rw [hPb.2.2.2.2.2.2.2.2.2.1]; show Value.ref _ = .ref (xg_b (xg_bo D (xx_n X) sQ.heap.size 4) (xx_n X) + 3); rw [xg_bo_b]; exact congrArg Value.ref (show Ha.size + 2 = sQ.heap.size + 3 by omega)
        · rw [hPb.2.2.2.2.2.2.2.2.2.2.1]; show Value.ref _ = .ref (xg_b (xg_bo D (xx_n X) sQ.heap.size 4) (xx_n X) + 4); rw [xg_bo_b]; exact congrArg Value.ref (show Ha.size + 3 = sQ.heap.size + 4 by omega)
        · rw [hPb.2.2.2.2.2.2.2.2.2.2.2.1]; rfl
        · rw [hPb.2.2.2.2.2.2.2.2.2.2.2.2.1]; rfl
      · refine ((hAb j hj).kept (hbs _ (by omega))).at ?_
        omega
    refine W.widen (k := 5) (n := 261) (Nat.le_of_ble_eq_true rfl) (Nat.le_of_ble_eq_true rfl) ?_
    exact xz_iret hx hb hr hlocks hWe hS ⟨rfl, by rw [hpre]; rfl, by rw [hpre, ← hX, ← hY]; rfl, rfl⟩ (Nat.le_refl _) (Nat.le_refl _) dX0_hole_147
  have hk60 : (if k = 2 then (2 : Int32) else if k = 3 then 3 else if k = 4 then 4 else 5) = 5 := by rw [if_neg c62, if_neg c85, if_neg c108]
  refine wm_new (V := (fun k => if k = 0 then .int 0 else if k = 3 then .int 0 else if k = 4 then .int 0 else if k = 6 then .int 0 else if k = 8 then .int 0 else if k = 9 then .int 0 else if k = 10 then .int 0 else if k = 11 then .int 0 else .null)) hx hb hts in_X11 tyX11 tyX11_ok hown q625 q626 q98 hK (ci := 9) rfl (fun j hj => ?dv129) hS (Nat.le_of_ble_eq_true rfl) (Nat.le_of_ble_eq_true rfl) dX0_hole_129 (fun Ha hO hza hoa hS => ?_)
  case dv129 =>
    rcases (show j = 0 ∨ j = 1 ∨ j = 2 ∨ j = 3 ∨ j = 4 ∨ j = 5 ∨ j = 6 ∨ j = 7 ∨ j = 8 ∨ j = 9 ∨ j = 10 ∨ j = 11 ∨ j = 12 ∨ j = 13 ∨ j = 14 ∨ j = 15 ∨ j = 16 by omega) with rfl | rfl | rfl | rfl | rfl | rfl | rfl | rfl | rfl | rfl | rfl | rfl | rfl | rfl | rfl | rfl | rfl <;> rfl
  refine lv_dup hx hb dX0_hole_132 rfl ?_
  have hWa := hW.made (by omega) hoa
  refine lv_aload_n hx hb dX0_hole_133 rfl (lv_at hl 2 rfl) ?_
  refine lv_aload_n hx hb dX0_hole_134 rfl (lv_at hl 2 rfl) ?_
  refine xx_geti hx hb hts hown hK hWa 4 rfl rfl (by decide) (by decide) q271 dX0_hole_135 ?_
  refine lv_iload_n hx hb dX0_hole_138 rfl (lv_at hl 1 rfl) ?_
  refine lv_iload hx hb dX0_hole_139 (lv_at hl 0 rfl) ?_
  refine wn_callI (As := [.ref o, .int (fd_ X 4), .int v51, .int v56]) (rest := [.ref sQ.heap.size, .ref o]) (n := 4) ⟨hx, hb, hml, hown, hts⟩ hK hN (wn_Liner_9 lQ G o sQ.heap.size (fd_ X 4) v51 v56 _ _ hO) q629 q98 q627 q628 rfl (by decide +kernel) rfl ⟨(Nat.le_of_ble_eq_true rfl), (Nat.le_of_ble_eq_true rfl)⟩ hl.1 rfl (Nat.le_of_ble_eq_true rfl) dX0_hole_141 ⟨(Nat.le_of_ble_eq_true rfl), (Nat.le_of_ble_eq_true rfl)⟩ hS (fun q h => by rcases h with h | h <;> exact Or.inr (by omega)) (fun Hb locsb hp hzb hS => ?_)
  obtain ⟨Vb, hOb, hPb, hzb, hob, hAb⟩ := hp
  have hoc : ∀ a : Nat, a < sQ.heap.size → Hb[a]? = sQ.heap[a]? := fun a ha => (hob a (by omega) (by omega)).trans (hoa a ha)
  have hsz : Hb.size = sQ.heap.size + 1 + 4 := by omega
  have hWb := hW.made (by omega) hoc
  obtain ⟨f, hf1, hf2⟩ := hWb.bod
  obtain ⟨hin, hlt, hn1⟩ := xe_in hcap.1 hcap.2.1 c120
  refine xe_callV (As := [.ref sQ.heap.size]) (rest := []) (n := 1) ⟨hx, hb, hml, hown, hts⟩ hK hN (xc_add lQ G o sQ.heap.size 5 (xx_V o D X) Vb f (fd_ X 4) Hb hWb.main rfl rfl hf1 (by decide) hOb hin) (lw_V q506 q508 qs1 q84 q509) ?rcv144 (by decide +kernel) rfl ⟨(Nat.le_of_ble_eq_true rfl), (Nat.le_of_ble_eq_true rfl)⟩ hl.1 rfl (Nat.le_of_ble_eq_true rfl) dX0_hole_144 ⟨(Nat.le_of_ble_eq_true rfl), (Nat.le_of_ble_eq_true rfl)⟩ hS (fun q h => Or.inl (by rcases h with h | h <;> omega)) (fun v He locse hp hze hS => ?_)
  case rcv144 => exact wm_O.recv (q := (RX0, TX0, 59)) hK rfl hWb.main
  obtain ⟨rfl, hOe, hAe, hze2, hoe⟩ := hp
  have hoe2 : ∀ a : Nat, a ≠ o → a ≠ o + 3 → He[a]? = Hb[a]? := hoe
  have hbs : ∀ a : Nat, sQ.heap.size ≤ a → He[a]? = Hb[a]? := fun a h => hoe2 a (by omega) (by omega)
  generalize hY : wr_ (wr_ (wr_ (wr_ X 60 (fd_ X 4) (if k = 2 then 2 else if k = 3 then 3 else if k = 4 then 4 else 5)) 61 (fd_ X 4) v51) 62 (fd_ X 4) v56) 67 (fd_ X 4) v51 = Y
  have hYe : xe_Y X Y := by rw [← hY]; exact ((((xe_Y.rf X).wr ⟨by decide, by decide, by decide, by decide, by decide, by decide⟩).wr ⟨by decide, by decide, by decide, by decide, by decide, by decide⟩).wr ⟨by decide, by decide, by decide, by decide, by decide, by decide⟩).wr ⟨by decide, by decide, by decide, by decide, by decide, by decide⟩
  obtain ⟨X1, hX⟩ : ∃ X1 : mm_S, fw_ Y 4 (fd_ X 4 + 1) = X1 := ⟨_, rfl⟩
  have e61 : X1 61 (xx_n X) = v51 := by rw [← hX, ← hY]; simp [fw_, wr_, mm_up, hcl]
  have e62 : X1 62 (xx_n X) = v56 := by rw [← hX, ← hY]; simp [fw_, wr_, mm_up, hcl]
  have e64 : X1 64 (xx_n X) = 0 := by rw [← hX, ← hY]; simp [fw_, wr_, mm_up]; exact hNw.1 64 ⟨by decide, by decide, by decide, by decide, by decide, by decide⟩
  have e66 : X1 66 (xx_n X) = 0 := by rw [← hX, ← hY]; simp [fw_, wr_, mm_up]; exact hNw.1 66 ⟨by decide, by decide, by decide, by decide, by decide, by decide⟩
  have e67 : X1 67 (xx_n X) = v51 := by rw [← hX, ← hY]; simp [fw_, wr_, mm_up, hcl]
  have e68 : X1 68 (xx_n X) = 0 := by rw [← hX, ← hY]; simp [fw_, wr_, mm_up]; exact hNw.1 68 ⟨by decide, by decide, by decide, by decide, by decide, by decide⟩
  have e69 : X1 69 (xx_n X) = -1 := by rw [← hX, ← hY]; simp [fw_, wr_, mm_up]; exact hNw.1 69 ⟨by decide, by decide, by decide, by decide, by decide, by decide⟩
  have e60 : X1 60 (xx_n X) = 5 := by rw [← hX, ← hY, hk60]; simp [fw_, wr_, mm_up, hcl]
  have hXY : ∀ k : Nat, k ≠ 4 → k ≠ 5 → X1 k = Y k := fun k h1 h2 => by rw [← hX]; exact mm_up_k h1
  have hX0 : ∀ k : Nat, k ≠ 4 → k ≠ 5 → k < 59 → X1 k 0 = X k 0 := fun k h1 h2 h3 => by rw [hXY k h1 h2, hYe.1 k (fun z => by have := z.1; omega)]
  have e4 : X1 4 0 = fd_ X 4 + 1 := by rw [← hX]; exact mm_up_s _ _ _ _
  have e5 : X1 5 0 = X 5 0 := by rw [← hX]; show mm_up Y 4 0 _ 5 0 = _; rw [mm_up_k (by decide), hYe.1 5 (fun z => absurd z.1 (by decide))]
  have hWe : xx_W G o d0 X1 E (xg_bo D (xx_n X) sQ.heap.size 4) He := by
    refine hW.bornY (q := 5) (h := 4) hNw hYe hXY (by rw [e4]; exact hn1) hlt (by rw [e5, e4, hn1]; have := hW.rng.1; omega) (hOe.to fun k hk => ?_) (hcl ▸ hAe) hf2 (by decide) (by rw [e60]; rfl) (((hOb.to fun k hk => ?_).kept (hbs _ (Nat.le_refl _)))) (fun _ _ => ⟨rfl, fun j hj => ?_⟩) (by omega) (fun a h1 h2 h3 => (hoe2 a h2 h3).trans (hoc a h1))
    · rw [← e4]
      exact xx_V_b hW (xg_bo_le hW 4) e5 hX0 k hk
    · rcases (show k = 0 ∨ k = 1 ∨ k = 2 ∨ k = 3 ∨ k = 4 ∨ k = 5 ∨ k = 6 ∨ k = 7 ∨ k = 8 ∨ k = 9 ∨ k = 10 ∨ k = 11 ∨ k = 12 ∨ k = 13 ∨ k = 14 ∨ k = 15 ∨ k = 16 by have : k < 17 := hk; omega) with rfl | rfl | rfl | rfl | rfl | rfl | rfl | rfl | rfl | rfl | rfl | rfl | rfl | rfl | rfl | rfl | rfl
      · rw [hPb.1]; show Value.int (fd_ X 4) = .int (Int32.ofNat (xx_n X)); rw [eN]
      · rw [hPb.2.1]; rfl
      · rw [hPb.2.2.1]; rfl
      · refine (hPb.2.2.2.1).trans ?_; show _ = Value.int (X1 61 (xx_n X)); rw [e61]; try rfl
      · refine (hPb.2.2.2.2.1).trans ?_; show _ = Value.int (X1 62 (xx_n X)); rw [e62]; try rfl
      · rw [hPb.2.2.2.2.2.1]; show Value.ref _ = .ref (xg_b (xg_bo D (xx_n X) sQ.heap.size 4) (xx_n X) + 1); rw [xg_bo_b]; exact congrArg Value.ref (show Ha.size + 0 = sQ.heap.size + 1 by omega)
      · refine (hPb.2.2.2.2.2.2.2.2.2.2.2.2.2.2.1 6 (by decide) (by decide) (by decide)).trans ?_; show _ = Value.int (X1 64 (xx_n X)); rw [e64]; try rfl
      · rw [hPb.2.2.2.2.2.2.1]; show Value.ref _ = .ref (xg_b (xg_bo D (xx_n X) sQ.heap.size 4) (xx_n X) + 2); rw [xg_bo_b]; exact congrArg Value.ref (show Ha.size + 1 = sQ.heap.size + 2 by omega)
      · refine (hPb.2.2.2.2.2.2.2.2.2.2.2.2.2.2.1 8 (by decide) (by decide) (by decide)).trans ?_; show _ = Value.int (X1 66 (xx_n X)); rw [e66]; try rfl
      · refine (hPb.2.2.2.2.2.2.2.1).trans ?_; show _ = Value.int (X1 67 (xx_n X)); rw [e67]; try rfl
      · refine (hPb.2.2.2.2.2.2.2.2.2.2.2.2.2.2.1 10 (by decide) (by decide) (by decide)).trans ?_; show _ = Value.int (X1 68 (xx_n X)); rw [e68]; try rfl
      · refine (hPb.2.2.2.2.2.2.2.2.1).trans ?_; show _ = Value.int (X1 69 (xx_n X)); rw [e69]; try rfl
      · rw [hPb.2.2.2.2.2.2.2.2.2.1]; show Value.ref _ = .ref (xg_b (xg_bo D (xx_n X) sQ.heap.size 4) (xx_n X) + 3); rw [xg_bo_b]; exact congrArg Value.ref (show Ha.size + 2 = sQ.heap.size + 3 by omega)
      · rw [hPb.2.2.2.2.2.2.2.2.2.2.1]; show Value.ref _ = .ref (xg_b (xg_bo D (xx_n X) sQ.heap.size 4) (xx_n X) + 4); rw [xg_bo_b]; exact congrArg Value.ref (show Ha.size + 3 = sQ.heap.size + 4 by omega)
      · rw [hPb.2.2.2.2.2.2.2.2.2.2.2.1]; rfl
      · rw [hPb.2.2.2.2.2.2.2.2.2.2.2.2.1]; rfl
      · rw [hPb.2.2.2.2.2.2.2.2.2.2.2.2.2.1]; rfl
    · refine ((hAb j hj).kept (hbs _ (by omega))).at ?_
      omega
  refine W.widen (k := 5) (n := 261) (Nat.le_of_ble_eq_true rfl) (Nat.le_of_ble_eq_true rfl) ?_
  exact xz_iret hx hb hr hlocks hWe hS ⟨rfl, by rw [hpre]; rfl, by rw [hpre, ← hX, ← hY]; rfl, rfl⟩ (Nat.le_refl _) (Nat.le_refl _) dX0_hole_147

set_option maxHeartbeats 4000000 in
theorem xc_shelter (lQ : Launch) (G : wm_G) (o d0 : Nat) (X : mm_S) (E : mm_E) (D : xg) (Hz : Heap) (u : Int32) (y : Int32) (hNw : xv_nw X) (hWz : xx_W G o d0 X E D Hz) : xz_Met lQ G o d0 yX0_shelter (ws_ yX0_shelter cX0_shelter 3 (some .int)) 6 5 261 Hz [Value.ref o, .int u, .int y] (xe_P E D (xf_mkS X u y)) RX3 xe_F := by
  refine xz_start (own := RX0) (by decide +kernel) (Nat.le_of_ble_eq_true rfl) rfl (fun pQ eQ sQ mQ belowQ methQ cQ hx hb hml hr hlocks htb hts hown hK hN hHz hS ls hl => ?_)
  have hl : lv_has ls 3 [(0, .ref o), (1, .int u), (2, .int y)] := hl
  subst hHz
  have hW := hWz
  have hlim := hW.lim
  have hcap := hW.cap
  have hcl := xe_cl X
  have eN : Int32.ofNat (xx_n X) = fd_ X 4 := by rw [← hcl]; exact xb_of hcap.1
  have KB : ∀ h : xf_mkS X u y = (-1, X), W pQ lQ eQ (wm_rc 6 5 261) sQ mQ ([Value.ref o, .int u, .int y] : List Value).toArray belowQ methQ cQ sQ.heap [] 0 0 (xz_Q G o d0 (xe_P E D (xf_mkS X u y)) RX3 xe_F belowQ ([Value.ref o, .int u, .int y] : List Value).toArray sQ 5 261) (F0 mQ 19 ls []) := by
    intro hres
    refine lv_iconst (v := (-1)) hx hb dX0_shelter_19 (by decide) ?_
    exact xz_iret hx hb hr hlocks hW hS ⟨rfl, by rw [hres], by rw [hres], rfl⟩ (Nat.zero_le _) (Nat.zero_le _) dX0_shelter_20
  refine lv_iload_n hx hb dX0_shelter_0 rfl (lv_at hl 1 rfl) ?_
  refine pp_calli (As := [.int u]) (rest := []) (n := 1) ⟨hx, hb, hml, hown, hts⟩ (xc_isSpan lQ u) (lw_S q655 q656 q84 q657) (by decide +kernel) rfl ⟨(Nat.le_of_ble_eq_true rfl), (Nat.le_of_ble_eq_true rfl)⟩ hl.1 rfl (Nat.le_of_ble_eq_true rfl) dX0_shelter_1 ⟨Nat.zero_le _, Nat.zero_le _⟩ (fun v1 e1 => ?_)
  refine lv_if_eq (tgt := 19) hx hb dX0_shelter_4 (by decide) (fun c4 => KB (by rw [xf_mkS, if_pos (e1.symm.trans c4)])) (fun c4 => ?_)
  have n4 : ¬ ff_isSpan u = 0 := fun z => c4 (e1.trans z)
  refine lv_iload_n hx hb dX0_shelter_7 rfl (lv_at hl 2 rfl) ?_
  refine lv_i2l (v := (y).toInt64) hx hb dX0_shelter_8 rfl ?_
  refine lv_lconst (v := 1) hx hb dX0_shelter_9 (by decide) ?_
  refine lv_ldc2 (v := 60) hx hb hown (hts _ q458) dX0_shelter_10 ?_
  refine xx_within (rest := []) y 1 60 ⟨hx, hb, hml, hown, hts⟩ rfl (by decide) (by decide) q459 hl.1 rfl rfl (Nat.le_of_ble_eq_true rfl) rfl rfl ⟨Nat.zero_le _, Nat.zero_le _⟩ dX0_shelter_13 (fun v13 e13 => ?_)
  refine lv_if_ne (tgt := 21) hx hb dX0_shelter_16 (by decide) (fun c16 => ?_) (fun c16 => KB (by rw [xf_mkS, if_neg n4, if_pos (e13.symm.trans c16)]))
  have n16 : ¬ ff_in y 1 60 = 0 := fun z => c16 (e13.trans z)
  refine lv_aload_n hx hb dX0_shelter_21 rfl (lv_at hl 0 rfl) ?_
  refine xx_gets hx hb hts hown hK hW q272 dX0_shelter_22 ?_
  rw [xx_b_rf]
  refine xl_ifnull (tgt := 31) hx hb dX0_shelter_25 (by decide) (fun c25 => ?_) (fun c25 => ?_)
  rotate_left
  · skip
    refine lv_bipush (v := (-2)) hx hb dX0_shelter_28 (by decide) ?_
    have hres : xf_mkS X u y = (-2, X) := by rw [xf_mkS, if_neg n4, if_neg n16, if_pos c25]
    exact xz_iret hx hb hr hlocks hW hS ⟨rfl, by rw [hres], by rw [hres], rfl⟩ (Nat.zero_le _) (Nat.zero_le _) dX0_shelter_30
  refine lv_aload_n hx hb dX0_shelter_31 rfl (lv_at hl 0 rfl) ?_
  refine xx_geti hx hb hts hown hK hW 4 rfl rfl (by decide) (by decide) q271 dX0_shelter_32 ?_
  refine lv_bipush (v := 120) hx hb dX0_shelter_35 (by decide) ?_
  refine lv_icmp_ne (tgt := 43) hx hb dX0_shelter_37 (by decide) (fun c120 => ?_) (fun c120 => ?_)
  rotate_left
  · skip
    refine lv_bipush (v := (-3)) hx hb dX0_shelter_40 (by decide) ?_
    have hres : xf_mkS X u y = (-3, X) := by rw [xf_mkS, if_neg n4, if_neg n16, if_neg (fun z => z c25), if_pos c120]
    exact xz_iret hx hb hr hlocks hW hS ⟨rfl, by rw [hres], by rw [hres], rfl⟩ (Nat.zero_le _) (Nat.zero_le _) dX0_shelter_42
  refine lv_aload_n hx hb dX0_shelter_43 rfl (lv_at hl 0 rfl) ?_
  have hres : xf_mkS X u y = xf_bo X (fw_ (wr_ (wr_ (wr_ (wr_ X 60 (fd_ X 4) 6) 73 (fd_ X 4) (u / 100)) 74 (fd_ X 4) (jr_ u 100)) 75 (fd_ X 4) y) 5 (fd_ X 4)) := by rw [xf_mkS, if_neg n4, if_neg n16, if_neg (fun z => z c25), if_neg c120]
  refine wm_new (V := (fun k => if k = 0 then .int 0 else if k = 3 then .int 0 else if k = 4 then .int 0 else if k = 5 then .int 0 else if k = 6 then .int 0 else .null)) hx hb hts in_X12 tyX12 tyX12_ok hown q658 q659 q99 hK (ci := 10) rfl (fun j hj => ?dv44) hS (Nat.le_of_ble_eq_true rfl) (Nat.le_of_ble_eq_true rfl) dX0_shelter_44 (fun Ha hO hza hoa hS => ?_)
  case dv44 =>
    rcases (show j = 0 ∨ j = 1 ∨ j = 2 ∨ j = 3 ∨ j = 4 ∨ j = 5 ∨ j = 6 ∨ j = 7 by omega) with rfl | rfl | rfl | rfl | rfl | rfl | rfl | rfl <;> rfl
  refine lv_dup hx hb dX0_shelter_47 rfl ?_
  have hWa := hW.made (by omega) hoa
  refine lv_aload_n hx hb dX0_shelter_48 rfl (lv_at hl 0 rfl) ?_
  refine lv_aload_n hx hb dX0_shelter_49 rfl (lv_at hl 0 rfl) ?_
  refine xx_geti hx hb hts hown hK hWa 4 rfl rfl (by decide) (by decide) q271 dX0_shelter_50 ?_
  refine lv_iload_n hx hb dX0_shelter_53 rfl (lv_at hl 1 rfl) ?_
  refine lv_bipush (v := 100) hx hb dX0_shelter_54 (by decide) ?_
  refine nv_idiv hx hb dX0_shelter_56 (by decide) (fun v56 e56 => ?_)
  refine lv_iload_n hx hb dX0_shelter_57 rfl (lv_at hl 1 rfl) ?_
  refine lv_bipush (v := 100) hx hb dX0_shelter_58 (by decide) ?_
  refine nv_irem hx hb dX0_shelter_60 (by decide) (fun v60 e60' => ?_)
  refine lv_iload_n hx hb dX0_shelter_61 rfl (lv_at hl 2 rfl) ?_
  rw [← e56, ← e60'] at hres
  refine wn_callI (As := [.ref o, .int (fd_ X 4), .int v56, .int v60, .int y]) (rest := [.ref sQ.heap.size, .ref o]) (n := 5) ⟨hx, hb, hml, hown, hts⟩ hK hN (wn_Shelter_10 lQ G o sQ.heap.size (fd_ X 4) v56 v60 y _ _ hO) q662 q99 q660 q661 rfl (by decide +kernel) rfl ⟨(Nat.le_of_ble_eq_true rfl), (Nat.le_of_ble_eq_true rfl)⟩ hl.1 rfl (Nat.le_of_ble_eq_true rfl) dX0_shelter_62 ⟨(Nat.le_of_ble_eq_true rfl), (Nat.le_of_ble_eq_true rfl)⟩ hS (fun q h => by rw [h]; exact Or.inr (by omega)) (fun Hb locsb hp hzb hS => ?_)
  obtain ⟨Vb, hOb, hPb, hzb, hob, hAb⟩ := hp
  have hoc : ∀ a : Nat, a < sQ.heap.size → Hb[a]? = sQ.heap[a]? := fun a ha => (hob a (by omega) (by omega)).trans (hoa a ha)
  have hsz : Hb.size = sQ.heap.size + 1 + 0 := by omega
  have hWb := hW.made (by omega) hoc
  obtain ⟨f, hf1, hf2⟩ := hWb.bod
  obtain ⟨hin, hlt, hn1⟩ := xe_in hcap.1 hcap.2.1 c120
  refine wm_put hx hb hts in_X0 tyX0 tyX0_ok nmX0 hown hK (ci := 0) rfl hWb.main hS (xx_Fo o d0) 5 (by decide) q272 (fun _ h => h) rfl rfl rfl dX0_shelter_65 (fun Hd locsd hOd hzd hod hS => ?_)
  refine lv_aload_n hx hb dX0_shelter_68 rfl (lv_at hl 0 rfl) ?_
  refine lv_aload_n hx hb dX0_shelter_69 rfl (lv_at hl 0 rfl) ?_
  refine wm_get hx hb hts in_X0 hown hK (ci := 0) rfl hOd 5 (by decide) q272 (fun _ h => h) (v := .ref sQ.heap.size) rfl dX0_shelter_70 ?_
  have hf1 := hf1.kept (hod _ (by omega))
  have hOb := hOb.kept (hod _ (by omega))
  refine xe_callV (As := [.ref sQ.heap.size]) (rest := []) (n := 1) ⟨hx, hb, hml, hown, hts⟩ hK hN (xc_add lQ G o sQ.heap.size 6 (updV (xx_V o D X) 5 (.ref sQ.heap.size)) Vb f (fd_ X 4) Hd hOd rfl rfl hf1 (by decide) hOb hin) (lw_V q506 q508 qs1 q84 q509) ?rcv73 (by decide +kernel) rfl ⟨(Nat.le_of_ble_eq_true rfl), (Nat.le_of_ble_eq_true rfl)⟩ hl.1 rfl (Nat.le_of_ble_eq_true rfl) dX0_shelter_73 ⟨(Nat.le_of_ble_eq_true rfl), (Nat.le_of_ble_eq_true rfl)⟩ hS (fun q h => Or.inl (by rcases h with h | h <;> omega)) (fun v He locse hp hze hS => ?_)
  case rcv73 => exact wm_O.recv (q := (RX0, TX0, 59)) hK rfl hOd
  obtain ⟨rfl, hOe, hAe, hze2, hoe⟩ := hp
  have hoe2 : ∀ a : Nat, a ≠ o → a ≠ o + 3 → He[a]? = Hb[a]? := fun a h1 h2 => (hoe a h1 h2).trans (hod a h1)
  have hbs : ∀ a : Nat, sQ.heap.size ≤ a → He[a]? = Hd[a]? := fun a h => hoe a (by omega) (by omega)
  generalize hY : wr_ (wr_ (wr_ (wr_ X 60 (fd_ X 4) 6) 73 (fd_ X 4) v56) 74 (fd_ X 4) v60) 75 (fd_ X 4) y = Y
  have hYe : xe_Y X Y := by rw [← hY]; exact ((((xe_Y.rf X).wr ⟨by decide, by decide, by decide, by decide, by decide, by decide⟩).wr ⟨by decide, by decide, by decide, by decide, by decide, by decide⟩).wr ⟨by decide, by decide, by decide, by decide, by decide, by decide⟩).wr ⟨by decide, by decide, by decide, by decide, by decide, by decide⟩
  obtain ⟨X1, hX⟩ : ∃ X1 : mm_S, fw_ (fw_ Y 5 (fd_ X 4)) 4 (fd_ X 4 + 1) = X1 := ⟨_, rfl⟩
  have e73 : X1 73 (xx_n X) = v56 := by rw [← hX, ← hY]; simp [fw_, wr_, mm_up, hcl]
  have e74 : X1 74 (xx_n X) = v60 := by rw [← hX, ← hY]; simp [fw_, wr_, mm_up, hcl]
  have e75 : X1 75 (xx_n X) = y := by rw [← hX, ← hY]; simp [fw_, wr_, mm_up, hcl]
  have e76 : X1 76 (xx_n X) = 0 := by rw [← hX, ← hY]; simp [fw_, wr_, mm_up]; exact hNw.1 76 ⟨by decide, by decide, by decide, by decide, by decide, by decide⟩
  have e60 : X1 60 (xx_n X) = 6 := by rw [← hX, ← hY]; simp [fw_, wr_, mm_up, hcl]
  have hXY : ∀ k : Nat, k ≠ 4 → k ≠ 5 → X1 k = Y k := fun k h1 h2 => by rw [← hX]; exact (mm_up_k h1).trans (mm_up_k h2)
  have hX0 : ∀ k : Nat, k ≠ 4 → k ≠ 5 → k < 59 → X1 k 0 = X k 0 := fun k h1 h2 h3 => by rw [hXY k h1 h2, hYe.1 k (fun z => by have := z.1; omega)]
  have e4 : X1 4 0 = fd_ X 4 + 1 := by rw [← hX]; exact mm_up_s _ _ _ _
  have e5 : X1 5 0 = fd_ X 4 := by rw [← hX]; show mm_up (mm_up Y 5 0 _) 4 0 _ 5 0 = _; rw [mm_up_k (by decide)]; exact mm_up_s _ _ _ _
  have hWe : xx_W G o d0 X1 E (xg_bo D (xx_n X) sQ.heap.size 0) He := by
    refine hW.bornY (q := 6) (h := 0) hNw hYe hXY (by rw [e4]; exact hn1) hlt (by rw [e5, e4, hn1]; show (X 4 0).toInt < _; omega) (hOe.to fun k hk => ?_) (hcl ▸ hAe) hf2 (by decide) (by rw [e60]; rfl) (((hOb.to fun k hk => ?_).kept (hbs _ (Nat.le_refl _)))) (fun h1 h2 => absurd h2 (by decide)) (by omega) (fun a h1 h2 h3 => (hoe2 a h2 h3).trans (hoc a h1))
    · rw [← e4]
      refine xx_V_s hX0 ?_ k hk
      rw [e5]
      unfold xx_b
      rw [if_neg (ww_nlt' (by rw [ww_00]; exact hcap.1)), hcl, xg_bo_b]
    · rcases (show k = 0 ∨ k = 1 ∨ k = 2 ∨ k = 3 ∨ k = 4 ∨ k = 5 ∨ k = 6 ∨ k = 7 by have : k < 8 := hk; omega) with rfl | rfl | rfl | rfl | rfl | rfl | rfl | rfl
      · rw [hPb.1]; show Value.int (fd_ X 4) = .int (Int32.ofNat (xx_n X)); rw [eN]
      · rw [hPb.2.1]; rfl
      · rw [hPb.2.2.1]; rfl
      · refine (hPb.2.2.2.1).trans ?_; show _ = Value.int (X1 73 (xx_n X)); rw [e73]; try rfl
      · refine (hPb.2.2.2.2.1).trans ?_; show _ = Value.int (X1 74 (xx_n X)); rw [e74]; try rfl
      · refine (hPb.2.2.2.2.2.1).trans ?_; show _ = Value.int (X1 75 (xx_n X)); rw [e75]; try rfl
      · refine (hPb.2.2.2.2.2.2.2.1 6 (by decide) (by decide) (by decide)).trans ?_; show _ = Value.int (X1 76 (xx_n X)); rw [e76]; try rfl
      · rw [hPb.2.2.2.2.2.2.1]; rfl
  refine W.widen (k := 5) (n := 261) (Nat.le_of_ble_eq_true rfl) (Nat.le_of_ble_eq_true rfl) ?_
  exact xz_iret hx hb hr hlocks hWe hS ⟨rfl, by rw [hres]; rfl, by rw [hres, ← hX, ← hY]; rfl, rfl⟩ (Nat.le_refl _) (Nat.le_refl _) dX0_shelter_76

set_option maxHeartbeats 4000000 in
theorem xc_man (lQ : Launch) (G : wm_G) (o d0 : Nat) (X : mm_S) (E : mm_E) (D : xg) (Hz : Heap) (s : Int32) (w : Int32) (hNw : xv_nw X) (hWz : xx_W G o d0 X E D Hz) : xz_Met lQ G o d0 yX0_man (ws_ yX0_man cX0_man 3 (some .int)) 6 5 261 Hz [Value.ref o, .int s, .int w] (xe_P E D (xf_mkM X s w)) RX3 xe_F := by
  refine xz_start (own := RX0) (by decide +kernel) (Nat.le_of_ble_eq_true rfl) rfl (fun pQ eQ sQ mQ belowQ methQ cQ hx hb hml hr hlocks htb hts hown hK hN hHz hS ls hl => ?_)
  have hl : lv_has ls 3 [(0, .ref o), (1, .int s), (2, .int w)] := hl
  subst hHz
  have hW := hWz
  have hlim := hW.lim
  have hcap := hW.cap
  have hcl := xe_cl X
  have eN : Int32.ofNat (xx_n X) = fd_ X 4 := by rw [← hcl]; exact xb_of hcap.1
  have KB : ∀ h : xf_mkM X s w = (-1, X), W pQ lQ eQ (wm_rc 6 5 261) sQ mQ ([Value.ref o, .int s, .int w] : List Value).toArray belowQ methQ cQ sQ.heap [] 0 0 (xz_Q G o d0 (xe_P E D (xf_mkM X s w)) RX3 xe_F belowQ ([Value.ref o, .int s, .int w] : List Value).toArray sQ 5 261) (F0 mQ 24 ls []) := by
    intro hres
    refine lv_iconst (v := (-1)) hx hb dX0_man_24 (by decide) ?_
    exact xz_iret hx hb hr hlocks hW hS ⟨rfl, by rw [hres], by rw [hres], rfl⟩ (Nat.zero_le _) (Nat.zero_le _) dX0_man_25
  refine lv_iload_n hx hb dX0_man_0 rfl (lv_at hl 1 rfl) ?_
  refine lv_i2l (v := (s).toInt64) hx hb dX0_man_1 rfl ?_
  refine lv_lconst (v := 0) hx hb dX0_man_2 (by decide) ?_
  refine lv_ldc2 (v := 999) hx hb hown (hts _ q690) dX0_man_3 ?_
  refine xx_within (rest := []) s 0 999 ⟨hx, hb, hml, hown, hts⟩ rfl (by decide) (by decide) q459 hl.1 rfl rfl (Nat.le_of_ble_eq_true rfl) rfl rfl ⟨Nat.zero_le _, Nat.zero_le _⟩ dX0_man_6 (fun v6 e6 => ?_)
  refine lv_if_eq (tgt := 24) hx hb dX0_man_9 (by decide) (fun c9 => KB (by rw [xf_mkM, if_pos (e6.symm.trans c9)])) (fun c9 => ?_)
  have n9 : ¬ ff_in s 0 999 = 0 := fun z => c9 (e6.trans z)
  refine lv_iload_n hx hb dX0_man_12 rfl (lv_at hl 2 rfl) ?_
  refine lv_i2l (v := (w).toInt64) hx hb dX0_man_13 rfl ?_
  refine lv_lconst (v := 0) hx hb dX0_man_14 (by decide) ?_
  refine lv_ldc2 (v := 99) hx hb hown (hts _ q691) dX0_man_15 ?_
  refine xx_within (rest := []) w 0 99 ⟨hx, hb, hml, hown, hts⟩ rfl (by decide) (by decide) q459 hl.1 rfl rfl (Nat.le_of_ble_eq_true rfl) rfl rfl ⟨Nat.zero_le _, Nat.zero_le _⟩ dX0_man_18 (fun v18 e18 => ?_)
  refine lv_if_ne (tgt := 26) hx hb dX0_man_21 (by decide) (fun c21 => ?_) (fun c21 => KB (by rw [xf_mkM, if_neg n9, if_pos (e18.symm.trans c21)]))
  have n21 : ¬ ff_in w 0 99 = 0 := fun z => c21 (e18.trans z)
  refine lv_aload_n hx hb dX0_man_26 rfl (lv_at hl 0 rfl) ?_
  refine xx_geti hx hb hts hown hK hW 4 rfl rfl (by decide) (by decide) q271 dX0_man_27 ?_
  refine lv_bipush (v := 120) hx hb dX0_man_30 (by decide) ?_
  refine lv_icmp_ne (tgt := 40) hx hb dX0_man_32 (by decide) (fun c120 => ?_) (fun c120 => ?_)
  rotate_left
  · skip
    refine lv_bipush (v := (-3)) hx hb dX0_man_35 (by decide) ?_
    refine lv_goto (tgt := 65) hx hb dX0_man_37 (by decide) ?_
    have hres : xf_mkM X s w = (-3, X) := by rw [xf_mkM, if_neg n9, if_neg n21, if_pos c120]
    exact xz_iret hx hb hr hlocks hW hS ⟨rfl, by rw [hres], by rw [hres], rfl⟩ (Nat.zero_le _) (Nat.zero_le _) dX0_man_65
  refine lv_aload_n hx hb dX0_man_40 rfl (lv_at hl 0 rfl) ?_
  have hres : xf_mkM X s w = xf_bo X (wr_ (wr_ (wr_ (wr_ X 60 (fd_ X 4) 7) 77 (fd_ X 4) s) 78 (fd_ X 4) (w / 10)) 79 (fd_ X 4) (jr_ w 10)) := by rw [xf_mkM, if_neg n9, if_neg n21, if_neg c120]
  refine wm_new (V := (fun k => if k = 0 then .int 0 else if k = 2 then .int 0 else if k = 3 then .int 0 else if k = 4 then .int 0 else if k = 5 then .int 0 else .null)) hx hb hts in_X13 tyX13 tyX13_ok hown q692 q693 q100 hK (ci := 11) rfl (fun j hj => ?dv41) hS (Nat.le_of_ble_eq_true rfl) (Nat.le_of_ble_eq_true rfl) dX0_man_41 (fun Ha hO hza hoa hS => ?_)
  case dv41 =>
    rcases (show j = 0 ∨ j = 1 ∨ j = 2 ∨ j = 3 ∨ j = 4 ∨ j = 5 ∨ j = 6 by omega) with rfl | rfl | rfl | rfl | rfl | rfl | rfl <;> rfl
  refine lv_dup hx hb dX0_man_44 rfl ?_
  have hWa := hW.made (by omega) hoa
  refine lv_aload_n hx hb dX0_man_45 rfl (lv_at hl 0 rfl) ?_
  refine lv_aload_n hx hb dX0_man_46 rfl (lv_at hl 0 rfl) ?_
  refine xx_geti hx hb hts hown hK hWa 4 rfl rfl (by decide) (by decide) q271 dX0_man_47 ?_
  refine lv_iload_n hx hb dX0_man_50 rfl (lv_at hl 1 rfl) ?_
  refine lv_iload_n hx hb dX0_man_51 rfl (lv_at hl 2 rfl) ?_
  refine lv_bipush (v := 10) hx hb dX0_man_52 (by decide) ?_
  refine nv_idiv hx hb dX0_man_54 (by decide) (fun v54 e54 => ?_)
  refine lv_iload_n hx hb dX0_man_55 rfl (lv_at hl 2 rfl) ?_
  refine lv_bipush (v := 10) hx hb dX0_man_56 (by decide) ?_
  refine nv_irem hx hb dX0_man_58 (by decide) (fun v58 e58 => ?_)
  rw [← e54, ← e58] at hres
  refine wn_callI (As := [.ref o, .int (fd_ X 4), .int s, .int v54, .int v58]) (rest := [.ref sQ.heap.size, .ref o]) (n := 5) ⟨hx, hb, hml, hown, hts⟩ hK hN (wn_Man_11 lQ G o sQ.heap.size (fd_ X 4) s v54 v58 _ _ hO) q696 q100 q694 q695 rfl (by decide +kernel) rfl ⟨(Nat.le_of_ble_eq_true rfl), (Nat.le_of_ble_eq_true rfl)⟩ hl.1 rfl (Nat.le_of_ble_eq_true rfl) dX0_man_59 ⟨(Nat.le_of_ble_eq_true rfl), (Nat.le_of_ble_eq_true rfl)⟩ hS (fun q h => by rw [h]; exact Or.inr (by omega)) (fun Hb locsb hp hzb hS => ?_)
  obtain ⟨Vb, hOb, hPb, hzb, hob, hAb⟩ := hp
  have hoc : ∀ a : Nat, a < sQ.heap.size → Hb[a]? = sQ.heap[a]? := fun a ha => (hob a (by omega) (by omega)).trans (hoa a ha)
  have hsz : Hb.size = sQ.heap.size + 1 + 0 := by omega
  have hWb := hW.made (by omega) hoc
  obtain ⟨f, hf1, hf2⟩ := hWb.bod
  obtain ⟨hin, hlt, hn1⟩ := xe_in hcap.1 hcap.2.1 c120
  refine xe_callV (As := [.ref sQ.heap.size]) (rest := []) (n := 1) ⟨hx, hb, hml, hown, hts⟩ hK hN (xc_add lQ G o sQ.heap.size 7 (xx_V o D X) Vb f (fd_ X 4) Hb hWb.main rfl rfl hf1 (by decide) hOb hin) (lw_V q506 q508 qs1 q84 q509) ?rcv62 (by decide +kernel) rfl ⟨(Nat.le_of_ble_eq_true rfl), (Nat.le_of_ble_eq_true rfl)⟩ hl.1 rfl (Nat.le_of_ble_eq_true rfl) dX0_man_62 ⟨(Nat.le_of_ble_eq_true rfl), (Nat.le_of_ble_eq_true rfl)⟩ hS (fun q h => Or.inl (by rcases h with h | h <;> omega)) (fun v He locse hp hze hS => ?_)
  case rcv62 => exact wm_O.recv (q := (RX0, TX0, 59)) hK rfl hWb.main
  obtain ⟨rfl, hOe, hAe, hze2, hoe⟩ := hp
  have hoe2 : ∀ a : Nat, a ≠ o → a ≠ o + 3 → He[a]? = Hb[a]? := hoe
  have hbs : ∀ a : Nat, sQ.heap.size ≤ a → He[a]? = Hb[a]? := fun a h => hoe2 a (by omega) (by omega)
  generalize hY : wr_ (wr_ (wr_ (wr_ X 60 (fd_ X 4) 7) 77 (fd_ X 4) s) 78 (fd_ X 4) v54) 79 (fd_ X 4) v58 = Y
  have hYe : xe_Y X Y := by rw [← hY]; exact ((((xe_Y.rf X).wr ⟨by decide, by decide, by decide, by decide, by decide, by decide⟩).wr ⟨by decide, by decide, by decide, by decide, by decide, by decide⟩).wr ⟨by decide, by decide, by decide, by decide, by decide, by decide⟩).wr ⟨by decide, by decide, by decide, by decide, by decide, by decide⟩
  obtain ⟨X1, hX⟩ : ∃ X1 : mm_S, fw_ Y 4 (fd_ X 4 + 1) = X1 := ⟨_, rfl⟩
  have e77 : X1 77 (xx_n X) = s := by rw [← hX, ← hY]; simp [fw_, wr_, mm_up, hcl]
  have e78 : X1 78 (xx_n X) = v54 := by rw [← hX, ← hY]; simp [fw_, wr_, mm_up, hcl]
  have e79 : X1 79 (xx_n X) = v58 := by rw [← hX, ← hY]; simp [fw_, wr_, mm_up, hcl]
  have e80 : X1 80 (xx_n X) = 0 := by rw [← hX, ← hY]; simp [fw_, wr_, mm_up]; exact hNw.1 80 ⟨by decide, by decide, by decide, by decide, by decide, by decide⟩
  have e60 : X1 60 (xx_n X) = 7 := by rw [← hX, ← hY]; simp [fw_, wr_, mm_up, hcl]
  have hXY : ∀ k : Nat, k ≠ 4 → k ≠ 5 → X1 k = Y k := fun k h1 h2 => by rw [← hX]; exact mm_up_k h1
  have hX0 : ∀ k : Nat, k ≠ 4 → k ≠ 5 → k < 59 → X1 k 0 = X k 0 := fun k h1 h2 h3 => by rw [hXY k h1 h2, hYe.1 k (fun z => by have := z.1; omega)]
  have e4 : X1 4 0 = fd_ X 4 + 1 := by rw [← hX]; exact mm_up_s _ _ _ _
  have e5 : X1 5 0 = X 5 0 := by rw [← hX]; show mm_up Y 4 0 _ 5 0 = _; rw [mm_up_k (by decide), hYe.1 5 (fun z => absurd z.1 (by decide))]
  have hWe : xx_W G o d0 X1 E (xg_bo D (xx_n X) sQ.heap.size 0) He := by
    refine hW.bornY (q := 7) (h := 0) hNw hYe hXY (by rw [e4]; exact hn1) hlt (by rw [e5, e4, hn1]; have := hW.rng.1; omega) (hOe.to fun k hk => ?_) (hcl ▸ hAe) hf2 (by decide) (by rw [e60]; rfl) (((hOb.to fun k hk => ?_).kept (hbs _ (Nat.le_refl _)))) (fun h1 h2 => absurd h2 (by decide)) (by omega) (fun a h1 h2 h3 => (hoe2 a h2 h3).trans (hoc a h1))
    · rw [← e4]
      exact xx_V_b hW (xg_bo_le hW 0) e5 hX0 k hk
    · rcases (show k = 0 ∨ k = 1 ∨ k = 2 ∨ k = 3 ∨ k = 4 ∨ k = 5 ∨ k = 6 by have : k < 7 := hk; omega) with rfl | rfl | rfl | rfl | rfl | rfl | rfl
      · rw [hPb.1]; show Value.int (fd_ X 4) = .int (Int32.ofNat (xx_n X)); rw [eN]
      · rw [hPb.2.1]; rfl
      · refine (hPb.2.2.1).trans ?_; show _ = Value.int (X1 77 (xx_n X)); rw [e77]; try rfl
      · refine (hPb.2.2.2.1).trans ?_; show _ = Value.int (X1 78 (xx_n X)); rw [e78]; try rfl
      · refine (hPb.2.2.2.2.1).trans ?_; show _ = Value.int (X1 79 (xx_n X)); rw [e79]; try rfl
      · refine (hPb.2.2.2.2.2.2.1 5 (by decide) (by decide) (by decide)).trans ?_; show _ = Value.int (X1 80 (xx_n X)); rw [e80]; try rfl
      · rw [hPb.2.2.2.2.2.1]; rfl
  refine W.widen (k := 5) (n := 261) (Nat.le_of_ble_eq_true rfl) (Nat.le_of_ble_eq_true rfl) ?_
  exact xz_iret hx hb hr hlocks hWe hS ⟨rfl, by rw [hres]; rfl, by rw [hres, ← hX, ← hY]; rfl, rfl⟩ (Nat.le_refl _) (Nat.le_refl _) dX0_man_65
