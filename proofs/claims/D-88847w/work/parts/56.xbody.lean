/-! BODIES, references, arrays of references: rows -/
set_option maxRecDepth 100000
theorem va_rf_c (r : Option Nat) : (va_rf r).category = 1 := by cases r <;> rfl
theorem vc_i (v : Int32) : (Value.int v).category = 1 := rfl
theorem vc_r (v : Nat) : (Value.ref v).category = 1 := rfl
theorem vc_l (v : Int64) : (Value.long v).category = 2 := rfl
theorem ww_00 : (0 : Int32).toInt = 0 := by decide
/-- where a body lies by its number; below 0: nothing -/
def xx_o (D : xg) (v : Int32) : Option Nat := if v < 0 then none else some (xg_b D v.toNatClampNeg)
abbrev xb_ (D : xg) (b : Int32) : Nat := xg_b D b.toNatClampNeg
theorem xx_b_rf (D : xg) (v : Int32) : xx_b D v = va_rf (xx_o D v) := by
  unfold xx_b xx_o
  split <;> rfl
theorem xx_o_pos {D : xg} {v : Int32} (h : 0 ≤ v.toInt) : va_rf (xx_o D v) = .ref (xb_ D v) := by
  unfold xx_o
  rw [if_neg (ww_nlt' (by rw [ww_00]; exact h))]
  rfl
theorem xx_o_neg {D : xg} {v : Int32} (h : v < 0) : va_rf (xx_o D v) = .null := by
  unfold xx_o
  rw [if_pos h]
  rfl
def xx_so (D : xg) (v : Int32) (s : Nat) : Option Nat := if v = -1 then none else if v < 0 then some (xg_r D s) else some (xg_b D v.toNatClampNeg)
theorem xx_s_rf (D : xg) (v : Int32) (s : Nat) : xx_s D v s = va_rf (xx_so D v s) := by
  unfold xx_s xx_so
  split
  · rfl
  · split <;> rfl
/-- a body's number that is there -/
def xb_in (X : mm_S) (b : Int32) : Prop := 0 ≤ b.toInt ∧ b.toInt < (fd_ X 4).toInt
abbrev xq (X : mm_S) (b : Int32) : Nat := xx_q X b.toNatClampNeg
def xk_C (q : Nat) : String := [RX6, RX7, RX8, RX9, RX10, RX11, RX12, RX13].getD q RX6
def xk_T (q : Nat) : u_T := [TX6, TX7, TX8, TX9, TX10, TX11, TX12, TX13].getD q TX6
def xk_ty (q : Nat) : Nat → FieldType := [tyX6, tyX7, tyX8, tyX9, tyX10, tyX11, tyX12, tyX13].getD q tyX6
theorem xk_cl : ∀ q : Nat, q < 8 → wm_cl[4 + q]? = some (xk_C q, xk_T q, xx_bn.getD q 0)
  | 0, _ => rfl
  | 1, _ => rfl
  | 2, _ => rfl
  | 3, _ => rfl
  | 4, _ => rfl
  | 5, _ => rfl
  | 6, _ => rfl
  | 7, _ => rfl
theorem xk_ws : ∀ q : Nat, q < 8 → ∀ w ∈ u_ws (xk_C q) (xk_T q) (xx_bn.getD q 0), w ∈ lw_all
  | 0, _ => in_X6
  | 1, _ => in_X7
  | 2, _ => in_X8
  | 3, _ => in_X9
  | 4, _ => in_X10
  | 5, _ => in_X11
  | 6, _ => in_X12
  | 7, _ => in_X13
theorem xk_tys : ∀ q : Nat, q < 8 → ∀ k, k < xx_bn.getD q 0 → parseFieldDescriptor (xk_T q k).2.2.1 = some (xk_ty q k)
  | 0, _ => tyX6_ok
  | 1, _ => tyX7_ok
  | 2, _ => tyX8_ok
  | 3, _ => tyX9_ok
  | 4, _ => tyX10_ok
  | 5, _ => tyX11_ok
  | 6, _ => tyX12_ok
  | 7, _ => tyX13_ok
/-- what is where in a body of kind q: slot k is Tc k of the class that declares it, of that type, its name is its own there; what it holds -/
def xf_ok (q k : Nat) (t : String × String × String × Bool) (ty : FieldType) (x : Option (Bool × Nat)) : Prop := k < xx_bn.getD q 0 ∧ xk_T q k = t ∧ xk_ty q k = ty ∧ xx_bq q k = x
def xf_nm (q k : Nat) : Prop := ∀ j, j < xx_bn.getD q 0 → j ≠ k → (xk_T q k).2.1 ≠ (xk_T q j).2.1
theorem xf_h0 : ∀ q : Nat, 2 ≤ q ∧ q ≤ 5 → ∀ k, k < 15 → k < xx_bn.getD q 0 ∧ xk_T q k = TX8 k ∧ xk_ty q k = tyX8 k ∧ xx_bq q k = xx_bq 2 k := by
  have h3 : ∀ k, k < 15 → TX9 k = TX8 k ∧ tyX9 k = tyX8 k ∧ xx_bq 3 k = xx_bq 2 k := by decide +kernel
  have h4 : ∀ k, k < 15 → TX10 k = TX8 k ∧ tyX10 k = tyX8 k ∧ xx_bq 4 k = xx_bq 2 k := by decide +kernel
  have h5 : ∀ k, k < 15 → TX11 k = TX8 k ∧ tyX11 k = tyX8 k ∧ xx_bq 5 k = xx_bq 2 k := by decide +kernel
  intro q hq k hk
  match q, hq with
  | 0, hq => omega
  | 1, hq => omega
  | 2, _ => exact ⟨hk, rfl, rfl, rfl⟩
  | 3, _ => exact ⟨Nat.lt_of_lt_of_le hk (by decide), h3 k hk⟩
  | 4, _ => exact ⟨Nat.lt_of_lt_of_le hk (by decide), h4 k hk⟩
  | 5, _ => exact ⟨Nat.lt_of_lt_of_le hk (by decide), h5 k hk⟩
  | n + 6, hq => omega
theorem xf_hole {q : Nat} (hq : 2 ≤ q ∧ q ≤ 5) {k : Nat} (hk : k < 15) : xf_ok q k (TX8 k) (tyX8 k) (xx_bq 2 k) := xf_h0 q hq k hk
theorem xf_hnm : ∀ q : Nat, 2 ≤ q ∧ q ≤ 5 → ∀ k, 3 ≤ k → k < 14 → xf_nm q k := by
  have h2 : ∀ k, k < 14 → 3 ≤ k → ∀ j, j < 15 → j ≠ k → (TX8 k).2.1 ≠ (TX8 j).2.1 := by decide +kernel
  have h3 : ∀ k, k < 14 → 3 ≤ k → ∀ j, j < 17 → j ≠ k → (TX9 k).2.1 ≠ (TX9 j).2.1 := by decide +kernel
  have h4 : ∀ k, k < 14 → 3 ≤ k → ∀ j, j < 16 → j ≠ k → (TX10 k).2.1 ≠ (TX10 j).2.1 := by decide +kernel
  have h5 : ∀ k, k < 14 → 3 ≤ k → ∀ j, j < 17 → j ≠ k → (TX11 k).2.1 ≠ (TX11 j).2.1 := by decide +kernel
  intro q hq k h3' hk
  match q, hq with
  | 0, hq => omega
  | 1, hq => omega
  | 2, _ => exact h2 k hk h3'
  | 3, _ => exact h3 k hk h3'
  | 4, _ => exact h4 k hk h3'
  | 5, _ => exact h5 k hk h3'
  | n + 6, hq => omega
theorem xf_tube {q : Nat} (hq : q = 3) : xf_ok q 15 (TX9 15) (tyX9 15) (some (false, 72)) := by subst hq; exact ⟨by decide, rfl, rfl, rfl⟩
theorem xf_tnm {q : Nat} (hq : q = 3) : xf_nm q 15 := by
  subst hq
  show ∀ j, j < 17 → j ≠ 15 → (TX9 15).2.1 ≠ (TX9 j).2.1
  decide +kernel
theorem xf_shelter {q : Nat} (hq : q = 6) {k : Nat} (hk : k < 8) : xf_ok q k (TX12 k) (tyX12 k) (xx_bq 6 k) := by subst hq; exact ⟨hk, rfl, rfl, rfl⟩
theorem xf_snm {q : Nat} (hq : q = 6) : xf_nm q 6 := by
  subst hq
  show ∀ j, j < 8 → j ≠ 6 → (TX12 6).2.1 ≠ (TX12 j).2.1
  decide +kernel
theorem xf_man {q : Nat} (hq : q = 7) {k : Nat} (hk : k < 7) : xf_ok q k (TX13 k) (tyX13 k) (xx_bq 7 k) := by subst hq; exact ⟨hk, rfl, rfl, rfl⟩
theorem xf_mnm {q : Nat} (hq : q = 7) {k : Nat} (h2 : 2 ≤ k) (h5 : k < 6) : xf_nm q k := by
  subst hq
  have h : ∀ k, k < 6 → 2 ≤ k → ∀ j, j < 7 → j ≠ k → (TX13 k).2.1 ≠ (TX13 j).2.1 := by decide +kernel
  exact h k h5 h2
theorem xf_body : ∀ q : Nat, q < 8 → ∀ k, k < 2 → xf_ok q k (TX6 k) (tyX6 k) none := by
  intro q hq k hk
  match k, hk with
  | 0, _ => match q, hq with
    | 0, _ => exact ⟨by decide, rfl, rfl, rfl⟩
    | 1, _ => exact ⟨by decide, rfl, rfl, rfl⟩
    | 2, _ => exact ⟨by decide, rfl, rfl, rfl⟩
    | 3, _ => exact ⟨by decide, rfl, rfl, rfl⟩
    | 4, _ => exact ⟨by decide, rfl, rfl, rfl⟩
    | 5, _ => exact ⟨by decide, rfl, rfl, rfl⟩
    | 6, _ => exact ⟨by decide, rfl, rfl, rfl⟩
    | 7, _ => exact ⟨by decide, rfl, rfl, rfl⟩
  | 1, _ => match q, hq with
    | 0, _ => exact ⟨by decide, rfl, rfl, rfl⟩
    | 1, _ => exact ⟨by decide, rfl, rfl, rfl⟩
    | 2, _ => exact ⟨by decide, rfl, rfl, rfl⟩
    | 3, _ => exact ⟨by decide, rfl, rfl, rfl⟩
    | 4, _ => exact ⟨by decide, rfl, rfl, rfl⟩
    | 5, _ => exact ⟨by decide, rfl, rfl, rfl⟩
    | 6, _ => exact ⟨by decide, rfl, rfl, rfl⟩
    | 7, _ => exact ⟨by decide, rfl, rfl, rfl⟩
/-- kinds -/
def xk_Hole (k : Int32) : Int32 := if k < 2 then 0 else if 5 < k then 0 else 1
def xk_Man (k : Int32) : Int32 := if k = 7 then 1 else 0
def xk_Tube (k : Int32) : Int32 := if k = 3 then 1 else 0
def xk_Shaft (k : Int32) : Int32 := if k = 4 then 1 else if k = 5 then 1 else 0
/-- one class can be cast to another -/
def xl_As (C E : String) (U : State) : Prop := ∃ c t : ClassId, U.vm.findClass C = some c ∧ U.vm.findClass E = some t ∧ U.vm.assignable c t = true
theorem xl_As.of {C E : String} {U : State} (h : va_Nw (.castable C E) U) : xl_As C E U := Cond.castable_spec (va_Nw.use (A := #[]) rfl h)
theorem xl_As.self {C : String} {c : ClassId} {U : State} (h : U.vm.findClass C = some c) : xl_As C C U := ⟨c, c, h, h, va_asg _ _⟩
def ra_ (X : mm_S) (f : Nat) (b y : Int32) : Int32 := X f (61 * b.toNatClampNeg + y.toNatClampNeg)
def wa_ (X : mm_S) (f : Nat) (b y v : Int32) : mm_S := mm_up X f (61 * b.toNatClampNeg + y.toNatClampNeg) v
abbrev xt_ (o : Nat) (i : Int32) : Nat := o + (41 + 3 * i.toNatClampNeg)
section XB
variable {p : Program} {l : Launch} {e : Env} {R : Room} {s : State} {m : MethodId} {args : Array Value} {below : List Frame} {meth : Method} {c : Code} {H : Heap} {locs : List Loc} {cells slots : Nat} {Q : State → Prop}
variable {cc : ByteArray} {pc : Nat} {ls : Array Slot} {rest : List Value} {G : wm_G} {o d0 : Nat} {H0 : Heap} {X : mm_S} {E : mm_E} {D : xg} {a : Nat} {A : Nat → Prop}
theorem xb_n {b : Int32} (h : xb_in X b) : b.toNatClampNeg < xx_n X := by
  have h1 := h.1
  have h2 := h.2
  unfold xx_n
  rw [ww_cl]
  have e : fd_ X 4 = X 4 0 := rfl
  rw [e] at h2
  omega
theorem xb_kind (hW : xx_W G o d0 X E D H) {b : Int32} (hi : xb_in X b) : 0 ≤ (rd_ X 60 b).toInt ∧ (rd_ X 60 b).toInt < 8 := hW.knd _ (xb_n hi)
theorem xb_q {b : Int32} : xq X b = (rd_ X 60 b).toInt.toNat := rfl
theorem xq_lt (hW : xx_W G o d0 X E D H) {b : Int32} (hi : xb_in X b) : xq X b < 8 := by
  have := xb_kind hW hi
  rw [xb_q]
  omega
theorem xb_cell (hW : xx_W G o d0 X E D H) {b : Int32} (hi : xb_in X b) : wm_O G (xb_ D b) (4 + xq X b) (xx_bn.getD (xq X b) 0) (xx_BV o D X b.toNatClampNeg (xq X b)) H := hW.bdy _ (xb_n hi)
theorem xb_recv (hK : wm_K G s) (hW : xx_W G o d0 X E D H) {b : Int32} (hi : xb_in X b) : ∃ cell : Cell, H[xb_ D b]? = some cell ∧ cell.vm.isStatics = false ∧ s.vm.findClass (xk_C (xq X b)) = some cell.cls :=
  wm_O.recv (q := (xk_C (xq X b), xk_T (xq X b), xx_bn.getD (xq X b) 0)) hK (xk_cl _ (xq_lt hW hi)) (xb_cell hW hi)
theorem xb_F (hW : xx_W G o d0 X E D H) {b : Int32} (hi : xb_in X b) {j : Nat} (hj : j = 0 ∨ 2 ≤ xq X b ∧ xq X b ≤ 5 ∧ j < 5) : xx_F o d0 (xb_ D b + j) := hW.din _ (by rw [hW.dby _ j (xb_n hi) hj]; exact fun q => by cases q)
/-- the number as an int -/
theorem xb_of {b : Int32} (h : 0 ≤ b.toInt) : Int32.ofNat b.toNatClampNeg = b := by
  apply ww_eq
  rw [ww_cl]
  have := ww_hi b
  have e : (Int32.ofNat b.toInt.toNat).toInt = (b.toInt.toNat : Int) := nI_toInt (by omega)
  rw [e]
  omega
/-! locals and the stack: references that may be nothing -/
theorem xl_aload_n (hexec : p.tables.exec = Jvm.exec) (hb : c.code = cc) {k : Fin 4} {i : Nat} {r : Option Nat} (hdg : decode cc pc = .ok (.aload_n k, 1)) (hi : (k : Nat) = i) (hl : ls[i]? = some (.val (va_rf r))) (kk : W p l e R s m args below meth c H locs cells slots Q (F0 m (pc + 1) ls (va_rf r :: rest))) : W p l e R s m args below meth c H locs cells slots Q (F0 m pc ls rest) := by
  cases r with
  | none => exact lv_aload_nN hexec hb hdg hi hl kk
  | some a => exact lv_aload_n hexec hb hdg hi hl kk
theorem xl_aload (hexec : p.tables.exec = Jvm.exec) (hb : c.code = cc) {i : Nat} {r : Option Nat} (hdg : decode cc pc = .ok (.aload i, 2)) (hl : ls[i]? = some (.val (va_rf r))) (kk : W p l e R s m args below meth c H locs cells slots Q (F0 m (pc + 2) ls (va_rf r :: rest))) : W p l e R s m args below meth c H locs cells slots Q (F0 m pc ls rest) := by
  cases r with
  | none => exact lv_aloadN hexec hb hdg hl kk
  | some a => exact lv_aload hexec hb hdg hl kk
theorem xl_astore_n (hexec : p.tables.exec = Jvm.exec) (hb : c.code = cc) {k : Fin 4} {i nL : Nat} {r : Option Nat} {lv lv' : List (Nat × Value)} (hdg : decode cc pc = .ok (.astore_n k, 1)) (hi : (k : Nat) = i) (h : lv_has ls nL lv) (hn : i < nL) (hl : (i, va_rf r) :: lv.filter (fun q => !(q.1 == i) && !(q.1 + 1 == i && q.2.category == 2)) = lv') (kk : ∀ ls' : Array Slot, lv_has ls' nL lv' → W p l e R s m args below meth c H locs cells slots Q (F0 m (pc + 1) ls' rest)) : W p l e R s m args below meth c H locs cells slots Q (F0 m pc ls (va_rf r :: rest)) := by
  cases r with
  | none => exact lv_astore_nN hexec hb hdg hi h hn hl kk
  | some a => exact lv_astore_n hexec hb hdg hi h hn hl kk
theorem xl_astore (hexec : p.tables.exec = Jvm.exec) (hb : c.code = cc) {i nL : Nat} {r : Option Nat} {lv lv' : List (Nat × Value)} (hdg : decode cc pc = .ok (.astore i, 2)) (h : lv_has ls nL lv) (hn : i < nL) (hl : (i, va_rf r) :: lv.filter (fun q => !(q.1 == i) && !(q.1 + 1 == i && q.2.category == 2)) = lv') (kk : ∀ ls' : Array Slot, lv_has ls' nL lv' → W p l e R s m args below meth c H locs cells slots Q (F0 m (pc + 2) ls' rest)) : W p l e R s m args below meth c H locs cells slots Q (F0 m pc ls (va_rf r :: rest)) := by
  cases r with
  | none => exact lv_astoreN hexec hb hdg h hn hl kk
  | some a => exact lv_astore hexec hb hdg h hn hl kk
theorem xl_ifnull (hexec : p.tables.exec = Jvm.exec) (hb : c.code = cc) {v : Int32} {off : Int} {tgt : Nat} (hdg : decode cc pc = .ok (.ifnull off, 3)) (ht : (pc : Int) + off = (tgt : Int)) (k1 : v < 0 → W p l e R s m args below meth c H locs cells slots Q (F0 m tgt ls rest)) (k2 : ¬ v < 0 → W p l e R s m args below meth c H locs cells slots Q (F0 m (pc + 3) ls rest)) : W p l e R s m args below meth c H locs cells slots Q (F0 m pc ls (va_rf (xx_o D v) :: rest)) := by
  by_cases h : v < 0
  · rw [xx_o_neg h]
    exact lv_ifnullN hexec hb hdg ht (k1 h)
  · rw [xx_o_pos (by have := ww_nlt h; rw [ww_00] at this; exact this)]
    exact lv_ifnull hexec hb hdg (k2 h)
theorem xl_ifnonnull (hexec : p.tables.exec = Jvm.exec) (hb : c.code = cc) {v : Int32} {off : Int} {tgt : Nat} (hdg : decode cc pc = .ok (.ifnonnull off, 3)) (ht : (pc : Int) + off = (tgt : Int)) (k1 : ¬ v < 0 → W p l e R s m args below meth c H locs cells slots Q (F0 m tgt ls rest)) (k2 : v < 0 → W p l e R s m args below meth c H locs cells slots Q (F0 m (pc + 3) ls rest)) : W p l e R s m args below meth c H locs cells slots Q (F0 m pc ls (va_rf (xx_o D v) :: rest)) := by
  by_cases h : v < 0
  · rw [xx_o_neg h]
    exact lv_ifnonnullN hexec hb hdg (k2 h)
  · rw [xx_o_pos (by have := ww_nlt h; rw [ww_00] at this; exact this)]
    exact lv_ifnonnull hexec hb hdg ht (k1 h)
theorem xl_null (hexec : p.tables.exec = Jvm.exec) (hb : c.code = cc) (hdg : decode cc pc = .ok (.aconst_null, 1)) (kk : W p l e R s m args below meth c H locs cells slots Q (F0 m (pc + 1) ls (va_rf (xx_o D (-1)) :: rest))) : W p l e R s m args below meth c H locs cells slots Q (F0 m pc ls rest) := by
  refine lv_null hexec hb hdg ?_
  rw [xx_o_neg (D := D) (v := -1) (by decide)] at kk
  exact kk
theorem xl_top {v : Int32} (h : 0 ≤ v.toInt) (kk : W p l e R s m args below meth c H locs cells slots Q (F0 m pc ls (.ref (xb_ D v) :: rest))) : W p l e R s m args below meth c H locs cells slots Q (F0 m pc ls (va_rf (xx_o D v) :: rest)) := by rw [xx_o_pos h]; exact kk
theorem xl_top2 {v : Int32} {x : Value} (h : 0 ≤ v.toInt) (kk : W p l e R s m args below meth c H locs cells slots Q (F0 m pc ls (x :: .ref (xb_ D v) :: rest))) : W p l e R s m args below meth c H locs cells slots Q (F0 m pc ls (x :: va_rf (xx_o D v) :: rest)) := by rw [xx_o_pos h]; exact kk
theorem xl_rev {v : Int32} (h : 0 ≤ v.toInt) (kk : W p l e R s m args below meth c H locs cells slots Q (F0 m pc ls (va_rf (xx_o D v) :: rest))) : W p l e R s m args below meth c H locs cells slots Q (F0 m pc ls (.ref (xb_ D v) :: rest)) := by rw [xx_o_pos h] at kk; exact kk
/-- bodies lie apart -/
theorem xx_o_inj (hW : xx_W G o d0 X E D H) {v w : Int32} (hv : xb_in X v) (hw : w.toInt < (fd_ X 4).toInt) : xx_o D v = xx_o D w ↔ v = w := by
  constructor
  · intro h
    unfold xx_o at h
    rw [if_neg (ww_nlt' (by rw [ww_00]; exact hv.1))] at h
    split at h
    · cases h
    · rename_i q
      have hw0 : 0 ≤ w.toInt := by have := ww_nlt q; rw [ww_00] at this; exact this
      have e : xg_b D v.toNatClampNeg = xg_b D w.toNatClampNeg := Option.some.inj h
      have d1 := hW.dby _ 0 (xb_n hv) (Or.inl rfl)
      have d2 := hW.dby _ 0 (xb_n ⟨hw0, hw⟩) (Or.inl rfl)
      have e2 : xg_b D v.toNatClampNeg + 0 = xg_b D w.toNatClampNeg + 0 := by rw [e]
      rw [e2, d2] at d1
      have e3 : 5 * w.toNatClampNeg + 0 = 5 * v.toNatClampNeg + 0 := congrArg Prod.snd d1
      exact ww_cl0 hv.1 hw0 (by omega)
  · intro h
    rw [h]
theorem xl_acmp_ne (hexec : p.tables.exec = Jvm.exec) (hb : c.code = cc) (hW : xx_W G o d0 X E D H) {v w : Int32} (hv : xb_in X v) (hw : w.toInt < (fd_ X 4).toInt) {off : Int} {tgt : Nat} (hdg : decode cc pc = .ok (.if_acmp .ne off, 3)) (ht : (pc : Int) + off = (tgt : Int)) (kt : ¬ w = v → W p l e R s m args below meth c H locs cells slots Q (F0 m tgt ls rest)) (kf : w = v → W p l e R s m args below meth c H locs cells slots Q (F0 m (pc + 3) ls rest)) : W p l e R s m args below meth c H locs cells slots Q (F0 m pc ls (va_rf (xx_o D v) :: va_rf (xx_o D w) :: rest)) :=
  lv_acmp_ne hexec hb hdg ht (fun h => kt fun q => h (by rw [q])) (fun h => kf ((xx_o_inj hW hv hw).mp h.symm).symm)
theorem xl_acmp_ne2 (hexec : p.tables.exec = Jvm.exec) (hb : c.code = cc) (hW : xx_W G o d0 X E D H) {v w : Int32} (hw : xb_in X w) (hv : v.toInt < (fd_ X 4).toInt) {off : Int} {tgt : Nat} (hdg : decode cc pc = .ok (.if_acmp .ne off, 3)) (ht : (pc : Int) + off = (tgt : Int)) (kt : ¬ w = v → W p l e R s m args below meth c H locs cells slots Q (F0 m tgt ls rest)) (kf : w = v → W p l e R s m args below meth c H locs cells slots Q (F0 m (pc + 3) ls rest)) : W p l e R s m args below meth c H locs cells slots Q (F0 m pc ls (va_rf (xx_o D v) :: va_rf (xx_o D w) :: rest)) :=
  lv_acmp_ne hexec hb hdg ht (fun h => kt fun q => h (by rw [q])) (fun h => kf ((xx_o_inj hW hw hv).mp h))
theorem xl_acmp_eq2 (hexec : p.tables.exec = Jvm.exec) (hb : c.code = cc) (hW : xx_W G o d0 X E D H) {v w : Int32} (hw : xb_in X w) (hv : v.toInt < (fd_ X 4).toInt) {off : Int} {tgt : Nat} (hdg : decode cc pc = .ok (.if_acmp .eq off, 3)) (ht : (pc : Int) + off = (tgt : Int)) (kt : w = v → W p l e R s m args below meth c H locs cells slots Q (F0 m tgt ls rest)) (kf : ¬ w = v → W p l e R s m args below meth c H locs cells slots Q (F0 m (pc + 3) ls rest)) : W p l e R s m args below meth c H locs cells slots Q (F0 m pc ls (va_rf (xx_o D v) :: va_rf (xx_o D w) :: rest)) :=
  lv_acmp_eq hexec hb hdg ht (fun h => kt ((xx_o_inj hW hw hv).mp h)) (fun h => kf fun q => h (by rw [q]))
/-! what the arrays of references hold -/
theorem xx_bald (hx : p.tables.exec = Jvm.exec) (hb : c.code = cc) (hK : wm_K G s) (hW : xx_W G o d0 X E D H) {i : Int32} (hi : xb_in X i) (hd : decode cc pc = .ok (.aaload, 1)) (kk : W p l e R s m args below meth c H locs cells slots Q (F0 m (pc + 1) ls (va_rf (xx_o D i) :: rest))) : W p l e R s m args below meth c H locs cells slots Q (F0 m pc ls (.int i :: .ref (o + 3) :: rest)) := by
  obtain ⟨f, h1, h2⟩ := hW.bod
  have hn := xb_n hi
  have h120 : i.toInt < 120 := by
    have a1 := hi.2
    have a2 := hW.cap.2.1
    have e : fd_ X 4 = X 4 0 := rfl
    rw [e] at a1
    omega
  refine wm_aald hx hb hK 7 (E := "ThirtyThreeBelow$Body") rfl h1 (ww_in hi.1 h120) (v := va_rf (xx_o D i)) ?_ hd kk
  rw [h2 _ hn, xx_o_pos hi.1]
theorem xx_wald (hx : p.tables.exec = Jvm.exec) (hb : c.code = cc) (hK : wm_K G s) (hW : xx_W G o d0 X E D H) {i : Int32} (hin : vp_in i 3) (hd : decode cc pc = .ok (.aaload, 1)) (kk : W p l e R s m args below meth c H locs cells slots Q (F0 m (pc + 1) ls (va_rf (xx_o D (rd_ X 9 i)) :: rest))) : W p l e R s m args below meth c H locs cells slots Q (F0 m pc ls (.int i :: .ref (o + 6) :: rest)) :=
  wm_aald hx hb hK 8 (E := "ThirtyThreeBelow$Hole") rfl hW.wrk hin (v := va_rf (xx_o D (rd_ X 9 i))) (xx_b_rf D (rd_ X 9 i)) hd kk
theorem xx_kald (hx : p.tables.exec = Jvm.exec) (hb : c.code = cc) (hK : wm_K G s) (hW : xx_W G o d0 X E D H) {i : Int32} (hin : vp_in i 6) (hd : decode cc pc = .ok (.aaload, 1)) (kk : W p l e R s m args below meth c H locs cells slots Q (F0 m (pc + 1) ls (va_rf (xx_so D (rd_ X 58 i) i.toNatClampNeg) :: rest))) : W p l e R s m args below meth c H locs cells slots Q (F0 m pc ls (.int i :: .ref (o + 40) :: rest)) :=
  wm_aald hx hb hK 10 (E := "java/lang/Object") rfl hW.shv hin (v := va_rf (xx_so D (rd_ X 58 i) i.toNatClampNeg)) (xx_s_rf D (rd_ X 58 i) i.toNatClampNeg) hd kk
theorem xx_tald (hx : p.tables.exec = Jvm.exec) (hb : c.code = cc) (hK : wm_K G s) (hW : xx_W G o d0 X E D H) {i : Int32} (hin : vp_in i 16) (hd : decode cc pc = .ok (.aaload, 1)) (kk : W p l e R s m args below meth c H locs cells slots Q (F0 m (pc + 1) ls (.ref (xt_ o i) :: rest))) : W p l e R s m args below meth c H locs cells slots Q (F0 m pc ls (.int i :: .ref (o + 18) :: rest)) :=
  wm_aald hx hb hK 9 (E := "ThirtyThreeBelow$Text") rfl hW.txa hin (v := .ref (xt_ o i)) rfl hd kk
theorem xx_getsh (hx : p.tables.exec = Jvm.exec) (hb : c.code = cc) (hts : ∀ w ∈ lw_all, w.before args s = true) (hown : s.vm.findClass RX0 = some m.cls) (hK : wm_K G s) (hW : xx_W G o d0 X E D H) {index : Nat} (hq : (Cond.fieldLink RX0 index RX0 (TX0 5).2.1 (TX0 5).2.2.1) ∈ lw_all) (hd : decode cc pc = .ok (.getfield index, 3))
    (kk : W p l e R s m args below meth c H locs cells slots Q (F0 m (pc + 3) ls (va_rf (xx_o D (fd_ X 5)) :: rest))) : W p l e R s m args below meth c H locs cells slots Q (F0 m pc ls (.ref o :: rest)) :=
  xx_gets hx hb hts hown hK hW hq hd (by rw [xx_b_rf]; exact kk)
/-! fields of bodies -/
theorem xb_get {own ref : String} (hx : p.tables.exec = Jvm.exec) (hb : c.code = cc) (hts : ∀ w ∈ lw_all, w.before args s = true) (hown : s.vm.findClass own = some m.cls) (hK : wm_K G s) (hW : xx_W G o d0 X E D H) {b : Int32} (hi : xb_in X b) {index k : Nat} {t : String × String × String × Bool} {ty : FieldType} {x : Option (Bool × Nat)} (hf : xf_ok (xq X b) k t ty x) (hq : (Cond.fieldLink own index ref t.2.1 t.2.2.1) ∈ lw_all) (hr : t.1 = ref) {v : Value} (hv : xx_BV o D X b.toNatClampNeg (xq X b) k = v) (hd : decode cc pc = .ok (.getfield index, 3))
    (kk : W p l e R s m args below meth c H locs cells slots Q (F0 m (pc + 3) ls (v :: rest))) : W p l e R s m args below meth c H locs cells slots Q (F0 m pc ls (.ref (xb_ D b) :: rest)) := by
  obtain ⟨h1, h2, h3, h4⟩ := hf
  have hlt := xq_lt hW hi
  exact wm_get hx hb hts (xk_ws _ hlt) hown hK (xk_cl _ hlt) (xb_cell hW hi) k h1 (by rw [h2]; exact hq) (fun z hz => by rw [h2] at hz ⊢; rw [hr] at hz; exact hz) hv hd kk
theorem xb_getN {own ref host : String} (hx : p.tables.exec = Jvm.exec) (hb : c.code = cc) (hts : ∀ w ∈ lw_all, w.before args s = true) (hown : s.vm.findClass own = some m.cls) (hK : wm_K G s) (hW : xx_W G o d0 X E D H) {b : Int32} (hi : xb_in X b) {index k : Nat} {t : String × String × String × Bool} {ty : FieldType} {x : Option (Bool × Nat)} (hf : xf_ok (xq X b) k t ty x) (hq : va_Nw (Cond.fieldLinkNest own index ref t.2.1 t.2.2.1 host) s) (hr : t.1 = ref) {v : Value} (hv : xx_BV o D X b.toNatClampNeg (xq X b) k = v) (hd : decode cc pc = .ok (.getfield index, 3))
    (kk : W p l e R s m args below meth c H locs cells slots Q (F0 m (pc + 3) ls (v :: rest))) : W p l e R s m args below meth c H locs cells slots Q (F0 m pc ls (.ref (xb_ D b) :: rest)) := by
  obtain ⟨h1, h2, h3, h4⟩ := hf
  have hlt := xq_lt hW hi
  exact wm_getN hx hb hts (xk_ws _ hlt) hown hK (xk_cl _ hlt) (xb_cell hW hi) k h1 (by rw [h2]; exact hq) (fun z hz => by rw [h2] at hz ⊢; rw [hr] at hz; exact hz) hv hd kk
theorem xb_vi {b : Int32} {q k f : Nat} {t : String × String × String × Bool} {ty : FieldType} (hf : xf_ok q k t ty (some (false, f))) (hk : k ≠ 0) : xx_BV o D X b.toNatClampNeg q k = .int (rd_ X f b) := by
  unfold xx_BV
  rw [if_neg hk, hf.2.2.2]
  rfl
theorem xb_va {b : Int32} {q k j : Nat} {t : String × String × String × Bool} {ty : FieldType} (hf : xf_ok q k t ty (some (true, j))) (hk : k ≠ 0) : xx_BV o D X b.toNatClampNeg q k = .ref (xb_ D b + j) := by
  unfold xx_BV
  rw [if_neg hk, hf.2.2.2]
theorem xb_vo {b : Int32} {q k : Nat} {t : String × String × String × Bool} {ty : FieldType} (hf : xf_ok q k t ty none) (hk : k ≠ 0) : xx_BV o D X b.toNatClampNeg q k = .ref o := by
  unfold xx_BV
  rw [if_neg hk, hf.2.2.2]
theorem xb_vn {b : Int32} {q : Nat} (h : 0 ≤ b.toInt) : xx_BV o D X b.toNatClampNeg q 0 = .int b := by
  unfold xx_BV
  rw [if_pos rfl, xb_of h]
theorem xb_put {own ref : String} (hx : p.tables.exec = Jvm.exec) (hb : c.code = cc) (hts : ∀ w ∈ lw_all, w.before args s = true) (hown : s.vm.findClass own = some m.cls) (hK : wm_K G s) (hW : xx_W G o d0 X E D H) (hS : va_S (xx_F o d0) H0 H locs) {b : Int32} (hi : xb_in X b) {index k f : Nat} {t : String × String × String × Bool} {ty : FieldType} (hf : xf_ok (xq X b) k t ty (some (false, f))) (hnm : xf_nm (xq X b) k) (hk0 : k ≠ 0) (hfin : t.2.2.2 = false) {v : Int32} (hn : narrow ty (.int v) = .int v) (hfit : fits ty (.int v) = true) (hq : (Cond.fieldLink own index ref t.2.1 t.2.2.1) ∈ lw_all) (hr : t.1 = ref) (hd : decode cc pc = .ok (.putfield index, 3))
    (kk : ∀ (X1 : mm_S) (H1 : Heap) (locs1 : List Loc), X1 = wr_ X f b v → xx_W G o d0 X1 E D H1 → va_S (xx_F o d0) H0 H1 locs1 → W p l e R s m args below meth c H1 locs1 cells slots Q (F0 m (pc + 3) ls rest)) : W p l e R s m args below meth c H locs cells slots Q (F0 m pc ls (.int v :: .ref (xb_ D b) :: rest)) := by
  obtain ⟨h1, h2, h3, h4⟩ := hf
  have hlt := xq_lt hW hi
  exact wm_put1 hx hb hts (xk_ws _ hlt) (xk_ty _) (xk_tys _ hlt) hown hK (xk_cl _ hlt) (xb_cell hW hi) hS (xb_F hW hi (j := 0) (Or.inl rfl)) k h1 hnm (by rw [h2]; exact hq) (fun z hz => by rw [h2] at hz ⊢; rw [hr] at hz; exact hz) (by rw [h2]; exact hfin) (by rw [h3]; exact hn) (by rw [h3]; exact hfit) hd
    (fun H1 locs1 hO hz oq hS1 => kk _ H1 locs1 rfl (hW.bput (xb_n hi) h4 hk0 hO hz oq) hS1)
theorem xb_putN {own ref host : String} (hx : p.tables.exec = Jvm.exec) (hb : c.code = cc) (hts : ∀ w ∈ lw_all, w.before args s = true) (hown : s.vm.findClass own = some m.cls) (hK : wm_K G s) (hW : xx_W G o d0 X E D H) (hS : va_S (xx_F o d0) H0 H locs) {b : Int32} (hi : xb_in X b) {index k f : Nat} {t : String × String × String × Bool} {ty : FieldType} (hf : xf_ok (xq X b) k t ty (some (false, f))) (hnm : xf_nm (xq X b) k) (hk0 : k ≠ 0) (hfin : t.2.2.2 = false) {v : Int32} (hn : narrow ty (.int v) = .int v) (hfit : fits ty (.int v) = true) (hq : va_Nw (Cond.fieldLinkNest own index ref t.2.1 t.2.2.1 host) s) (hr : t.1 = ref) (hd : decode cc pc = .ok (.putfield index, 3))
    (kk : ∀ (X1 : mm_S) (H1 : Heap) (locs1 : List Loc), X1 = wr_ X f b v → xx_W G o d0 X1 E D H1 → va_S (xx_F o d0) H0 H1 locs1 → W p l e R s m args below meth c H1 locs1 cells slots Q (F0 m (pc + 3) ls rest)) : W p l e R s m args below meth c H locs cells slots Q (F0 m pc ls (.int v :: .ref (xb_ D b) :: rest)) := by
  obtain ⟨h1, h2, h3, h4⟩ := hf
  have hlt := xq_lt hW hi
  exact wm_put1N hx hb hts (xk_ws _ hlt) (xk_ty _) (xk_tys _ hlt) hown hK (xk_cl _ hlt) (xb_cell hW hi) hS (xb_F hW hi (j := 0) (Or.inl rfl)) k h1 hnm (by rw [h2]; exact hq) (fun z hz => by rw [h2] at hz ⊢; rw [hr] at hz; exact hz) (by rw [h2]; exact hfin) (by rw [h3]; exact hn) (by rw [h3]; exact hfit) hd
    (fun H1 locs1 hO hz oq hS1 => kk _ H1 locs1 rfl (hW.bput (xb_n hi) h4 hk0 hO hz oq) hS1)
/-- a hole's arrays: 0 leans 1 met 2 logs 3 hasLog -/
def xh_in (X : mm_S) (b : Int32) : Prop := xb_in X b ∧ 2 ≤ xq X b ∧ xq X b ≤ 5
theorem xh_iald (hx : p.tables.exec = Jvm.exec) (hb : c.code = cc) (hK : wm_K G s) (hW : xx_W G o d0 X E D H) {b : Int32} (hi : xh_in X b) (j : Nat) (hj : j < 3) (f : Nat) (hf : xx_hf.getD j 0 = f) {y : Int32} (hin : vp_in y 61) (hd : decode cc pc = .ok (.iaload, 1)) (kk : W p l e R s m args below meth c H locs cells slots Q (F0 m (pc + 1) ls (.int (ra_ X f b y) :: rest))) : W p l e R s m args below meth c H locs cells slots Q (F0 m pc ls (.int y :: .ref (xb_ D b + (1 + j)) :: rest)) := by
  have h := hW.har _ (xb_n hi.1) hi.2.1 hi.2.2 j (by omega)
  rw [if_neg (by omega)] at h
  subst hf
  exact wm_iald hx hb hK h hin (v := .int (ra_ X (xx_hf.getD j 0) b y)) rfl hd kk
theorem xh_zald (hx : p.tables.exec = Jvm.exec) (hb : c.code = cc) (hK : wm_K G s) (hW : xx_W G o d0 X E D H) {b : Int32} (hi : xh_in X b) {y : Int32} (hin : vp_in y 61) (hd : decode cc pc = .ok (.baload, 1)) (kk : W p l e R s m args below meth c H locs cells slots Q (F0 m (pc + 1) ls (.int (ra_ X 71 b y) :: rest))) : W p l e R s m args below meth c H locs cells slots Q (F0 m pc ls (.int y :: .ref (xb_ D b + 4) :: rest)) := by
  have h := hW.har _ (xb_n hi.1) hi.2.1 hi.2.2 3 (by omega)
  exact wm_zald hx hb hK h hin (v := .int (ra_ X 71 b y)) rfl hd kk
theorem xh_iast (hx : p.tables.exec = Jvm.exec) (hb : c.code = cc) (hK : wm_K G s) (hW : xx_W G o d0 X E D H) (hS : va_S (xx_F o d0) H0 H locs) {b : Int32} (hi : xh_in X b) (j : Nat) (hj : j < 3) (f : Nat) (hf : xx_hf.getD j 0 = f) {y v : Int32} (hin : vp_in y 61) (hd : decode cc pc = .ok (.iastore, 1))
    (kk : ∀ (X1 : mm_S) (H1 : Heap) (locs1 : List Loc), X1 = wa_ X f b y v → xx_W G o d0 X1 E D H1 → va_S (xx_F o d0) H0 H1 locs1 → W p l e R s m args below meth c H1 locs1 cells slots Q (F0 m (pc + 1) ls rest)) : W p l e R s m args below meth c H locs cells slots Q (F0 m pc ls (.int v :: .int y :: .ref (xb_ D b + (1 + j)) :: rest)) := by
  have h := hW.har _ (xb_n hi.1) hi.2.1 hi.2.2 j (by omega)
  rw [if_neg (by omega)] at h
  subst hf
  have hy : y.toNatClampNeg < 61 := Nat.not_le.mp fun q => hin (Or.inr q)
  refine wm_iast hx hb hK h hS (xb_F hW hi.1 (j := 1 + j) (Or.inr ⟨hi.2.1, hi.2.2, by omega⟩)) hin hd (fun H1 locs1 hA hz oq hS1 => kk _ H1 locs1 rfl ?_ hS1)
  exact hW.hput (xb_n hi.1) hi.2.1 hi.2.2 (by omega) hy (by rw [if_neg (by omega)]; exact hA) hz oq
theorem xh_zast (hx : p.tables.exec = Jvm.exec) (hb : c.code = cc) (hK : wm_K G s) (hW : xx_W G o d0 X E D H) (hS : va_S (xx_F o d0) H0 H locs) {b : Int32} (hi : xh_in X b) {y v : Int32} (hn : narrow .boolean (.int v) = .int v) (hin : vp_in y 61) (hd : decode cc pc = .ok (.bastore, 1))
    (kk : ∀ (X1 : mm_S) (H1 : Heap) (locs1 : List Loc), X1 = wa_ X 71 b y v → xx_W G o d0 X1 E D H1 → va_S (xx_F o d0) H0 H1 locs1 → W p l e R s m args below meth c H1 locs1 cells slots Q (F0 m (pc + 1) ls rest)) : W p l e R s m args below meth c H locs cells slots Q (F0 m pc ls (.int v :: .int y :: .ref (xb_ D b + 4) :: rest)) := by
  have h := hW.har _ (xb_n hi.1) hi.2.1 hi.2.2 3 (by omega)
  have hy : y.toNatClampNeg < 61 := Nat.not_le.mp fun q => hin (Or.inr q)
  refine wm_zast hx hb hK h hS (xb_F hW hi.1 (j := 4) (Or.inr ⟨hi.2.1, hi.2.2, by omega⟩)) hn hin hd (fun H1 locs1 hA hz oq hS1 => kk _ H1 locs1 rfl ?_ hS1)
  exact hW.hput (j := 3) (xb_n hi.1) hi.2.1 hi.2.2 (by omega) hy hA hz oq
/-! the kinds of a body -/
theorem xb_inst {own nm : String} (hx : p.tables.exec = Jvm.exec) (hb : c.code = cc) (hown : s.vm.findClass own = some m.cls) (hK : wm_K G s) (hW : xx_W G o d0 X E D H) {b : Int32} (hi : xb_in X b) {index : Nat} (hlink : (Cond.classLink own index nm).before args s = true) (f : Nat → Bool) (hy : ∀ q, q < 8 → f q = true → xl_As (xk_C q) nm s) (hno : ∀ q, q < 8 → f q = false → va_Nc (xk_C q) nm s) (hd : decode cc pc = .ok (.instanceof index, 3))
    (kk : W p l e R s m args below meth c H locs cells slots Q (F0 m (pc + 3) ls (.int (if f (xq X b) = true then 1 else 0) :: rest))) : W p l e R s m args below meth c H locs cells slots Q (F0 m pc ls (.ref (xb_ D b) :: rest)) := by
  have hr := xb_recv hK hW hi
  have hlt := xq_lt hW hi
  cases hf : f (xq X b) with
  | true =>
    rw [hf] at kk
    obtain ⟨cell, h1, h2, h3⟩ := hr
    obtain ⟨c0, t0, f1, f2, f3⟩ := hy _ hlt hf
    cases h3.symm.trans f1
    intro T hT Z
    obtain ⟨vm', Z', st⟩ := Z.instanceofYes hx hown hlink (by rw [hT]; exact h1) h2 f2 f3 (g := F0 m pc ls (.ref (xb_ D b) :: rest)) rfl rfl (by rw [hb]; exact hd)
    obtain ⟨t, a1, b1⟩ := kk (T.setVm vm') hT Z'
    exact ⟨t, st t a1, b1⟩
  | false =>
    rw [hf] at kk
    exact va_instNo hx hb hown hlink (hno _ hlt hf) hr hd kk
theorem xb_castY {own nm : String} (hx : p.tables.exec = Jvm.exec) (hb : c.code = cc) (hown : s.vm.findClass own = some m.cls) (hK : wm_K G s) (hW : xx_W G o d0 X E D H) {b : Int32} (hi : xb_in X b) {index : Nat} (hlink : (Cond.classLink own index nm).before args s = true) (hy : xl_As (xk_C (xq X b)) nm s) (hd : decode cc pc = .ok (.checkcast index, 3))
    (kk : W p l e R s m args below meth c H locs cells slots Q (F0 m (pc + 3) ls (.ref (xb_ D b) :: rest))) : W p l e R s m args below meth c H locs cells slots Q (F0 m pc ls (.ref (xb_ D b) :: rest)) := by
  obtain ⟨cell, h1, h2, h3⟩ := xb_recv hK hW hi
  obtain ⟨c0, t0, f1, f2, f3⟩ := hy
  cases h3.symm.trans f1
  intro T hT Z
  obtain ⟨vm', Z', st⟩ := Z.checkcastYes hx hown hlink (by rw [hT]; exact h1) h2 f2 f3 (g := F0 m pc ls (.ref (xb_ D b) :: rest)) rfl rfl (by rw [hb]; exact hd)
  obtain ⟨t, a1, b1⟩ := kk (T.setVm vm') hT Z'
  exact ⟨t, st t a1, b1⟩
theorem xk_fc (hK : wm_K G s) (q : Nat) (hq : q < 8) : ∃ c : ClassId, s.vm.findClass (xk_C q) = some c := ⟨_, (hK.1 _ _ (xk_cl q hq)).2.1⟩
theorem xk_yHole (hK : wm_K G s) (hN : xn_T s) : ∀ q, q < 8 → (fun q => q == 2 || q == 3 || q == 4 || q == 5 : Nat → Bool) q = true → xl_As (xk_C q) RX8 s
  | 0, _, h => absurd h (by decide)
  | 1, _, h => absurd h (by decide)
  | 2, _, h => (xl_As.self (xk_fc hK 2 (by decide)).choose_spec)
  | 3, _, h => (xl_As.of (hN.ca q2441))
  | 4, _, h => (xl_As.of (hN.ca q2440))
  | 5, _, h => (xl_As.of (hN.ca q2439))
  | 6, _, h => absurd h (by decide)
  | 7, _, h => absurd h (by decide)
theorem xk_nHole (hN : xn_T s) : ∀ q, q < 8 → (fun q => q == 2 || q == 3 || q == 4 || q == 5 : Nat → Bool) q = false → va_Nc (xk_C q) RX8 s
  | 0, _, h => (hN.nc (C := "ThirtyThreeBelow$Body") (T := "ThirtyThreeBelow$Hole") (List.mem_of_getElem? (i := 0) rfl))
  | 1, _, h => (hN.nc (C := "ThirtyThreeBelow$Way") (T := "ThirtyThreeBelow$Hole") (List.mem_of_getElem? (i := 4) rfl))
  | 2, _, h => absurd h (by decide)
  | 3, _, h => absurd h (by decide)
  | 4, _, h => absurd h (by decide)
  | 5, _, h => absurd h (by decide)
  | 6, _, h => (hN.nc (C := "ThirtyThreeBelow$Shelter") (T := "ThirtyThreeBelow$Hole") (List.mem_of_getElem? (i := 17) rfl))
  | 7, _, h => (hN.nc (C := "ThirtyThreeBelow$Man") (T := "ThirtyThreeBelow$Hole") (List.mem_of_getElem? (i := 21) rfl))
theorem xk_fHole (k : Int32) (h0 : 0 ≤ k.toInt) (h8 : k.toInt < 8) : (if (fun q => q == 2 || q == 3 || q == 4 || q == 5 : Nat → Bool) k.toInt.toNat = true then (1 : Int32) else 0) = xk_Hole k := by
  have e : k.toInt = 0 ∨ k.toInt = 1 ∨ k.toInt = 2 ∨ k.toInt = 3 ∨ k.toInt = 4 ∨ k.toInt = 5 ∨ k.toInt = 6 ∨ k.toInt = 7 := by omega
  rcases e with e | e | e | e | e | e | e | e
  · have h : k = 0 := ww_eq (by rw [e]; decide)
    subst h; decide
  · have h : k = 1 := ww_eq (by rw [e]; decide)
    subst h; decide
  · have h : k = 2 := ww_eq (by rw [e]; decide)
    subst h; decide
  · have h : k = 3 := ww_eq (by rw [e]; decide)
    subst h; decide
  · have h : k = 4 := ww_eq (by rw [e]; decide)
    subst h; decide
  · have h : k = 5 := ww_eq (by rw [e]; decide)
    subst h; decide
  · have h : k = 6 := ww_eq (by rw [e]; decide)
    subst h; decide
  · have h : k = 7 := ww_eq (by rw [e]; decide)
    subst h; decide
theorem xb_instHole (hx : p.tables.exec = Jvm.exec) (hb : c.code = cc) (hts : ∀ w ∈ lw_all, w.before args s = true) (hown : s.vm.findClass RX0 = some m.cls) (hK : wm_K G s) (hN : xn_T s) (hW : xx_W G o d0 X E D H) {b : Int32} (hi : xb_in X b) {index : Nat} (hq : (Cond.classLink RX0 index RX8) ∈ lw_all) (hd : decode cc pc = .ok (.instanceof index, 3)) (kk : W p l e R s m args below meth c H locs cells slots Q (F0 m (pc + 3) ls (.int (xk_Hole (rd_ X 60 b)) :: rest))) : W p l e R s m args below meth c H locs cells slots Q (F0 m pc ls (.ref (xb_ D b) :: rest)) :=
  xb_inst hx hb hown hK hW hi (hts _ hq) _ (xk_yHole hK hN) (xk_nHole hN) hd (by rw [show xq X b = (rd_ X 60 b).toInt.toNat from rfl, xk_fHole _ (xb_kind hW hi).1 (xb_kind hW hi).2]; exact kk)
theorem xb_castHole (hx : p.tables.exec = Jvm.exec) (hb : c.code = cc) (hts : ∀ w ∈ lw_all, w.before args s = true) (hown : s.vm.findClass RX0 = some m.cls) (hK : wm_K G s) (hN : xn_T s) (hW : xx_W G o d0 X E D H) {b : Int32} (hi : xb_in X b) {index : Nat} (hq : (Cond.classLink RX0 index RX8) ∈ lw_all) (hk : ¬ xk_Hole (rd_ X 60 b) = 0) (hd : decode cc pc = .ok (.checkcast index, 3)) (kk : W p l e R s m args below meth c H locs cells slots Q (F0 m (pc + 3) ls (.ref (xb_ D b) :: rest))) : W p l e R s m args below meth c H locs cells slots Q (F0 m pc ls (.ref (xb_ D b) :: rest)) := by
  refine xb_castY hx hb hown hK hW hi (hts _ hq) (xk_yHole hK hN _ (xq_lt hW hi) ?_) hd kk
  rw [← xk_fHole _ (xb_kind hW hi).1 (xb_kind hW hi).2] at hk
  cases hf : (fun q => q == 2 || q == 3 || q == 4 || q == 5 : Nat → Bool) (xq X b) with
  | true => rfl
  | false => exact absurd (by rw [show (fun q => q == 2 || q == 3 || q == 4 || q == 5 : Nat → Bool) (rd_ X 60 b).toInt.toNat = false from hf]; rfl) hk
theorem xk_yMan (hK : wm_K G s) (hN : xn_T s) : ∀ q, q < 8 → (fun q => q == 7 : Nat → Bool) q = true → xl_As (xk_C q) RX13 s
  | 0, _, h => absurd h (by decide)
  | 1, _, h => absurd h (by decide)
  | 2, _, h => absurd h (by decide)
  | 3, _, h => absurd h (by decide)
  | 4, _, h => absurd h (by decide)
  | 5, _, h => absurd h (by decide)
  | 6, _, h => absurd h (by decide)
  | 7, _, h => (xl_As.self (xk_fc hK 7 (by decide)).choose_spec)
theorem xk_nMan (hN : xn_T s) : ∀ q, q < 8 → (fun q => q == 7 : Nat → Bool) q = false → va_Nc (xk_C q) RX13 s
  | 0, _, h => (hN.nc (C := "ThirtyThreeBelow$Body") (T := "ThirtyThreeBelow$Man") (List.mem_of_getElem? (i := 3) rfl))
  | 1, _, h => (hN.nc (C := "ThirtyThreeBelow$Way") (T := "ThirtyThreeBelow$Man") (List.mem_of_getElem? (i := 7) rfl))
  | 2, _, h => (hN.nc (C := "ThirtyThreeBelow$Hole") (T := "ThirtyThreeBelow$Man") (List.mem_of_getElem? (i := 10) rfl))
  | 3, _, h => (hN.nc (C := "ThirtyThreeBelow$Tube") (T := "ThirtyThreeBelow$Man") (List.mem_of_getElem? (i := 12) rfl))
  | 4, _, h => (hN.nc (C := "ThirtyThreeBelow$Shaft") (T := "ThirtyThreeBelow$Man") (List.mem_of_getElem? (i := 14) rfl))
  | 5, _, h => (hN.nc (C := "ThirtyThreeBelow$Liner") (T := "ThirtyThreeBelow$Man") (List.mem_of_getElem? (i := 16) rfl))
  | 6, _, h => (hN.nc (C := "ThirtyThreeBelow$Shelter") (T := "ThirtyThreeBelow$Man") (List.mem_of_getElem? (i := 20) rfl))
  | 7, _, h => absurd h (by decide)
theorem xk_fMan (k : Int32) (h0 : 0 ≤ k.toInt) (h8 : k.toInt < 8) : (if (fun q => q == 7 : Nat → Bool) k.toInt.toNat = true then (1 : Int32) else 0) = xk_Man k := by
  have e : k.toInt = 0 ∨ k.toInt = 1 ∨ k.toInt = 2 ∨ k.toInt = 3 ∨ k.toInt = 4 ∨ k.toInt = 5 ∨ k.toInt = 6 ∨ k.toInt = 7 := by omega
  rcases e with e | e | e | e | e | e | e | e
  · have h : k = 0 := ww_eq (by rw [e]; decide)
    subst h; decide
  · have h : k = 1 := ww_eq (by rw [e]; decide)
    subst h; decide
  · have h : k = 2 := ww_eq (by rw [e]; decide)
    subst h; decide
  · have h : k = 3 := ww_eq (by rw [e]; decide)
    subst h; decide
  · have h : k = 4 := ww_eq (by rw [e]; decide)
    subst h; decide
  · have h : k = 5 := ww_eq (by rw [e]; decide)
    subst h; decide
  · have h : k = 6 := ww_eq (by rw [e]; decide)
    subst h; decide
  · have h : k = 7 := ww_eq (by rw [e]; decide)
    subst h; decide
theorem xb_instMan (hx : p.tables.exec = Jvm.exec) (hb : c.code = cc) (hts : ∀ w ∈ lw_all, w.before args s = true) (hown : s.vm.findClass RX0 = some m.cls) (hK : wm_K G s) (hN : xn_T s) (hW : xx_W G o d0 X E D H) {b : Int32} (hi : xb_in X b) {index : Nat} (hq : (Cond.classLink RX0 index RX13) ∈ lw_all) (hd : decode cc pc = .ok (.instanceof index, 3)) (kk : W p l e R s m args below meth c H locs cells slots Q (F0 m (pc + 3) ls (.int (xk_Man (rd_ X 60 b)) :: rest))) : W p l e R s m args below meth c H locs cells slots Q (F0 m pc ls (.ref (xb_ D b) :: rest)) :=
  xb_inst hx hb hown hK hW hi (hts _ hq) _ (xk_yMan hK hN) (xk_nMan hN) hd (by rw [show xq X b = (rd_ X 60 b).toInt.toNat from rfl, xk_fMan _ (xb_kind hW hi).1 (xb_kind hW hi).2]; exact kk)
theorem xb_castMan (hx : p.tables.exec = Jvm.exec) (hb : c.code = cc) (hts : ∀ w ∈ lw_all, w.before args s = true) (hown : s.vm.findClass RX0 = some m.cls) (hK : wm_K G s) (hN : xn_T s) (hW : xx_W G o d0 X E D H) {b : Int32} (hi : xb_in X b) {index : Nat} (hq : (Cond.classLink RX0 index RX13) ∈ lw_all) (hk : ¬ xk_Man (rd_ X 60 b) = 0) (hd : decode cc pc = .ok (.checkcast index, 3)) (kk : W p l e R s m args below meth c H locs cells slots Q (F0 m (pc + 3) ls (.ref (xb_ D b) :: rest))) : W p l e R s m args below meth c H locs cells slots Q (F0 m pc ls (.ref (xb_ D b) :: rest)) := by
  refine xb_castY hx hb hown hK hW hi (hts _ hq) (xk_yMan hK hN _ (xq_lt hW hi) ?_) hd kk
  rw [← xk_fMan _ (xb_kind hW hi).1 (xb_kind hW hi).2] at hk
  cases hf : (fun q => q == 7 : Nat → Bool) (xq X b) with
  | true => rfl
  | false => exact absurd (by rw [show (fun q => q == 7 : Nat → Bool) (rd_ X 60 b).toInt.toNat = false from hf]; rfl) hk
theorem xk_yTube (hK : wm_K G s) (hN : xn_T s) : ∀ q, q < 8 → (fun q => q == 3 : Nat → Bool) q = true → xl_As (xk_C q) RX9 s
  | 0, _, h => absurd h (by decide)
  | 1, _, h => absurd h (by decide)
  | 2, _, h => absurd h (by decide)
  | 3, _, h => (xl_As.self (xk_fc hK 3 (by decide)).choose_spec)
  | 4, _, h => absurd h (by decide)
  | 5, _, h => absurd h (by decide)
  | 6, _, h => absurd h (by decide)
  | 7, _, h => absurd h (by decide)
theorem xk_nTube (hN : xn_T s) : ∀ q, q < 8 → (fun q => q == 3 : Nat → Bool) q = false → va_Nc (xk_C q) RX9 s
  | 0, _, h => (hN.nc (C := "ThirtyThreeBelow$Body") (T := "ThirtyThreeBelow$Tube") (List.mem_of_getElem? (i := 1) rfl))
  | 1, _, h => (hN.nc (C := "ThirtyThreeBelow$Way") (T := "ThirtyThreeBelow$Tube") (List.mem_of_getElem? (i := 5) rfl))
  | 2, _, h => (hN.nc (C := "ThirtyThreeBelow$Hole") (T := "ThirtyThreeBelow$Tube") (List.mem_of_getElem? (i := 8) rfl))
  | 3, _, h => absurd h (by decide)
  | 4, _, h => (hN.nc (C := "ThirtyThreeBelow$Shaft") (T := "ThirtyThreeBelow$Tube") (List.mem_of_getElem? (i := 13) rfl))
  | 5, _, h => (hN.nc (C := "ThirtyThreeBelow$Liner") (T := "ThirtyThreeBelow$Tube") (List.mem_of_getElem? (i := 15) rfl))
  | 6, _, h => (hN.nc (C := "ThirtyThreeBelow$Shelter") (T := "ThirtyThreeBelow$Tube") (List.mem_of_getElem? (i := 18) rfl))
  | 7, _, h => (hN.nc (C := "ThirtyThreeBelow$Man") (T := "ThirtyThreeBelow$Tube") (List.mem_of_getElem? (i := 22) rfl))
theorem xk_fTube (k : Int32) (h0 : 0 ≤ k.toInt) (h8 : k.toInt < 8) : (if (fun q => q == 3 : Nat → Bool) k.toInt.toNat = true then (1 : Int32) else 0) = xk_Tube k := by
  have e : k.toInt = 0 ∨ k.toInt = 1 ∨ k.toInt = 2 ∨ k.toInt = 3 ∨ k.toInt = 4 ∨ k.toInt = 5 ∨ k.toInt = 6 ∨ k.toInt = 7 := by omega
  rcases e with e | e | e | e | e | e | e | e
  · have h : k = 0 := ww_eq (by rw [e]; decide)
    subst h; decide
  · have h : k = 1 := ww_eq (by rw [e]; decide)
    subst h; decide
  · have h : k = 2 := ww_eq (by rw [e]; decide)
    subst h; decide
  · have h : k = 3 := ww_eq (by rw [e]; decide)
    subst h; decide
  · have h : k = 4 := ww_eq (by rw [e]; decide)
    subst h; decide
  · have h : k = 5 := ww_eq (by rw [e]; decide)
    subst h; decide
  · have h : k = 6 := ww_eq (by rw [e]; decide)
    subst h; decide
  · have h : k = 7 := ww_eq (by rw [e]; decide)
    subst h; decide
theorem xb_instTube (hx : p.tables.exec = Jvm.exec) (hb : c.code = cc) (hts : ∀ w ∈ lw_all, w.before args s = true) (hown : s.vm.findClass RX0 = some m.cls) (hK : wm_K G s) (hN : xn_T s) (hW : xx_W G o d0 X E D H) {b : Int32} (hi : xb_in X b) {index : Nat} (hq : (Cond.classLink RX0 index RX9) ∈ lw_all) (hd : decode cc pc = .ok (.instanceof index, 3)) (kk : W p l e R s m args below meth c H locs cells slots Q (F0 m (pc + 3) ls (.int (xk_Tube (rd_ X 60 b)) :: rest))) : W p l e R s m args below meth c H locs cells slots Q (F0 m pc ls (.ref (xb_ D b) :: rest)) :=
  xb_inst hx hb hown hK hW hi (hts _ hq) _ (xk_yTube hK hN) (xk_nTube hN) hd (by rw [show xq X b = (rd_ X 60 b).toInt.toNat from rfl, xk_fTube _ (xb_kind hW hi).1 (xb_kind hW hi).2]; exact kk)
theorem xb_castTube (hx : p.tables.exec = Jvm.exec) (hb : c.code = cc) (hts : ∀ w ∈ lw_all, w.before args s = true) (hown : s.vm.findClass RX0 = some m.cls) (hK : wm_K G s) (hN : xn_T s) (hW : xx_W G o d0 X E D H) {b : Int32} (hi : xb_in X b) {index : Nat} (hq : (Cond.classLink RX0 index RX9) ∈ lw_all) (hk : ¬ xk_Tube (rd_ X 60 b) = 0) (hd : decode cc pc = .ok (.checkcast index, 3)) (kk : W p l e R s m args below meth c H locs cells slots Q (F0 m (pc + 3) ls (.ref (xb_ D b) :: rest))) : W p l e R s m args below meth c H locs cells slots Q (F0 m pc ls (.ref (xb_ D b) :: rest)) := by
  refine xb_castY hx hb hown hK hW hi (hts _ hq) (xk_yTube hK hN _ (xq_lt hW hi) ?_) hd kk
  rw [← xk_fTube _ (xb_kind hW hi).1 (xb_kind hW hi).2] at hk
  cases hf : (fun q => q == 3 : Nat → Bool) (xq X b) with
  | true => rfl
  | false => exact absurd (by rw [show (fun q => q == 3 : Nat → Bool) (rd_ X 60 b).toInt.toNat = false from hf]; rfl) hk
theorem xk_yShaft (hK : wm_K G s) (hN : xn_T s) : ∀ q, q < 8 → (fun q => q == 4 || q == 5 : Nat → Bool) q = true → xl_As (xk_C q) RX10 s
  | 0, _, h => absurd h (by decide)
  | 1, _, h => absurd h (by decide)
  | 2, _, h => absurd h (by decide)
  | 3, _, h => absurd h (by decide)
  | 4, _, h => (xl_As.self (xk_fc hK 4 (by decide)).choose_spec)
  | 5, _, h => (xl_As.of (hN.ca q2442))
  | 6, _, h => absurd h (by decide)
  | 7, _, h => absurd h (by decide)
theorem xk_nShaft (hN : xn_T s) : ∀ q, q < 8 → (fun q => q == 4 || q == 5 : Nat → Bool) q = false → va_Nc (xk_C q) RX10 s
  | 0, _, h => (hN.nc (C := "ThirtyThreeBelow$Body") (T := "ThirtyThreeBelow$Shaft") (List.mem_of_getElem? (i := 2) rfl))
  | 1, _, h => (hN.nc (C := "ThirtyThreeBelow$Way") (T := "ThirtyThreeBelow$Shaft") (List.mem_of_getElem? (i := 6) rfl))
  | 2, _, h => (hN.nc (C := "ThirtyThreeBelow$Hole") (T := "ThirtyThreeBelow$Shaft") (List.mem_of_getElem? (i := 9) rfl))
  | 3, _, h => (hN.nc (C := "ThirtyThreeBelow$Tube") (T := "ThirtyThreeBelow$Shaft") (List.mem_of_getElem? (i := 11) rfl))
  | 4, _, h => absurd h (by decide)
  | 5, _, h => absurd h (by decide)
  | 6, _, h => (hN.nc (C := "ThirtyThreeBelow$Shelter") (T := "ThirtyThreeBelow$Shaft") (List.mem_of_getElem? (i := 19) rfl))
  | 7, _, h => (hN.nc (C := "ThirtyThreeBelow$Man") (T := "ThirtyThreeBelow$Shaft") (List.mem_of_getElem? (i := 23) rfl))
theorem xk_fShaft (k : Int32) (h0 : 0 ≤ k.toInt) (h8 : k.toInt < 8) : (if (fun q => q == 4 || q == 5 : Nat → Bool) k.toInt.toNat = true then (1 : Int32) else 0) = xk_Shaft k := by
  have e : k.toInt = 0 ∨ k.toInt = 1 ∨ k.toInt = 2 ∨ k.toInt = 3 ∨ k.toInt = 4 ∨ k.toInt = 5 ∨ k.toInt = 6 ∨ k.toInt = 7 := by omega
  rcases e with e | e | e | e | e | e | e | e
  · have h : k = 0 := ww_eq (by rw [e]; decide)
    subst h; decide
  · have h : k = 1 := ww_eq (by rw [e]; decide)
    subst h; decide
  · have h : k = 2 := ww_eq (by rw [e]; decide)
    subst h; decide
  · have h : k = 3 := ww_eq (by rw [e]; decide)
    subst h; decide
  · have h : k = 4 := ww_eq (by rw [e]; decide)
    subst h; decide
  · have h : k = 5 := ww_eq (by rw [e]; decide)
    subst h; decide
  · have h : k = 6 := ww_eq (by rw [e]; decide)
    subst h; decide
  · have h : k = 7 := ww_eq (by rw [e]; decide)
    subst h; decide
theorem xb_instShaft (hx : p.tables.exec = Jvm.exec) (hb : c.code = cc) (hts : ∀ w ∈ lw_all, w.before args s = true) (hown : s.vm.findClass RX0 = some m.cls) (hK : wm_K G s) (hN : xn_T s) (hW : xx_W G o d0 X E D H) {b : Int32} (hi : xb_in X b) {index : Nat} (hq : (Cond.classLink RX0 index RX10) ∈ lw_all) (hd : decode cc pc = .ok (.instanceof index, 3)) (kk : W p l e R s m args below meth c H locs cells slots Q (F0 m (pc + 3) ls (.int (xk_Shaft (rd_ X 60 b)) :: rest))) : W p l e R s m args below meth c H locs cells slots Q (F0 m pc ls (.ref (xb_ D b) :: rest)) :=
  xb_inst hx hb hown hK hW hi (hts _ hq) _ (xk_yShaft hK hN) (xk_nShaft hN) hd (by rw [show xq X b = (rd_ X 60 b).toInt.toNat from rfl, xk_fShaft _ (xb_kind hW hi).1 (xb_kind hW hi).2]; exact kk)
theorem xb_castShaft (hx : p.tables.exec = Jvm.exec) (hb : c.code = cc) (hts : ∀ w ∈ lw_all, w.before args s = true) (hown : s.vm.findClass RX0 = some m.cls) (hK : wm_K G s) (hN : xn_T s) (hW : xx_W G o d0 X E D H) {b : Int32} (hi : xb_in X b) {index : Nat} (hq : (Cond.classLink RX0 index RX10) ∈ lw_all) (hk : ¬ xk_Shaft (rd_ X 60 b) = 0) (hd : decode cc pc = .ok (.checkcast index, 3)) (kk : W p l e R s m args below meth c H locs cells slots Q (F0 m (pc + 3) ls (.ref (xb_ D b) :: rest))) : W p l e R s m args below meth c H locs cells slots Q (F0 m pc ls (.ref (xb_ D b) :: rest)) := by
  refine xb_castY hx hb hown hK hW hi (hts _ hq) (xk_yShaft hK hN _ (xq_lt hW hi) ?_) hd kk
  rw [← xk_fShaft _ (xb_kind hW hi).1 (xb_kind hW hi).2] at hk
  cases hf : (fun q => q == 4 || q == 5 : Nat → Bool) (xq X b) with
  | true => rfl
  | false => exact absurd (by rw [show (fun q => q == 4 || q == 5 : Nat → Bool) (rd_ X 60 b).toInt.toNat = false from hf]; rfl) hk
end XB
