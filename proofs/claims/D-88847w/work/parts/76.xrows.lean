/-! ROWS ON SHELVES: what lies there by its sort, walk rows, functions -/
/-- the sort of what a shelf holds: 0 .. 4 a row's, -1 none or a body -/
def xr_st (v : Int32) : Int32 := if v < 0 then (if v = -1 then -1 else -2 - v) else -1
def xr_is (k v : Int32) : Int32 := if xr_st v = k then 1 else 0
/-- what shelves hold -/
def xv_K (X : mm_S) : Prop := ∀ s : Int32, 0 ≤ s.toInt → s.toInt < 6 → -6 ≤ (rd_ X 58 s).toInt
theorem xr_cases {v : Int32} (h : -6 ≤ v.toInt) : v = -1 ∨ 0 ≤ v.toInt ∨ v = -2 ∨ v = -3 ∨ v = -4 ∨ v = -5 ∨ v = -6 := by
  rcases Int.lt_or_le v.toInt 0 with z | z
  · have : v.toInt = -1 ∨ v.toInt = -2 ∨ v.toInt = -3 ∨ v.toInt = -4 ∨ v.toInt = -5 ∨ v.toInt = -6 := by omega
    rcases this with q | q | q | q | q | q
    · exact Or.inl (ww_eq q)
    · exact Or.inr (Or.inr (Or.inl (ww_eq q)))
    · exact Or.inr (Or.inr (Or.inr (Or.inl (ww_eq q))))
    · exact Or.inr (Or.inr (Or.inr (Or.inr (Or.inl (ww_eq q)))))
    · exact Or.inr (Or.inr (Or.inr (Or.inr (Or.inr (Or.inl (ww_eq q))))))
    · exact Or.inr (Or.inr (Or.inr (Or.inr (Or.inr (Or.inr (ww_eq q))))))
  · exact Or.inr (Or.inl z)
theorem xr_st_b {v : Int32} (h : 0 ≤ v.toInt) : xr_st v = -1 := by
  unfold xr_st
  rw [if_neg (fun q => by have := ww_l0 q; omega)]
theorem xr_st_t {v : Int32} (h : -6 ≤ v.toInt) : xr_st v = -1 ∨ (0 ≤ (xr_st v).toInt ∧ (xr_st v).toInt ≤ 4 ∧ v.toInt = -2 - (xr_st v).toInt) := by
  rcases xr_cases h with q | q | q | q | q | q | q
  · subst q; exact Or.inl (by decide)
  · exact Or.inl (xr_st_b q)
  all_goals subst q; exact Or.inr (by decide)
theorem xr_sort {v : Int32} (h : -6 ≤ v.toInt) : (if xr_is 0 v = 0 then (if xr_is 1 v = 0 then (if xr_is 2 v = 0 then (if xr_is 3 v = 0 then (if xr_is 4 v = 0 then -1 else 4) else 3) else 2) else 1) else 0) = xr_st v := by
  rcases xr_cases h with q | q | q | q | q | q | q
  · subst q; decide
  · unfold xr_is
    rw [xr_st_b q]
    decide
  all_goals subst q; decide
def xr_C : Nat → String
  | 0 => "[B"
  | 1 => "[C"
  | 2 => "[I"
  | 3 => "[F"
  | _ => "[D"
def xr_T : Nat → FieldType
  | 0 => .byte
  | 1 => .char
  | 2 => .int
  | 3 => .float
  | _ => .double
abbrev xr_a (D : xg) (s : Int32) : Nat := xg_r D s.toNatClampNeg
def xr_f (X : mm_S) (E : mm_E) (t : Nat) (s : Int32) : Nat → Value := fun i => xx_el t (E 0 (60 * s.toNatClampNeg + i)) (X 101 (60 * s.toNatClampNeg + i))
section XRW
variable {p : Program} {l : Launch} {e : Env} {R : Room} {s : State} {m : MethodId} {args : Array Value} {below : List Frame} {meth : Method} {c : Code} {H : Heap} {locs : List Loc} {cells slots : Nat} {Q : State → Prop}
variable {cc : ByteArray} {pc : Nat} {ls : Array Slot} {rest st0 : List Value} {G : wm_G} {o d0 : Nat} {H0 : Heap} {X : mm_S} {E : mm_E} {D : xg} {nL : Nat}
theorem xr_nc (hN : xn_T s) : ∀ t k : Nat, t < 5 → k < 5 → t ≠ k → va_Nc (xr_C t) (xr_C k) s
  | 0, 0, _, _, h => absurd rfl h
  | 0, 1, _, _, h => (hN.nc (C := "[B") (T := "[C") (List.mem_of_getElem? (i := 64) rfl))
  | 0, 2, _, _, h => (hN.nc (C := "[B") (T := "[I") (List.mem_of_getElem? (i := 65) rfl))
  | 0, 3, _, _, h => (hN.nc (C := "[B") (T := "[F") (List.mem_of_getElem? (i := 66) rfl))
  | 0, 4, _, _, h => (hN.nc (C := "[B") (T := "[D") (List.mem_of_getElem? (i := 67) rfl))
  | 1, 0, _, _, h => (hN.nc (C := "[C") (T := "[B") (List.mem_of_getElem? (i := 69) rfl))
  | 1, 1, _, _, h => absurd rfl h
  | 1, 2, _, _, h => (hN.nc (C := "[C") (T := "[I") (List.mem_of_getElem? (i := 70) rfl))
  | 1, 3, _, _, h => (hN.nc (C := "[C") (T := "[F") (List.mem_of_getElem? (i := 71) rfl))
  | 1, 4, _, _, h => (hN.nc (C := "[C") (T := "[D") (List.mem_of_getElem? (i := 72) rfl))
  | 2, 0, _, _, h => (hN.nc (C := "[I") (T := "[B") (List.mem_of_getElem? (i := 74) rfl))
  | 2, 1, _, _, h => (hN.nc (C := "[I") (T := "[C") (List.mem_of_getElem? (i := 75) rfl))
  | 2, 2, _, _, h => absurd rfl h
  | 2, 3, _, _, h => (hN.nc (C := "[I") (T := "[F") (List.mem_of_getElem? (i := 76) rfl))
  | 2, 4, _, _, h => (hN.nc (C := "[I") (T := "[D") (List.mem_of_getElem? (i := 77) rfl))
  | 3, 0, _, _, h => (hN.nc (C := "[F") (T := "[B") (List.mem_of_getElem? (i := 79) rfl))
  | 3, 1, _, _, h => (hN.nc (C := "[F") (T := "[C") (List.mem_of_getElem? (i := 80) rfl))
  | 3, 2, _, _, h => (hN.nc (C := "[F") (T := "[I") (List.mem_of_getElem? (i := 81) rfl))
  | 3, 3, _, _, h => absurd rfl h
  | 3, 4, _, _, h => (hN.nc (C := "[F") (T := "[D") (List.mem_of_getElem? (i := 82) rfl))
  | 4, 0, _, _, h => (hN.nc (C := "[D") (T := "[B") (List.mem_of_getElem? (i := 84) rfl))
  | 4, 1, _, _, h => (hN.nc (C := "[D") (T := "[C") (List.mem_of_getElem? (i := 85) rfl))
  | 4, 2, _, _, h => (hN.nc (C := "[D") (T := "[I") (List.mem_of_getElem? (i := 86) rfl))
  | 4, 3, _, _, h => (hN.nc (C := "[D") (T := "[F") (List.mem_of_getElem? (i := 87) rfl))
  | 4, 4, _, _, h => absurd rfl h
  | n + 5, _, h, _, _ => absurd h (by omega)
  | _, n + 5, _, h, _ => absurd h (by omega)
theorem xr_nb (hN : xn_T s) : ∀ q k : Nat, q < 8 → k < 5 → va_Nc (xk_C q) (xr_C k) s
  | 0, 0, _, _ => (hN.nc (C := "ThirtyThreeBelow$Body") (T := "[B") (List.mem_of_getElem? (i := 24) rfl))
  | 0, 1, _, _ => (hN.nc (C := "ThirtyThreeBelow$Body") (T := "[C") (List.mem_of_getElem? (i := 25) rfl))
  | 0, 2, _, _ => (hN.nc (C := "ThirtyThreeBelow$Body") (T := "[I") (List.mem_of_getElem? (i := 26) rfl))
  | 0, 3, _, _ => (hN.nc (C := "ThirtyThreeBelow$Body") (T := "[F") (List.mem_of_getElem? (i := 27) rfl))
  | 0, 4, _, _ => (hN.nc (C := "ThirtyThreeBelow$Body") (T := "[D") (List.mem_of_getElem? (i := 28) rfl))
  | 1, 0, _, _ => (hN.nc (C := "ThirtyThreeBelow$Way") (T := "[B") (List.mem_of_getElem? (i := 29) rfl))
  | 1, 1, _, _ => (hN.nc (C := "ThirtyThreeBelow$Way") (T := "[C") (List.mem_of_getElem? (i := 30) rfl))
  | 1, 2, _, _ => (hN.nc (C := "ThirtyThreeBelow$Way") (T := "[I") (List.mem_of_getElem? (i := 31) rfl))
  | 1, 3, _, _ => (hN.nc (C := "ThirtyThreeBelow$Way") (T := "[F") (List.mem_of_getElem? (i := 32) rfl))
  | 1, 4, _, _ => (hN.nc (C := "ThirtyThreeBelow$Way") (T := "[D") (List.mem_of_getElem? (i := 33) rfl))
  | 2, 0, _, _ => (hN.nc (C := "ThirtyThreeBelow$Hole") (T := "[B") (List.mem_of_getElem? (i := 34) rfl))
  | 2, 1, _, _ => (hN.nc (C := "ThirtyThreeBelow$Hole") (T := "[C") (List.mem_of_getElem? (i := 35) rfl))
  | 2, 2, _, _ => (hN.nc (C := "ThirtyThreeBelow$Hole") (T := "[I") (List.mem_of_getElem? (i := 36) rfl))
  | 2, 3, _, _ => (hN.nc (C := "ThirtyThreeBelow$Hole") (T := "[F") (List.mem_of_getElem? (i := 37) rfl))
  | 2, 4, _, _ => (hN.nc (C := "ThirtyThreeBelow$Hole") (T := "[D") (List.mem_of_getElem? (i := 38) rfl))
  | 3, 0, _, _ => (hN.nc (C := "ThirtyThreeBelow$Tube") (T := "[B") (List.mem_of_getElem? (i := 39) rfl))
  | 3, 1, _, _ => (hN.nc (C := "ThirtyThreeBelow$Tube") (T := "[C") (List.mem_of_getElem? (i := 40) rfl))
  | 3, 2, _, _ => (hN.nc (C := "ThirtyThreeBelow$Tube") (T := "[I") (List.mem_of_getElem? (i := 41) rfl))
  | 3, 3, _, _ => (hN.nc (C := "ThirtyThreeBelow$Tube") (T := "[F") (List.mem_of_getElem? (i := 42) rfl))
  | 3, 4, _, _ => (hN.nc (C := "ThirtyThreeBelow$Tube") (T := "[D") (List.mem_of_getElem? (i := 43) rfl))
  | 4, 0, _, _ => (hN.nc (C := "ThirtyThreeBelow$Shaft") (T := "[B") (List.mem_of_getElem? (i := 44) rfl))
  | 4, 1, _, _ => (hN.nc (C := "ThirtyThreeBelow$Shaft") (T := "[C") (List.mem_of_getElem? (i := 45) rfl))
  | 4, 2, _, _ => (hN.nc (C := "ThirtyThreeBelow$Shaft") (T := "[I") (List.mem_of_getElem? (i := 46) rfl))
  | 4, 3, _, _ => (hN.nc (C := "ThirtyThreeBelow$Shaft") (T := "[F") (List.mem_of_getElem? (i := 47) rfl))
  | 4, 4, _, _ => (hN.nc (C := "ThirtyThreeBelow$Shaft") (T := "[D") (List.mem_of_getElem? (i := 48) rfl))
  | 5, 0, _, _ => (hN.nc (C := "ThirtyThreeBelow$Liner") (T := "[B") (List.mem_of_getElem? (i := 49) rfl))
  | 5, 1, _, _ => (hN.nc (C := "ThirtyThreeBelow$Liner") (T := "[C") (List.mem_of_getElem? (i := 50) rfl))
  | 5, 2, _, _ => (hN.nc (C := "ThirtyThreeBelow$Liner") (T := "[I") (List.mem_of_getElem? (i := 51) rfl))
  | 5, 3, _, _ => (hN.nc (C := "ThirtyThreeBelow$Liner") (T := "[F") (List.mem_of_getElem? (i := 52) rfl))
  | 5, 4, _, _ => (hN.nc (C := "ThirtyThreeBelow$Liner") (T := "[D") (List.mem_of_getElem? (i := 53) rfl))
  | 6, 0, _, _ => (hN.nc (C := "ThirtyThreeBelow$Shelter") (T := "[B") (List.mem_of_getElem? (i := 54) rfl))
  | 6, 1, _, _ => (hN.nc (C := "ThirtyThreeBelow$Shelter") (T := "[C") (List.mem_of_getElem? (i := 55) rfl))
  | 6, 2, _, _ => (hN.nc (C := "ThirtyThreeBelow$Shelter") (T := "[I") (List.mem_of_getElem? (i := 56) rfl))
  | 6, 3, _, _ => (hN.nc (C := "ThirtyThreeBelow$Shelter") (T := "[F") (List.mem_of_getElem? (i := 57) rfl))
  | 6, 4, _, _ => (hN.nc (C := "ThirtyThreeBelow$Shelter") (T := "[D") (List.mem_of_getElem? (i := 58) rfl))
  | 7, 0, _, _ => (hN.nc (C := "ThirtyThreeBelow$Man") (T := "[B") (List.mem_of_getElem? (i := 59) rfl))
  | 7, 1, _, _ => (hN.nc (C := "ThirtyThreeBelow$Man") (T := "[C") (List.mem_of_getElem? (i := 60) rfl))
  | 7, 2, _, _ => (hN.nc (C := "ThirtyThreeBelow$Man") (T := "[I") (List.mem_of_getElem? (i := 61) rfl))
  | 7, 3, _, _ => (hN.nc (C := "ThirtyThreeBelow$Man") (T := "[F") (List.mem_of_getElem? (i := 62) rfl))
  | 7, 4, _, _ => (hN.nc (C := "ThirtyThreeBelow$Man") (T := "[D") (List.mem_of_getElem? (i := 63) rfl))
  | n + 8, _, h, _ => absurd h (by omega)
  | _, n + 5, _, h => absurd h (by omega)
theorem xr_ny (hN : xn_T s) : ∀ t : Nat, t < 5 → va_Nc (xr_C t) RX6 s
  | 0, _ => (hN.nc (C := "[B") (T := "ThirtyThreeBelow$Body") (List.mem_of_getElem? (i := 68) rfl))
  | 1, _ => (hN.nc (C := "[C") (T := "ThirtyThreeBelow$Body") (List.mem_of_getElem? (i := 73) rfl))
  | 2, _ => (hN.nc (C := "[I") (T := "ThirtyThreeBelow$Body") (List.mem_of_getElem? (i := 78) rfl))
  | 3, _ => (hN.nc (C := "[F") (T := "ThirtyThreeBelow$Body") (List.mem_of_getElem? (i := 83) rfl))
  | 4, _ => (hN.nc (C := "[D") (T := "ThirtyThreeBelow$Body") (List.mem_of_getElem? (i := 88) rfl))
  | n + 5, h => absurd h (by omega)
theorem xr_ty (G : wm_G) : ∀ t : Nat, t < 5 → (wm_tys G)[xx_rt t]? = some (G.2 (xx_rt t), xr_T t)
  | 0, _ => rfl
  | 1, _ => rfl
  | 2, _ => rfl
  | 3, _ => rfl
  | 4, _ => rfl
  | n + 5, h => absurd h (by omega)
/-- a row's class by its name -/
theorem xr_fc (hK : wm_K G s) : ∀ t : Nat, t < 5 → s.vm.findClass (xr_C t) = some (G.2 (xx_rt t))
  | 0, _ => (hK.2 2 (G.2 2, .byte) rfl).2
  | 1, _ => (hK.2 3 (G.2 3, .char) rfl).2
  | 2, _ => (hK.2 0 (G.2 0, .int) rfl).2
  | 3, _ => (hK.2 5 (G.2 5, .float) rfl).2
  | 4, _ => (hK.2 6 (G.2 6, .double) rfl).2
  | n + 5, h => absurd h (by omega)
/-- the row on a shelf -/
theorem xr_row (hW : xx_W G o d0 X E D H) {i : Int32} (hin : vp_in i 6) {t : Nat} (ht : t < 5) (hv : rd_ X 58 i = -2 - Int32.ofNat t) : wm_A G (xr_a D i) (xx_rt t) (X 100 i.toNatClampNeg).toInt.toNat (xr_f X E t i) H ∧ xg_d D (xr_a D i) = (3, i.toNatClampNeg) := by
  have hi : i.toNatClampNeg < 6 := Nat.not_le.mp fun q => hin (Or.inr q)
  have e : X 58 i.toNatClampNeg = -2 - Int32.ofNat t := hv
  have et : (X 58 i.toNatClampNeg).toInt = -2 - (t : Int) := by
    have : t = 0 ∨ t = 1 ∨ t = 2 ∨ t = 3 ∨ t = 4 := by omega
    rcases this with z | z | z | z | z <;> subst z <;> rw [e] <;> decide
  obtain ⟨h1, h2⟩ := hW.row _ hi (by omega)
  have e2 : (-2 - (X 58 i.toNatClampNeg).toInt).toNat = t := by omega
  rw [e2] at h1
  exact ⟨h1, h2⟩
theorem xr_so_r {v i : Int32} (h : v.toInt < -1) : xx_so D v i.toNatClampNeg = some (xr_a D i) := by
  unfold xx_so
  rw [if_neg (fun q => by rw [q] at h; exact absurd h (by decide)), if_pos (ww_lt' (by rw [ww_z0]; omega))]
theorem xr_so_b {v : Int32} {n : Nat} (h : 0 ≤ v.toInt) : xx_so D v n = some (xb_ D v) := by
  unfold xx_so
  rw [if_neg (fun q => by rw [q] at h; exact absurd h (by decide)), if_neg (fun q => by have := ww_l0 q; omega)]
theorem xr_so_n {n : Nat} : xx_so D (-1) n = none := by unfold xx_so; rw [if_pos rfl]
theorem xr_bod (hW : xx_W G o d0 X E D H) {i : Int32} (hin : vp_in i 6) (h : 0 ≤ (rd_ X 58 i).toInt) : xb_in X (rd_ X 58 i) :=
  ⟨h, hW.rng.2.2 _ (Nat.not_le.mp fun q => hin (Or.inr q))⟩
theorem xr_cell {t : Nat} {i : Int32} {f : Nat → Value} {n : Nat} (hK : wm_K G s) (ht : t < 5) (hA : wm_A G (xr_a D i) (xx_rt t) n f H) : ∃ cell : Cell, H[xr_a D i]? = some cell ∧ cell.vm.isStatics = false ∧ s.vm.findClass (xr_C t) = some cell.cls :=
  ⟨_, hA, rfl, xr_fc hK t ht⟩
theorem xr_instY {t index : Nat} {i : Int32} {f : Nat → Value} {n : Nat} (hx : p.tables.exec = Jvm.exec) (hb : c.code = cc) (hown : s.vm.findClass RX0 = some m.cls) (hK : wm_K G s) (ht : t < 5) (hA : wm_A G (xr_a D i) (xx_rt t) n f H) (hlink : (Cond.classLink RX0 index (xr_C t)).before args s = true) (hd : decode cc pc = .ok (.instanceof index, 3)) (kk : W p l e R s m args below meth c H locs cells slots Q (F0 m (pc + 3) ls (.int 1 :: rest))) : W p l e R s m args below meth c H locs cells slots Q (F0 m pc ls (.ref (xr_a D i) :: rest)) := by
  obtain ⟨cell, h1, h2, h3⟩ := xr_cell hK ht hA
  intro T hT Z
  obtain ⟨vm', Z', st⟩ := Z.instanceofYes hx hown hlink (by rw [hT]; exact h1) h2 h3 (va_asg _ _) (g := F0 m pc ls (.ref (xr_a D i) :: rest)) rfl rfl (by rw [hb]; exact hd)
  obtain ⟨t, a1, b1⟩ := kk (T.setVm vm') hT Z'
  exact ⟨t, st t a1, b1⟩
theorem xr_castY {t index : Nat} {i : Int32} {f : Nat → Value} {n : Nat} (hx : p.tables.exec = Jvm.exec) (hb : c.code = cc) (hown : s.vm.findClass RX0 = some m.cls) (hK : wm_K G s) (ht : t < 5) (hA : wm_A G (xr_a D i) (xx_rt t) n f H) (hlink : (Cond.classLink RX0 index (xr_C t)).before args s = true) (hd : decode cc pc = .ok (.checkcast index, 3)) (kk : W p l e R s m args below meth c H locs cells slots Q (F0 m (pc + 3) ls (.ref (xr_a D i) :: rest))) : W p l e R s m args below meth c H locs cells slots Q (F0 m pc ls (.ref (xr_a D i) :: rest)) := by
  obtain ⟨cell, h1, h2, h3⟩ := xr_cell hK ht hA
  intro T hT Z
  obtain ⟨vm', Z', st⟩ := Z.checkcastYes hx hown hlink (by rw [hT]; exact h1) h2 h3 (va_asg _ _) (g := F0 m pc ls (.ref (xr_a D i) :: rest)) rfl rfl (by rw [hb]; exact hd)
  obtain ⟨t, a1, b1⟩ := kk (T.setVm vm') hT Z'
  exact ⟨t, st t a1, b1⟩
theorem xr_st_of {t : Nat} (ht : t < 5) : xr_st (-2 - Int32.ofNat t) = Int32.ofNat t ∧ (-2 - Int32.ofNat t).toInt < -1 := by
  have : t = 0 ∨ t = 1 ∨ t = 2 ∨ t = 3 ∨ t = 4 := by omega
  rcases this with z | z | z | z | z <;> subst z <;> decide
theorem xr_t {v : Int32} (h : -6 ≤ v.toInt) : v = -1 ∨ 0 ≤ v.toInt ∨ ∃ t : Nat, t < 5 ∧ v = -2 - Int32.ofNat t := by
  rcases xr_cases h with q | q | q | q | q | q | q
  · exact Or.inl q
  · exact Or.inr (Or.inl q)
  · exact Or.inr (Or.inr ⟨0, by decide, by rw [q]; decide⟩)
  · exact Or.inr (Or.inr ⟨1, by decide, by rw [q]; decide⟩)
  · exact Or.inr (Or.inr ⟨2, by decide, by rw [q]; decide⟩)
  · exact Or.inr (Or.inr ⟨3, by decide, by rw [q]; decide⟩)
  · exact Or.inr (Or.inr ⟨4, by decide, by rw [q]; decide⟩)
theorem xr_ofNat {t k : Nat} (ht : t < 5) (hk : k < 5) (h : Int32.ofNat t = Int32.ofNat k) : t = k := by
  have e1 : (Int32.ofNat t).toInt = t := nI_toInt (by omega)
  have e2 : (Int32.ofNat k).toInt = k := nI_toInt (by omega)
  have := congrArg Int32.toInt h
  omega
theorem xr_kne {k : Nat} (hk : k < 5) : ¬ (-1 : Int32) = Int32.ofNat k := by
  intro h
  have e1 : (Int32.ofNat k).toInt = k := nI_toInt (by omega)
  have e2 : (-1 : Int32).toInt = -1 := by decide
  have := congrArg Int32.toInt h
  omega
/-- is it a row of this sort -/
theorem xr_inst {k index : Nat} {kI i : Int32} (hx : p.tables.exec = Jvm.exec) (hb : c.code = cc) (hts : ∀ w ∈ lw_all, w.before args s = true) (hown : s.vm.findClass RX0 = some m.cls) (hK : wm_K G s) (hN : xn_T s) (hW : xx_W G o d0 X E D H) (hin : vp_in i 6) (h6 : -6 ≤ (rd_ X 58 i).toInt) (hk : k < 5) (hkI : Int32.ofNat k = kI) {nm : String} (hnm : xr_C k = nm) (hq : (Cond.classLink RX0 index nm) ∈ lw_all) (hd : decode cc pc = .ok (.instanceof index, 3)) (kk : W p l e R s m args below meth c H locs cells slots Q (F0 m (pc + 3) ls (.int (xr_is kI (rd_ X 58 i)) :: rest))) : W p l e R s m args below meth c H locs cells slots Q (F0 m pc ls (va_rf (xx_so D (rd_ X 58 i) i.toNatClampNeg) :: rest)) := by
  subst hkI
  subst hnm
  rcases xr_t h6 with q | q | ⟨t, ht, q⟩
  · have e : xr_is (Int32.ofNat k) (rd_ X 58 i) = 0 := by unfold xr_is; rw [q, show xr_st (-1) = -1 from by decide, if_neg (xr_kne hk)]
    rw [e] at kk
    rw [q, xr_so_n]
    intro T hT Z
    obtain ⟨t, a1, b1⟩ := kk T hT Z
    exact ⟨t, Z.instanceofNull hx (g := F0 m pc ls (.null :: rest)) rfl rfl (by rw [hb]; exact hd) t a1, b1⟩
  · have e : xr_is (Int32.ofNat k) (rd_ X 58 i) = 0 := by unfold xr_is; rw [xr_st_b q, if_neg (xr_kne hk)]
    rw [e] at kk
    rw [xr_so_b q]
    have hi := xr_bod hW hin q
    exact va_instNo hx hb hown (hts _ hq) (xr_nb hN _ k (xq_lt hW hi) hk) (xb_recv hK hW hi) hd kk
  · obtain ⟨s1, s2⟩ := xr_st_of ht
    obtain ⟨r1, -⟩ := xr_row hW hin ht q
    rw [xr_so_r (by rw [q]; exact s2)]
    by_cases z : t = k
    · subst z
      have e : xr_is (Int32.ofNat t) (rd_ X 58 i) = 1 := by unfold xr_is; rw [q, s1, if_pos rfl]
      rw [e] at kk
      exact xr_instY hx hb hown hK ht r1 (hts _ hq) hd kk
    · have e : xr_is (Int32.ofNat k) (rd_ X 58 i) = 0 := by unfold xr_is; rw [q, s1, if_neg (fun y => z (xr_ofNat ht hk y))]
      rw [e] at kk
      exact va_instNo hx hb hown (hts _ hq) (xr_nc hN t k ht hk z) (xr_cell hK ht r1) hd kk
/-- a row of this sort, for sure -/
theorem xr_is_row {k : Nat} {i : Int32} (h6 : -6 ≤ (rd_ X 58 i).toInt) (hk : k < 5) (h : xr_st (rd_ X 58 i) = Int32.ofNat k) : rd_ X 58 i = -2 - Int32.ofNat k := by
  rcases xr_t h6 with q | q | ⟨t, ht, q⟩
  · rw [q, show xr_st (-1) = -1 from by decide] at h
    exact absurd h (xr_kne hk)
  · rw [xr_st_b q] at h
    exact absurd h (xr_kne hk)
  · rw [q, (xr_st_of ht).1] at h
    rw [q, xr_ofNat ht hk h]
theorem xr_cast {k index : Nat} {kI i : Int32} (hx : p.tables.exec = Jvm.exec) (hb : c.code = cc) (hts : ∀ w ∈ lw_all, w.before args s = true) (hown : s.vm.findClass RX0 = some m.cls) (hK : wm_K G s) (hW : xx_W G o d0 X E D H) (hin : vp_in i 6) (h6 : -6 ≤ (rd_ X 58 i).toInt) (hk : k < 5) (hkI : Int32.ofNat k = kI) (hst : xr_st (rd_ X 58 i) = kI) {nm : String} (hnm : xr_C k = nm) (hq : (Cond.classLink RX0 index nm) ∈ lw_all) (hd : decode cc pc = .ok (.checkcast index, 3)) (kk : W p l e R s m args below meth c H locs cells slots Q (F0 m (pc + 3) ls (.ref (xr_a D i) :: rest))) : W p l e R s m args below meth c H locs cells slots Q (F0 m pc ls (va_rf (xx_so D (rd_ X 58 i) i.toNatClampNeg) :: rest)) := by
  subst hkI
  subst hnm
  have q := xr_is_row h6 hk hst
  obtain ⟨r1, -⟩ := xr_row hW hin hk q
  rw [xr_so_r (by rw [q]; exact (xr_st_of hk).2)]
  exact xr_castY hx hb hown hK hk r1 (hts _ hq) hd kk
theorem xr_len {k : Nat} {kI i : Int32} (hx : p.tables.exec = Jvm.exec) (hb : c.code = cc) (hK : wm_K G s) (hW : xx_W G o d0 X E D H) (hin : vp_in i 6) (h6 : -6 ≤ (rd_ X 58 i).toInt) (hk : k < 5) (hkI : Int32.ofNat k = kI) (hst : xr_st (rd_ X 58 i) = kI) (hd : decode cc pc = .ok (.arraylength, 1)) (kk : W p l e R s m args below meth c H locs cells slots Q (F0 m (pc + 1) ls (.int (rd_ X 100 i) :: rest))) : W p l e R s m args below meth c H locs cells slots Q (F0 m pc ls (.ref (xr_a D i) :: rest)) := by
  subst hkI
  have q := xr_is_row h6 hk hst
  obtain ⟨r1, -⟩ := xr_row hW hin hk q
  have hs := hW.siz _ (Nat.not_le.mp fun q => hin (Or.inr q))
  refine wm_alen hx hb hK (xx_rt k) (xr_ty G k hk) r1 (v := rd_ X 100 i) ?_ hd kk
  have e : (Int32.ofNat (X 100 i.toNatClampNeg).toInt.toNat).toInt = ((X 100 i.toNatClampNeg).toInt.toNat : Int) := nI_toInt (by omega)
  apply ww_eq
  rw [e]
  show _ = (X 100 i.toNatClampNeg).toInt
  omega
/-- the place of an element -/
theorem xr_ix {i j : Int32} (i0 : 0 ≤ i.toInt) (i1 : i.toInt ≤ 5) (j0 : 0 ≤ j.toInt) (j1 : j.toInt ≤ 60) : (60 * i + j).toNatClampNeg = 60 * i.toNatClampNeg + j.toNatClampNeg := by
  have := ix_360t i0 i1 j0 j1
  rw [ww_cl, ww_cl, ww_cl]
  omega
/-- an element's value by its sort -/
abbrev xr_v (X : mm_S) (E : mm_E) (k : Nat) (i j : Int32) : Value := xx_el k (re_ E 0 (60 * i + j)) (rd_ X 101 (60 * i + j))
theorem xr_fv {k : Nat} {i j : Int32} (i0 : 0 ≤ i.toInt) (i1 : i.toInt ≤ 5) (j0 : 0 ≤ j.toInt) (j1 : j.toInt ≤ 60) : xr_f X E k i j.toNatClampNeg = xr_v X E k i j := by
  unfold xr_f xr_v re_ rd_
  rw [xr_ix i0 i1 j0 j1]
theorem xr_in (hW : xx_W G o d0 X E D H) {i j : Int32} (hin : vp_in i 6) (j0 : 0 ≤ j.toInt) (j1 : j.toInt < (rd_ X 100 i).toInt) : vp_in j (X 100 i.toNatClampNeg).toInt.toNat ∧ j.toInt ≤ 60 ∧ 0 ≤ i.toInt ∧ i.toInt ≤ 5 := by
  have hi : i.toNatClampNeg < 6 := Nat.not_le.mp fun q => hin (Or.inr q)
  have h0 : ¬ i < 0 := fun q => hin (Or.inl q)
  have h0 := ww_nlt h0
  rw [ww_z0] at h0
  rw [ww_cl] at hi
  have hs := hW.siz i.toNatClampNeg (Nat.not_le.mp fun q => hin (Or.inr q))
  have e : rd_ X 100 i = X 100 i.toNatClampNeg := rfl
  rw [e] at j1
  exact ⟨ww_in j0 (by omega), by omega, h0, by omega⟩

theorem xr_bald {i j : Int32} (hx : p.tables.exec = Jvm.exec) (hb : c.code = cc) (hK : wm_K G s) (hW : xx_W G o d0 X E D H) (hin : vp_in i 6) (h6 : -6 ≤ (rd_ X 58 i).toInt) (hst : xr_st (rd_ X 58 i) = 0) (j0 : 0 ≤ j.toInt) (j1 : j.toInt < (rd_ X 100 i).toInt) (hd : decode cc pc = .ok (.baload, 1)) (kk : W p l e R s m args below meth c H locs cells slots Q (F0 m (pc + 1) ls (.int (re_ E 0 (60 * i + j)).toInt32 :: rest))) : W p l e R s m args below meth c H locs cells slots Q (F0 m pc ls (.int j :: .ref (xr_a D i) :: rest)) := by
  have q := xr_is_row (k := 0) h6 (by decide) hst
  obtain ⟨r1, -⟩ := xr_row hW hin (t := 0) (by decide) q
  obtain ⟨a, b, c1, c2⟩ := xr_in hW hin j0 j1
  exact wm_bald hx hb hK r1 a (v := .int (re_ E 0 (60 * i + j)).toInt32) (xr_fv c1 c2 j0 b) hd kk
theorem xr_cald {i j : Int32} (hx : p.tables.exec = Jvm.exec) (hb : c.code = cc) (hK : wm_K G s) (hW : xx_W G o d0 X E D H) (hin : vp_in i 6) (h6 : -6 ≤ (rd_ X 58 i).toInt) (hst : xr_st (rd_ X 58 i) = 1) (j0 : 0 ≤ j.toInt) (j1 : j.toInt < (rd_ X 100 i).toInt) (hd : decode cc pc = .ok (.caload, 1)) (kk : W p l e R s m args below meth c H locs cells slots Q (F0 m (pc + 1) ls (.int (re_ E 0 (60 * i + j)).toInt32 :: rest))) : W p l e R s m args below meth c H locs cells slots Q (F0 m pc ls (.int j :: .ref (xr_a D i) :: rest)) := by
  have q := xr_is_row (k := 1) h6 (by decide) hst
  obtain ⟨r1, -⟩ := xr_row hW hin (t := 1) (by decide) q
  obtain ⟨a, b, c1, c2⟩ := xr_in hW hin j0 j1
  exact wm_cald hx hb hK r1 a (v := .int (re_ E 0 (60 * i + j)).toInt32) (xr_fv c1 c2 j0 b) hd kk
theorem xr_iald {i j : Int32} (hx : p.tables.exec = Jvm.exec) (hb : c.code = cc) (hK : wm_K G s) (hW : xx_W G o d0 X E D H) (hin : vp_in i 6) (h6 : -6 ≤ (rd_ X 58 i).toInt) (hst : xr_st (rd_ X 58 i) = 2) (j0 : 0 ≤ j.toInt) (j1 : j.toInt < (rd_ X 100 i).toInt) (hd : decode cc pc = .ok (.iaload, 1)) (kk : W p l e R s m args below meth c H locs cells slots Q (F0 m (pc + 1) ls (.int (re_ E 0 (60 * i + j)).toInt32 :: rest))) : W p l e R s m args below meth c H locs cells slots Q (F0 m pc ls (.int j :: .ref (xr_a D i) :: rest)) := by
  have q := xr_is_row (k := 2) h6 (by decide) hst
  obtain ⟨r1, -⟩ := xr_row hW hin (t := 2) (by decide) q
  obtain ⟨a, b, c1, c2⟩ := xr_in hW hin j0 j1
  exact wm_iald hx hb hK r1 a (v := .int (re_ E 0 (60 * i + j)).toInt32) (xr_fv c1 c2 j0 b) hd kk
theorem xr_fald {i j : Int32} (hx : p.tables.exec = Jvm.exec) (hb : c.code = cc) (hK : wm_K G s) (hW : xx_W G o d0 X E D H) (hin : vp_in i 6) (h6 : -6 ≤ (rd_ X 58 i).toInt) (hst : xr_st (rd_ X 58 i) = 3) (j0 : 0 ≤ j.toInt) (j1 : j.toInt < (rd_ X 100 i).toInt) (hd : decode cc pc = .ok (.faload, 1)) (kk : W p l e R s m args below meth c H locs cells slots Q (F0 m (pc + 1) ls (.float (if rd_ X 101 (60 * i + j) = 0 then FP.l2f (re_ E 0 (60 * i + j)) else 0x7fc00000) :: rest))) : W p l e R s m args below meth c H locs cells slots Q (F0 m pc ls (.int j :: .ref (xr_a D i) :: rest)) := by
  have q := xr_is_row (k := 3) h6 (by decide) hst
  obtain ⟨r1, -⟩ := xr_row hW hin (t := 3) (by decide) q
  obtain ⟨a, b, c1, c2⟩ := xr_in hW hin j0 j1
  exact wm_fald hx hb hK r1 a (v := .float (if rd_ X 101 (60 * i + j) = 0 then FP.l2f (re_ E 0 (60 * i + j)) else 0x7fc00000)) (xr_fv c1 c2 j0 b) hd kk
theorem xr_dald {i j : Int32} (hx : p.tables.exec = Jvm.exec) (hb : c.code = cc) (hK : wm_K G s) (hW : xx_W G o d0 X E D H) (hin : vp_in i 6) (h6 : -6 ≤ (rd_ X 58 i).toInt) (hst : xr_st (rd_ X 58 i) = 4) (j0 : 0 ≤ j.toInt) (j1 : j.toInt < (rd_ X 100 i).toInt) (hd : decode cc pc = .ok (.daload, 1)) (kk : W p l e R s m args below meth c H locs cells slots Q (F0 m (pc + 1) ls (.double (if rd_ X 101 (60 * i + j) = 0 then FP.l2d (re_ E 0 (60 * i + j)) else 0x7ff8000000000000) :: rest))) : W p l e R s m args below meth c H locs cells slots Q (F0 m pc ls (.int j :: .ref (xr_a D i) :: rest)) := by
  have q := xr_is_row (k := 4) h6 (by decide) hst
  obtain ⟨r1, -⟩ := xr_row hW hin (t := 4) (by decide) q
  obtain ⟨a, b, c1, c2⟩ := xr_in hW hin j0 j1
  exact wm_dald hx hb hK r1 a (v := .double (if rd_ X 101 (60 * i + j) = 0 then FP.l2d (re_ E 0 (60 * i + j)) else 0x7ff8000000000000)) (xr_fv c1 c2 j0 b) hd kk
theorem xr_bast {i j : Int32} {x : Int32} {ev : Int64} (hx : p.tables.exec = Jvm.exec) (hb : c.code = cc) (hK : wm_K G s) (hW : xx_W G o d0 X E D H) (hS : va_S (xx_F o d0) H0 H locs) (hin : vp_in i 6) (h6 : -6 ≤ (rd_ X 58 i).toInt) (hst : xr_st (rd_ X 58 i) = 0) (j0 : 0 ≤ j.toInt) (j1 : j.toInt < (rd_ X 100 i).toInt) (hev : x.toInt8.toInt32 = ev.toInt32) (hd : decode cc pc = .ok (.bastore, 1)) (kk : ∀ (X1 : mm_S) (E1 : mm_E) (H1 : Heap) (locs1 : List Loc), X1 = wr_ X 101 (60 * i + j) 0 → E1 = we_ E 0 (60 * i + j) ev → xx_W G o d0 X1 E1 D H1 → va_S (xx_F o d0) H0 H1 locs1 → W p l e R s m args below meth c H1 locs1 cells slots Q (F0 m (pc + 1) ls rest)) : W p l e R s m args below meth c H locs cells slots Q (F0 m pc ls (.int x :: .int j :: .ref (xr_a D i) :: rest)) := by
  have q := xr_is_row (k := 0) h6 (by decide) hst
  obtain ⟨r1, r2⟩ := xr_row hW hin (t := 0) (by decide) q
  obtain ⟨a, b, c1, c2⟩ := xr_in hW hin j0 j1
  have hi : i.toNatClampNeg < 6 := Nat.not_le.mp fun q => hin (Or.inr q)
  have evq : (X 58 i.toNatClampNeg).toInt = -2 - 0 := by rw [show X 58 i.toNatClampNeg = -2 - Int32.ofNat 0 from q]; decide
  have hs := hW.siz _ hi
  have hj : j.toNatClampNeg < 60 := by
    have : ¬ (X 100 i.toNatClampNeg).toInt.toNat ≤ j.toNatClampNeg := fun q => a (Or.inr q)
    omega
  refine wm_bast hx hb hK r1 hS (hW.din _ (by rw [r2]; intro z; cases z)) a hd fun H1 locs1 hA hz oq hS1 => kk _ _ H1 locs1 rfl rfl ?_ hS1
  have h := hW.rput (s := i.toNatClampNeg) (i := j.toNatClampNeg) (e := ev) (v := 0) (H1 := H1) hi (by omega) hj ?_ hz oq
  · unfold wr_ we_
    rw [xr_ix c1 c2 j0 b]
    exact h
  · rw [evq]
    refine hA.to fun y hy => ?_
    show (if y = j.toNatClampNeg then _ else _) = (if y = j.toNatClampNeg then _ else _)
    split
    · rw [hev]; rfl
    · rfl
theorem xr_cast_ {i j : Int32} {x : Int32} {ev : Int64} (hx : p.tables.exec = Jvm.exec) (hb : c.code = cc) (hK : wm_K G s) (hW : xx_W G o d0 X E D H) (hS : va_S (xx_F o d0) H0 H locs) (hin : vp_in i 6) (h6 : -6 ≤ (rd_ X 58 i).toInt) (hst : xr_st (rd_ X 58 i) = 1) (j0 : 0 ≤ j.toInt) (j1 : j.toInt < (rd_ X 100 i).toInt) (hev : narrow .char (.int x) = .int ev.toInt32) (hd : decode cc pc = .ok (.castore, 1)) (kk : ∀ (X1 : mm_S) (E1 : mm_E) (H1 : Heap) (locs1 : List Loc), X1 = wr_ X 101 (60 * i + j) 0 → E1 = we_ E 0 (60 * i + j) ev → xx_W G o d0 X1 E1 D H1 → va_S (xx_F o d0) H0 H1 locs1 → W p l e R s m args below meth c H1 locs1 cells slots Q (F0 m (pc + 1) ls rest)) : W p l e R s m args below meth c H locs cells slots Q (F0 m pc ls (.int x :: .int j :: .ref (xr_a D i) :: rest)) := by
  have q := xr_is_row (k := 1) h6 (by decide) hst
  obtain ⟨r1, r2⟩ := xr_row hW hin (t := 1) (by decide) q
  obtain ⟨a, b, c1, c2⟩ := xr_in hW hin j0 j1
  have hi : i.toNatClampNeg < 6 := Nat.not_le.mp fun q => hin (Or.inr q)
  have evq : (X 58 i.toNatClampNeg).toInt = -2 - 1 := by rw [show X 58 i.toNatClampNeg = -2 - Int32.ofNat 1 from q]; decide
  have hs := hW.siz _ hi
  have hj : j.toNatClampNeg < 60 := by
    have : ¬ (X 100 i.toNatClampNeg).toInt.toNat ≤ j.toNatClampNeg := fun q => a (Or.inr q)
    omega
  refine wm_cast hx hb hK r1 hS (hW.din _ (by rw [r2]; intro z; cases z)) (y := narrow .char (.int x)) rfl a hd fun H1 locs1 hA hz oq hS1 => kk _ _ H1 locs1 rfl rfl ?_ hS1
  have h := hW.rput (s := i.toNatClampNeg) (i := j.toNatClampNeg) (e := ev) (v := 0) (H1 := H1) hi (by omega) hj ?_ hz oq
  · unfold wr_ we_
    rw [xr_ix c1 c2 j0 b]
    exact h
  · rw [evq]
    refine hA.to fun y hy => ?_
    show (if y = j.toNatClampNeg then _ else _) = (if y = j.toNatClampNeg then _ else _)
    split
    · rw [hev]; rfl
    · rfl
theorem xr_iast {i j : Int32} {x : Int32} {ev : Int64} (hx : p.tables.exec = Jvm.exec) (hb : c.code = cc) (hK : wm_K G s) (hW : xx_W G o d0 X E D H) (hS : va_S (xx_F o d0) H0 H locs) (hin : vp_in i 6) (h6 : -6 ≤ (rd_ X 58 i).toInt) (hst : xr_st (rd_ X 58 i) = 2) (j0 : 0 ≤ j.toInt) (j1 : j.toInt < (rd_ X 100 i).toInt) (hev : x = ev.toInt32) (hd : decode cc pc = .ok (.iastore, 1)) (kk : ∀ (X1 : mm_S) (E1 : mm_E) (H1 : Heap) (locs1 : List Loc), X1 = wr_ X 101 (60 * i + j) 0 → E1 = we_ E 0 (60 * i + j) ev → xx_W G o d0 X1 E1 D H1 → va_S (xx_F o d0) H0 H1 locs1 → W p l e R s m args below meth c H1 locs1 cells slots Q (F0 m (pc + 1) ls rest)) : W p l e R s m args below meth c H locs cells slots Q (F0 m pc ls (.int x :: .int j :: .ref (xr_a D i) :: rest)) := by
  have q := xr_is_row (k := 2) h6 (by decide) hst
  obtain ⟨r1, r2⟩ := xr_row hW hin (t := 2) (by decide) q
  obtain ⟨a, b, c1, c2⟩ := xr_in hW hin j0 j1
  have hi : i.toNatClampNeg < 6 := Nat.not_le.mp fun q => hin (Or.inr q)
  have evq : (X 58 i.toNatClampNeg).toInt = -2 - 2 := by rw [show X 58 i.toNatClampNeg = -2 - Int32.ofNat 2 from q]; decide
  have hs := hW.siz _ hi
  have hj : j.toNatClampNeg < 60 := by
    have : ¬ (X 100 i.toNatClampNeg).toInt.toNat ≤ j.toNatClampNeg := fun q => a (Or.inr q)
    omega
  refine wm_iast hx hb hK r1 hS (hW.din _ (by rw [r2]; intro z; cases z)) a hd fun H1 locs1 hA hz oq hS1 => kk _ _ H1 locs1 rfl rfl ?_ hS1
  have h := hW.rput (s := i.toNatClampNeg) (i := j.toNatClampNeg) (e := ev) (v := 0) (H1 := H1) hi (by omega) hj ?_ hz oq
  · unfold wr_ we_
    rw [xr_ix c1 c2 j0 b]
    exact h
  · rw [evq]
    refine hA.to fun y hy => ?_
    show (if y = j.toNatClampNeg then _ else _) = (if y = j.toNatClampNeg then _ else _)
    split
    · rw [hev]; rfl
    · rfl
theorem xr_fast {i j : Int32} {z : Int32} {ev : Int64} (hx : p.tables.exec = Jvm.exec) (hb : c.code = cc) (hK : wm_K G s) (hW : xx_W G o d0 X E D H) (hS : va_S (xx_F o d0) H0 H locs) (hin : vp_in i 6) (h6 : -6 ≤ (rd_ X 58 i).toInt) (hst : xr_st (rd_ X 58 i) = 3) (j0 : 0 ≤ j.toInt) (j1 : j.toInt < (rd_ X 100 i).toInt) (hd : decode cc pc = .ok (.fastore, 1)) (kk : ∀ (X1 : mm_S) (E1 : mm_E) (H1 : Heap) (locs1 : List Loc), X1 = wr_ X 101 (60 * i + j) z → E1 = we_ E 0 (60 * i + j) ev → xx_W G o d0 X1 E1 D H1 → va_S (xx_F o d0) H0 H1 locs1 → W p l e R s m args below meth c H1 locs1 cells slots Q (F0 m (pc + 1) ls rest)) : W p l e R s m args below meth c H locs cells slots Q (F0 m pc ls (.float (if z = 0 then FP.l2f ev else 0x7fc00000) :: .int j :: .ref (xr_a D i) :: rest)) := by
  have q := xr_is_row (k := 3) h6 (by decide) hst
  obtain ⟨r1, r2⟩ := xr_row hW hin (t := 3) (by decide) q
  obtain ⟨a, b, c1, c2⟩ := xr_in hW hin j0 j1
  have hi : i.toNatClampNeg < 6 := Nat.not_le.mp fun q => hin (Or.inr q)
  have evq : (X 58 i.toNatClampNeg).toInt = -2 - 3 := by rw [show X 58 i.toNatClampNeg = -2 - Int32.ofNat 3 from q]; decide
  have hs := hW.siz _ hi
  have hj : j.toNatClampNeg < 60 := by
    have : ¬ (X 100 i.toNatClampNeg).toInt.toNat ≤ j.toNatClampNeg := fun q => a (Or.inr q)
    omega
  refine wm_fast hx hb hK r1 hS (hW.din _ (by rw [r2]; intro z; cases z)) a hd fun H1 locs1 hA hz oq hS1 => kk _ _ H1 locs1 rfl rfl ?_ hS1
  have h := hW.rput (s := i.toNatClampNeg) (i := j.toNatClampNeg) (e := ev) (v := z) (H1 := H1) hi (by omega) hj ?_ hz oq
  · unfold wr_ we_
    rw [xr_ix c1 c2 j0 b]
    exact h
  · rw [evq]
    refine hA.to fun y hy => ?_
    show (if y = j.toNatClampNeg then _ else _) = (if y = j.toNatClampNeg then _ else _)
    split
    · rfl
    · rfl
theorem xr_dast {i j : Int32} {z : Int32} {ev : Int64} (hx : p.tables.exec = Jvm.exec) (hb : c.code = cc) (hK : wm_K G s) (hW : xx_W G o d0 X E D H) (hS : va_S (xx_F o d0) H0 H locs) (hin : vp_in i 6) (h6 : -6 ≤ (rd_ X 58 i).toInt) (hst : xr_st (rd_ X 58 i) = 4) (j0 : 0 ≤ j.toInt) (j1 : j.toInt < (rd_ X 100 i).toInt) (hd : decode cc pc = .ok (.dastore, 1)) (kk : ∀ (X1 : mm_S) (E1 : mm_E) (H1 : Heap) (locs1 : List Loc), X1 = wr_ X 101 (60 * i + j) z → E1 = we_ E 0 (60 * i + j) ev → xx_W G o d0 X1 E1 D H1 → va_S (xx_F o d0) H0 H1 locs1 → W p l e R s m args below meth c H1 locs1 cells slots Q (F0 m (pc + 1) ls rest)) : W p l e R s m args below meth c H locs cells slots Q (F0 m pc ls (.double (if z = 0 then FP.l2d ev else 0x7ff8000000000000) :: .int j :: .ref (xr_a D i) :: rest)) := by
  have q := xr_is_row (k := 4) h6 (by decide) hst
  obtain ⟨r1, r2⟩ := xr_row hW hin (t := 4) (by decide) q
  obtain ⟨a, b, c1, c2⟩ := xr_in hW hin j0 j1
  have hi : i.toNatClampNeg < 6 := Nat.not_le.mp fun q => hin (Or.inr q)
  have evq : (X 58 i.toNatClampNeg).toInt = -2 - 4 := by rw [show X 58 i.toNatClampNeg = -2 - Int32.ofNat 4 from q]; decide
  have hs := hW.siz _ hi
  have hj : j.toNatClampNeg < 60 := by
    have : ¬ (X 100 i.toNatClampNeg).toInt.toNat ≤ j.toNatClampNeg := fun q => a (Or.inr q)
    omega
  refine wm_dast hx hb hK r1 hS (hW.din _ (by rw [r2]; intro z; cases z)) a hd fun H1 locs1 hA hz oq hS1 => kk _ _ H1 locs1 rfl rfl ?_ hS1
  have h := hW.rput (s := i.toNatClampNeg) (i := j.toNatClampNeg) (e := ev) (v := z) (H1 := H1) hi (by omega) hj ?_ hz oq
  · unfold wr_ we_
    rw [xr_ix c1 c2 j0 b]
    exact h
  · rw [evq]
    refine hA.to fun y hy => ?_
    show (if y = j.toNatClampNeg then _ else _) = (if y = j.toNatClampNeg then _ else _)
    split
    · rfl
    · rfl
end XRW
