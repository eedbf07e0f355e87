/-! THE COMPONENT's READER: its rows, its states -/
/-- a state of the reader: at a place, so deep -/
def xq_st (X : mm_S) (p q : Int32) : mm_S := fw_ (fw_ X 95 p) 96 q
theorem xq_st_k {X : mm_S} {p q : Int32} {k : Nat} (h : k ≠ 95) (h2 : k ≠ 96) : xq_st X p q k = X k := (mm_up_k h2).trans (mm_up_k h)
theorem fd_xq {X : mm_S} {p q : Int32} {k : Nat} (h : k ≠ 95) (h2 : k ≠ 96) : fd_ (xq_st X p q) k = fd_ X k := by
  unfold fd_
  rw [xq_st_k h h2]
theorem rd_xq {X : mm_S} {p q i : Int32} {k : Nat} (h : k ≠ 95) (h2 : k ≠ 96) : rd_ (xq_st X p q) k i = rd_ X k i := by
  unfold rd_
  rw [xq_st_k h h2]
theorem fd_xq_a {X : mm_S} {p q : Int32} : fd_ (xq_st X p q) 95 = p := by
  unfold xq_st fd_
  rw [show fw_ (fw_ X 95 p) 96 q 95 = fw_ X 95 p 95 from mm_up_k (by decide)]
  exact fd_fw X 95 p
theorem fd_xq_o {X : mm_S} {p q : Int32} : fd_ (xq_st X p q) 96 = q := by
  unfold xq_st
  rw [fd_fw]
theorem mm_up_up {X : mm_S} {k j : Nat} {v w : Int32} : mm_up (mm_up X k j v) k j w = mm_up X k j w := by
  funext a b
  unfold mm_up
  split <;> rfl
theorem mm_up_sw {X : mm_S} {k l j i : Nat} {v w : Int32} (h : k ≠ l) : mm_up (mm_up X k j v) l i w = mm_up (mm_up X l i w) k j v := by
  funext a b
  unfold mm_up
  by_cases h1 : a = l ∧ b = i
  · rw [if_pos h1, if_neg (fun z => h (z.1.symm.trans h1.1)), if_pos h1]
  · rw [if_neg h1]
    split <;> rfl
theorem xq_fa {X : mm_S} {p q v : Int32} : fw_ (xq_st X p q) 95 v = xq_st X v q := by
  unfold xq_st fw_
  rw [mm_up_sw (by decide), mm_up_up]
theorem xq_fo {X : mm_S} {p q v : Int32} : fw_ (xq_st X p q) 96 v = xq_st X p v := by
  unfold xq_st fw_
  rw [mm_up_up]
section XRD
variable {p : Program} {l : Launch} {e : Env} {R : Room} {s : State} {m : MethodId} {args : Array Value} {below : List Frame} {meth : Method} {c : Code} {H : Heap} {locs : List Loc} {cells slots : Nat} {Q : State → Prop}
variable {cc : ByteArray} {pc : Nat} {ls : Array Slot} {rest : List Value} {G : wm_G} {o d0 : Nat} {H0 : Heap} {X : mm_S} {E : mm_E} {D : xg}
theorem xx_Fr {o d0 : Nat} : xx_F o d0 (o + 16) := Or.inl ⟨by omega, by omega⟩
/-- the reader's fields -/
theorem xq_get {index : Nat} (hx : p.tables.exec = Jvm.exec) (hb : c.code = cc) (hts : ∀ w ∈ lw_all, w.before args s = true) (hown : s.vm.findClass RX2 = some m.cls) (hK : wm_K G s) (hW : xx_W G o d0 X E D H) (k : Nat) (hk : k < 4) {v : Value} (hv : (if k = 0 then Value.ref (o + 17) else if k = 1 then .int (fd_ X 95) else if k = 2 then .int (fd_ X 96) else .ref o) = v) (hq : (Cond.fieldLink RX2 index RX2 (TX2 k).2.1 (TX2 k).2.2.1) ∈ lw_all) (hr : (TX2 k).1 = RX2) (hd : decode cc pc = .ok (.getfield index, 3))
    (kk : W p l e R s m args below meth c H locs cells slots Q (F0 m (pc + 3) ls (v :: rest))) : W p l e R s m args below meth c H locs cells slots Q (F0 m pc ls (.ref (o + 16) :: rest)) :=
  wm_get hx hb hts in_X2 hown hK (ci := 2) rfl hW.rdr k hk hq (fun _ h => by rw [hr] at h; exact h) (v := v) hv hd kk
theorem xq_puta {index : Nat} {v : Int32} (hx : p.tables.exec = Jvm.exec) (hb : c.code = cc) (hts : ∀ w ∈ lw_all, w.before args s = true) (hown : s.vm.findClass RX2 = some m.cls) (hK : wm_K G s) (hW : xx_W G o d0 X E D H) (hS : va_S (xx_F o d0) H0 H locs) (hq : (Cond.fieldLink RX2 index RX2 (TX2 1).2.1 (TX2 1).2.2.1) ∈ lw_all) (hd : decode cc pc = .ok (.putfield index, 3))
    (kk : ∀ (X1 : mm_S) (H1 : Heap) (locs1 : List Loc), X1 = fw_ X 95 v → xx_W G o d0 X1 E D H1 → va_S (xx_F o d0) H0 H1 locs1 → W p l e R s m args below meth c H1 locs1 cells slots Q (F0 m (pc + 3) ls rest)) : W p l e R s m args below meth c H locs cells slots Q (F0 m pc ls (.int v :: .ref (o + 16) :: rest)) :=
  wm_put hx hb hts in_X2 tyX2 tyX2_ok nmX2 hown hK (ci := 2) rfl hW.rdr hS xx_Fr 1 (by decide) hq (fun _ h => h) rfl rfl rfl hd (fun H1 locs1 hO hz oq hS1 => kk _ H1 locs1 rfl (hW.aput hO hz oq) hS1)
theorem xq_puto {index : Nat} {v : Int32} (hx : p.tables.exec = Jvm.exec) (hb : c.code = cc) (hts : ∀ w ∈ lw_all, w.before args s = true) (hown : s.vm.findClass RX2 = some m.cls) (hK : wm_K G s) (hW : xx_W G o d0 X E D H) (hS : va_S (xx_F o d0) H0 H locs) (hq : (Cond.fieldLink RX2 index RX2 (TX2 2).2.1 (TX2 2).2.2.1) ∈ lw_all) (hd : decode cc pc = .ok (.putfield index, 3))
    (kk : ∀ (X1 : mm_S) (H1 : Heap) (locs1 : List Loc), X1 = fw_ X 96 v → xx_W G o d0 X1 E D H1 → va_S (xx_F o d0) H0 H1 locs1 → W p l e R s m args below meth c H1 locs1 cells slots Q (F0 m (pc + 3) ls rest)) : W p l e R s m args below meth c H locs cells slots Q (F0 m pc ls (.int v :: .ref (o + 16) :: rest)) :=
  wm_put hx hb hts in_X2 tyX2 tyX2_ok nmX2 hown hK (ci := 2) rfl hW.rdr hS xx_Fr 2 (by decide) hq (fun _ h => h) rfl rfl rfl hd (fun H1 locs1 hO hz oq hS1 => kk _ H1 locs1 rfl (hW.oput hO hz oq) hS1)
end XRD
