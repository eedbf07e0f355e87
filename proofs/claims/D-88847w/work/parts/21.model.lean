/-! THE REFERENCE's WORLD: one object, its arrays behind it in the order of its fields -/
set_option maxRecDepth 100000
/-- by field: place behind the object, class's number, length -/
def mm_tab : List (Option (Nat × Nat × Nat)) := [none, none, some (1, 0, 1952), some (2, 1, 1952), none, some (3, 0, 120), some (4, 0, 120), some (5, 0, 120), some (6, 0, 120), some (7, 0, 120), some (8, 0, 120), some (9, 0, 120), some (10, 0, 120), some (11, 0, 7320), some (12, 0, 7320), some (13, 1, 7320), some (14, 0, 7320), some (15, 0, 120), some (16, 0, 120), some (17, 0, 120), some (18, 1, 120), none, none, none, none, none, some (19, 0, 3), some (20, 0, 3), some (21, 0, 3), none, none, some (22, 0, 8), some (23, 0, 8), some (24, 0, 8), some (25, 0, 8), some (26, 0, 320), some (27, 2, 160), none, none, some (28, 0, 16), some (29, 0, 16), some (30, 0, 16), some (31, 0, 17), some (32, 0, 1530), some (33, 0, 1530), some (34, 0, 2890), some (35, 0, 2890), none, none, none, none, none, some (36, 0, 8), some (37, 0, 170), none, none, none, some (38, 0, 60), some (39, 0, 60), some (40, 1, 120), some (41, 0, 120), some (42, 0, 120), none, some (43, 0, 40), some (44, 0, 40), some (45, 0, 120), some (46, 0, 10), none, some (47, 0, 10), some (48, 0, 10), some (49, 0, 10), some (50, 0, 1024), none, some (51, 0, 10), none, some (52, 0, 9), none, some (53, 0, 6), some (54, 0, 24), none, some (55, 0, 2), some (56, 0, 2), none, none, some (57, 0, 120), some (58, 0, 120), some (59, 0, 120), none, some (60, 0, 24), some (61, 0, 6), some (62, 0, 6), some (63, 4, 360), some (64, 1, 360), some (65, 4, 60), some (66, 1, 60)]
def mm_arr (k : Nat) : Option (Nat × Nat × Nat) := mm_tab.getD k none
abbrev mm_S : Type := Nat → Nat → Int32
abbrev mm_E : Type := Nat → Nat → Int64
def mm_up (S : mm_S) (k j : Nat) (v : Int32) : mm_S := fun a b => if a = k ∧ b = j then v else S a b
def mm_ue (E : mm_E) (k j : Nat) (v : Int64) : mm_E := fun a b => if a = k ∧ b = j then v else E a b
/-- by Java's numbers: a field, an element; what a store leaves -/
def fd_ (S : mm_S) (k : Nat) : Int32 := S k 0
def rd_ (S : mm_S) (k : Nat) (i : Int32) : Int32 := S k i.toNatClampNeg
def fw_ (S : mm_S) (k : Nat) (v : Int32) : mm_S := mm_up S k 0 v
def wr_ (S : mm_S) (k : Nat) (i v : Int32) : mm_S := mm_up S k i.toNatClampNeg v
def re_ (E : mm_E) (k : Nat) (i : Int32) : Int64 := E k i.toNatClampNeg
def we_ (E : mm_E) (k : Nat) (i : Int32) (v : Int64) : mm_E := mm_ue E k i.toNatClampNeg v
def mm_V (o : Nat) (S : mm_S) : Nat → Value := fun k => match mm_arr k with
  | some x => .ref (o + x.1)
  | none => .int (S k 0)
def mm_C (S : mm_S) (E : mm_E) (k t : Nat) : Nat → Value := if t = 4 then fun i => .long (E k i) else fun i => .int (S k i)
def mm_W (G : wm_G) (o : Nat) (S : mm_S) (E : mm_E) (H : Heap) : Prop := wm_O G o 1 95 (mm_V o S) H ∧ ∀ (k j t n : Nat), mm_arr k = some (j, t, n) → wm_A G (o + j) t n (mm_C S E k t) H
/-- the reference's addresses -/
def mm_F (o : Nat) : Nat → Prop := fun q => o ≤ q ∧ q ≤ o + 66
theorem mm_ok1 : (List.range 95).all (fun k => (List.range 95).all (fun k2 => match mm_arr k, mm_arr k2 with
  | some x, some y => decide (x.1 = y.1 → k = k2)
  | _, _ => true)) = true := by decide +kernel
theorem mm_ok2 : (List.range 95).all (fun k => match mm_arr k with
  | some x => decide (1 ≤ x.1 ∧ x.1 ≤ 66)
  | none => true) = true := by decide +kernel
theorem mm_lt {k : Nat} {x : Nat × Nat × Nat} (h : mm_arr k = some x) : k < 95 := by
  rcases Nat.lt_or_ge k 95 with q | q
  · exact q
  · unfold mm_arr at h
    rw [List.getD_eq_getElem?_getD, List.getElem?_eq_none (by exact q)] at h
    cases h
theorem mm_inj {k k2 j t n t2 n2 : Nat} (h : mm_arr k = some (j, t, n)) (h2 : mm_arr k2 = some (j, t2, n2)) : k = k2 := by
  have a := List.all_eq_true.mp (List.all_eq_true.mp mm_ok1 k (List.mem_range.mpr (mm_lt h))) k2 (List.mem_range.mpr (mm_lt h2))
  rw [h, h2] at a
  exact of_decide_eq_true a rfl
theorem mm_pos {k j t n : Nat} (h : mm_arr k = some (j, t, n)) : 1 ≤ j ∧ j ≤ 66 := by
  have a := List.all_eq_true.mp mm_ok2 k (List.mem_range.mpr (mm_lt h))
  rw [h] at a
  exact of_decide_eq_true a
theorem mm_Fa {o k j t n : Nat} (h : mm_arr k = some (j, t, n)) : mm_F o (o + j) := ⟨Nat.le_add_right _ _, Nat.add_le_add_left (mm_pos h).2 _⟩
theorem mm_Fo (o : Nat) : mm_F o o := ⟨Nat.le_refl _, Nat.le_add_right _ _⟩
theorem mm_up_k {S : mm_S} {k j : Nat} {v : Int32} {k2 : Nat} (h : k2 ≠ k) : mm_up S k j v k2 = S k2 := by
  funext b
  show (if k2 = k ∧ b = j then v else S k2 b) = S k2 b
  rw [if_neg (fun q => h q.1)]
theorem mm_up_s (S : mm_S) (k j : Nat) (v : Int32) : mm_up S k j v k j = v := by
  show (if k = k ∧ j = j then v else S k j) = v
  rw [if_pos ⟨rfl, rfl⟩]
theorem mm_up_n {S : mm_S} {k j : Nat} {v : Int32} {i : Nat} (h : i ≠ j) : mm_up S k j v k i = S k i := by
  show (if k = k ∧ i = j then v else S k i) = S k i
  rw [if_neg (fun q => h q.2)]
theorem mm_up_a (S : mm_S) (k j : Nat) (v : Int32) (i : Nat) : mm_up S k j v k i = if i = j then v else S k i := by
  by_cases h : i = j
  · rw [h, mm_up_s, if_pos rfl]
  · rw [mm_up_n h, if_neg h]
theorem mm_ue_k {E : mm_E} {k j : Nat} {v : Int64} {k2 : Nat} (h : k2 ≠ k) : mm_ue E k j v k2 = E k2 := by
  funext b
  show (if k2 = k ∧ b = j then v else E k2 b) = E k2 b
  rw [if_neg (fun q => h q.1)]
theorem mm_ue_a (E : mm_E) (k j : Nat) (v : Int64) (i : Nat) : mm_ue E k j v k i = if i = j then v else E k i := by
  by_cases h : i = j
  · show (if k = k ∧ i = j then v else E k i) = _
    rw [if_pos ⟨rfl, h⟩, if_pos h]
  · show (if k = k ∧ i = j then v else E k i) = _
    rw [if_neg (fun q => h q.2), if_neg h]
theorem mm_W.put {G : wm_G} {o k : Nat} {S : mm_S} {E : mm_E} {v : Int32} {H H1 : Heap} (h : mm_W G o S E H) (hk : mm_arr k = none) (hO : wm_O G o 1 95 (updV (mm_V o S) k (.int v)) H1) (oq : ∀ q : Nat, q ≠ o → H1[q]? = H[q]?) : mm_W G o (mm_up S k 0 v) E H1 := by
  refine ⟨hO.to fun k2 _ => ?_, fun k2 j t n h2 => ?_⟩
  · show (if k2 = k then Value.int v else mm_V o S k2) = mm_V o (mm_up S k 0 v) k2
    by_cases q : k2 = k
    · subst q
      rw [if_pos rfl]
      show _ = (match mm_arr k2 with | some x => Value.ref (o + x.1) | none => Value.int (mm_up S k2 0 v k2 0))
      rw [hk, mm_up_s]
    · rw [if_neg q]
      show mm_V o S k2 = (match mm_arr k2 with | some x => Value.ref (o + x.1) | none => Value.int (mm_up S k 0 v k2 0))
      rw [mm_up_k q]
      rfl
  · have hne : k2 ≠ k := fun q => by rw [q, hk] at h2; cases h2
    have e : mm_C (mm_up S k 0 v) E k2 t = mm_C S E k2 t := by unfold mm_C; rw [mm_up_k hne]
    rw [e]
    exact (h.2 k2 j t n h2).kept (oq _ (by have := (mm_pos h2).1; omega))
theorem mm_W.ast {G : wm_G} {o k j t n i : Nat} {S : mm_S} {E : mm_E} {v : Int32} {H H1 : Heap} (h : mm_W G o S E H) (hk : mm_arr k = some (j, t, n)) (ht : t ≠ 4) (hA : wm_A G (o + j) t n (updV (mm_C S E k t) i (.int v)) H1) (oq : ∀ q : Nat, q ≠ o + j → H1[q]? = H[q]?) : mm_W G o (mm_up S k i v) E H1 := by
  have hj := (mm_pos hk).1
  refine ⟨(h.1.kept (oq o (by omega))).to fun k2 _ => ?_, fun k2 j2 t2 n2 h2 => ?_⟩
  · show (match mm_arr k2 with | some x => Value.ref (o + x.1) | none => Value.int (S k2 0)) = (match mm_arr k2 with | some x => Value.ref (o + x.1) | none => Value.int (mm_up S k i v k2 0))
    by_cases q : k2 = k
    · subst q; rw [hk]
    · rw [mm_up_k q]
  · by_cases q : k2 = k
    · subst q
      rw [hk] at h2
      cases h2
      have e : mm_C (mm_up S k2 i v) E k2 t = updV (mm_C S E k2 t) i (.int v) := by
        unfold mm_C
        rw [if_neg ht, if_neg ht]
        funext b
        show Value.int (mm_up S k2 i v k2 b) = (if b = i then Value.int v else Value.int (S k2 b))
        rw [mm_up_a]
        split <;> rfl
      rw [e]
      exact hA
    · have e : mm_C (mm_up S k i v) E k2 t2 = mm_C S E k2 t2 := by unfold mm_C; rw [mm_up_k q]
      rw [e]
      refine (h.2 k2 j2 t2 n2 h2).kept (oq _ fun z => q ?_)
      have : j2 = j := by omega
      subst this
      exact mm_inj h2 hk
theorem mm_W.lst {G : wm_G} {o k j n i : Nat} {S : mm_S} {E : mm_E} {v : Int64} {H H1 : Heap} (h : mm_W G o S E H) (hk : mm_arr k = some (j, 4, n)) (hA : wm_A G (o + j) 4 n (updV (mm_C S E k 4) i (.long v)) H1) (oq : ∀ q : Nat, q ≠ o + j → H1[q]? = H[q]?) : mm_W G o S (mm_ue E k i v) H1 := by
  have hj := (mm_pos hk).1
  refine ⟨h.1.kept (oq o (by omega)), fun k2 j2 t2 n2 h2 => ?_⟩
  by_cases q : k2 = k
  · subst q
    rw [hk] at h2
    cases h2
    have e : mm_C S (mm_ue E k2 i v) k2 4 = updV (mm_C S E k2 4) i (.long v) := by
      unfold mm_C
      rw [if_pos rfl, if_pos rfl]
      funext b
      show Value.long (mm_ue E k2 i v k2 b) = (if b = i then Value.long v else Value.long (E k2 b))
      rw [mm_ue_a]
      split <;> rfl
    rw [e]
    exact hA
  · have e : mm_C S (mm_ue E k i v) k2 t2 = mm_C S E k2 t2 := by unfold mm_C; rw [mm_ue_k q]
    rw [e]
    refine (h.2 k2 j2 t2 n2 h2).kept (oq _ fun z => q ?_)
    have : j2 = j := by omega
    subst this
    exact mm_inj h2 hk
theorem mm_W.kept {G : wm_G} {o : Nat} {S : mm_S} {E : mm_E} {H H1 : Heap} (h : mm_W G o S E H) (hq : ∀ q : Nat, mm_F o q → H1[q]? = H[q]?) : mm_W G o S E H1 :=
  ⟨h.1.kept (hq _ (mm_Fo o)), fun k j t n h2 => (h.2 k j t n h2).kept (hq _ (mm_Fa h2))⟩
/-- a contract of the reference's: from the state S, E to S', E', with the answer r -/
def mm_Met (l : Launch) (G : wm_G) (o : Nat) (y : MethodName) (ws : List Cond) (d : Nat) (S : mm_S) (E : mm_E) (av : List Value) (r : Option Value) (S' : mm_S) (E' : mm_E) : Prop :=
  Met l y ws (wm_rm d) (va_Pc (.ref o :: av) (fun U => wm_K G U ∧ mm_W G o S E U.heap)) (wm_Q (fun v H => v = r ∧ mm_W G o S' E' H) (mm_F o)) 0 0 (mm_F o)
/-- a static method's that reads nothing: its answer -/
def pp_Q (r : Option Value) : Array Value → State → Outcome → State → Prop := fun _ st o t => o = .returned r ∧ t.heap = st.heap
def pp_Met (l : Launch) (y : MethodName) (ws : List Cond) (d : Nat) (av : List Value) (r : Option Value) : Prop :=
  Met l y ws (wm_rm d) (va_Pc av (fun _ => True)) (pp_Q r) 0 0 (fun _ => False)
theorem mm_start {l : Launch} {G : wm_G} {o : Nat} {y : MethodName} {cc : ByteArray} {maxL : Nat} {ret : Option FieldType} {d : Nat} {S : mm_S} {E : mm_E} {av : List Value} {r : Option Value} {S' : mm_S} {E' : mm_E} (hy : plainName y.cls = true) (hlen : (lg_sl (Value.ref o :: av)).length ≤ maxL) (hN : y.cls = RX5)
    (body : ∀ (p : Program) (e : Env) (s : State) (m : MethodId) (below : List Frame) (meth : Method) (c : Code), p.tables.exec = Jvm.exec → c.code = cc → c.maxLocals = maxL → meth.sig.returnType = ret → meth.locks = false → (∀ w ∈ lw_all, w.before (Value.ref o :: av).toArray s = true) → s.vm.findClass RX5 = some m.cls → wm_K G s → ∀ H : Heap, mm_W G o S E H → va_S (mm_F o) s.heap H [] → ∀ ls : Array Slot, lv_has ls maxL (lv_args 0 (Value.ref o :: av)) →
      W p l e (wm_rm d) s m (Value.ref o :: av).toArray below meth c H [] 0 0 (MQ below (wm_Q (fun v H => v = r ∧ mm_W G o S' E' H) (mm_F o)) (Value.ref o :: av).toArray s 0 0 (mm_F o)) (F0 m 0 ls [])) : mm_Met l G o y (ws_ y cc maxL ret) d S E av r S' E' := by
  refine Met.ofW (cc := cc) (maxL := maxL) (ret := ret) hy rfl ?_
  intro p e s m args below meth c s₁ B hml hv
  obtain ⟨rfl, hK, hW⟩ := hv
  have hts := atoms_spec (ws := ws_ y cc maxL ret) B.pre
  have hts : ∀ w ∈ lw_all, w.before _ s = true := fun w h => hts w (List.mem_cons_of_mem _ h)
  have hown : s.vm.findClass RX5 = some m.cls := by rw [← hN]; exact findClass_of_methodNamed B.named
  have hl := lv_entry (Value.ref o :: av) hlen
  rw [lg_entry_eq]
  exact body p e s m below meth c B.exec B.bytes hml B.returns B.notSynchronized hts hown hK _ hW va_S.rf _ hl
theorem pp_start {l : Launch} {y : MethodName} {cc : ByteArray} {maxL : Nat} {ret : Option FieldType} {d : Nat} {own : String} {av : List Value} {r : Option Value} (hy : plainName y.cls = true) (hlen : (lg_sl av).length ≤ maxL) (hN : y.cls = own)
    (body : ∀ (p : Program) (e : Env) (s : State) (m : MethodId) (below : List Frame) (meth : Method) (c : Code), p.tables.exec = Jvm.exec → c.code = cc → c.maxLocals = maxL → meth.sig.returnType = ret → meth.locks = false → (∀ w ∈ lw_all, w.before av.toArray s = true) → s.vm.findClass own = some m.cls → ∀ ls : Array Slot, lv_has ls maxL (lv_args 0 av) →
      W p l e (wm_rm d) s m av.toArray below meth c s.heap [] 0 0 (MQ below (pp_Q r) av.toArray s 0 0 (fun _ => False)) (F0 m 0 ls [])) : pp_Met l y (ws_ y cc maxL ret) d av r := by
  refine Met.ofW (cc := cc) (maxL := maxL) (ret := ret) hy rfl ?_
  intro p e s m args below meth c s₁ B hml hv
  obtain ⟨rfl, -⟩ := hv
  have hts := atoms_spec (ws := ws_ y cc maxL ret) B.pre
  have hts : ∀ w ∈ lw_all, w.before _ s = true := fun w h => hts w (List.mem_cons_of_mem _ h)
  have hown : s.vm.findClass own = some m.cls := by rw [← hN]; exact findClass_of_methodNamed B.named
  have hl := lv_entry av hlen
  rw [lg_entry_eq]
  exact body p e s m below meth c B.exec B.bytes hml B.returns B.notSynchronized hts hown _ hl
section MM
variable {p : Program} {l : Launch} {e : Env} {R : Room} {s : State} {m : MethodId} {args : Array Value} {below : List Frame} {meth : Method} {c : Code} {H : Heap} {locs : List Loc} {cells slots : Nat} {Q : State → Prop}
variable {cc : ByteArray} {pc : Nat} {ls : Array Slot} {rest : List Value} {G : wm_G} {o : Nat} {H0 : Heap} {S : mm_S} {E : mm_E}
theorem mm_geti (hx : p.tables.exec = Jvm.exec) (hb : c.code = cc) (hts : ∀ w ∈ lw_all, w.before args s = true) (hown : s.vm.findClass RX5 = some m.cls) (hK : wm_K G s) (hW : mm_W G o S E H) {index : Nat} (k : Nat) (hk : mm_arr k = none) (hk2 : k < 95) (hq : (Cond.fieldLink RX5 index (TX5 k).1 (TX5 k).2.1 (TX5 k).2.2.1) ∈ lw_all) (hd : decode cc pc = .ok (.getfield index, 3))
    (kk : W p l e R s m args below meth c H locs cells slots Q (F0 m (pc + 3) ls (.int (fd_ S k) :: rest))) : W p l e R s m args below meth c H locs cells slots Q (F0 m pc ls (.ref o :: rest)) :=
  wm_get hx hb hts in_X5 hown hK (ci := 1) rfl hW.1 k hk2 hq (fun _ h => h) (v := .int (fd_ S k)) (by show (match mm_arr k with | some x => Value.ref (o + x.1) | none => Value.int (S k 0)) = _; rw [hk]; rfl) hd kk
theorem mm_geta (hx : p.tables.exec = Jvm.exec) (hb : c.code = cc) (hts : ∀ w ∈ lw_all, w.before args s = true) (hown : s.vm.findClass RX5 = some m.cls) (hK : wm_K G s) (hW : mm_W G o S E H) {index : Nat} (k : Nat) {j t n : Nat} (hk : mm_arr k = some (j, t, n)) (hq : (Cond.fieldLink RX5 index (TX5 k).1 (TX5 k).2.1 (TX5 k).2.2.1) ∈ lw_all) (hd : decode cc pc = .ok (.getfield index, 3))
    (kk : W p l e R s m args below meth c H locs cells slots Q (F0 m (pc + 3) ls (.ref (o + j) :: rest))) : W p l e R s m args below meth c H locs cells slots Q (F0 m pc ls (.ref o :: rest)) :=
  wm_get hx hb hts in_X5 hown hK (ci := 1) rfl hW.1 k (mm_lt hk) hq (fun _ h => h) (v := .ref (o + j)) (by show (match mm_arr k with | some x => Value.ref (o + x.1) | none => Value.int (S k 0)) = _; rw [hk]) hd kk
theorem mm_puti (hx : p.tables.exec = Jvm.exec) (hb : c.code = cc) (hts : ∀ w ∈ lw_all, w.before args s = true) (hown : s.vm.findClass RX5 = some m.cls) (hK : wm_K G s) (hW : mm_W G o S E H) (hS : va_S (mm_F o) H0 H locs) {index : Nat} (k : Nat) (hk : mm_arr k = none) (hk2 : k < 95) (hfin : (TX5 k).2.2.2 = false) {v : Int32} (hn : narrow (tyX5 k) (.int v) = .int v) (hfit : fits (tyX5 k) (.int v) = true) (hq : (Cond.fieldLink RX5 index (TX5 k).1 (TX5 k).2.1 (TX5 k).2.2.1) ∈ lw_all) (hd : decode cc pc = .ok (.putfield index, 3))
    (kk : ∀ (S1 : mm_S) (H1 : Heap) (locs1 : List Loc), S1 = fw_ S k v → mm_W G o S1 E H1 → va_S (mm_F o) H0 H1 locs1 → W p l e R s m args below meth c H1 locs1 cells slots Q (F0 m (pc + 3) ls rest)) : W p l e R s m args below meth c H locs cells slots Q (F0 m pc ls (.int v :: .ref o :: rest)) :=
  wm_put hx hb hts in_X5 tyX5 tyX5_ok nmX5 hown hK (ci := 1) rfl hW.1 hS (mm_Fo o) k hk2 hq (fun _ h => h) hfin hn hfit hd (fun H1 locs1 hO _ oq hS1 => kk _ H1 locs1 rfl (hW.put hk hO oq) hS1)
theorem mm_iald (hx : p.tables.exec = Jvm.exec) (hb : c.code = cc) (hK : wm_K G s) (hW : mm_W G o S E H) (k : Nat) {j n : Nat} (hk : mm_arr k = some (j, 0, n)) {i : Int32} (hin : vp_in i n) (hd : decode cc pc = .ok (.iaload, 1))
    (kk : W p l e R s m args below meth c H locs cells slots Q (F0 m (pc + 1) ls (.int (rd_ S k i) :: rest))) : W p l e R s m args below meth c H locs cells slots Q (F0 m pc ls (.int i :: .ref (o + j) :: rest)) :=
  wm_iald hx hb hK (hW.2 k j 0 n hk) hin (v := .int (rd_ S k i)) rfl hd kk
theorem mm_zald (hx : p.tables.exec = Jvm.exec) (hb : c.code = cc) (hK : wm_K G s) (hW : mm_W G o S E H) (k : Nat) {j n : Nat} (hk : mm_arr k = some (j, 1, n)) {i : Int32} (hin : vp_in i n) (hd : decode cc pc = .ok (.baload, 1))
    (kk : W p l e R s m args below meth c H locs cells slots Q (F0 m (pc + 1) ls (.int (rd_ S k i) :: rest))) : W p l e R s m args below meth c H locs cells slots Q (F0 m pc ls (.int i :: .ref (o + j) :: rest)) :=
  wm_zald hx hb hK (hW.2 k j 1 n hk) hin (v := .int (rd_ S k i)) rfl hd kk
theorem mm_bald (hx : p.tables.exec = Jvm.exec) (hb : c.code = cc) (hK : wm_K G s) (hW : mm_W G o S E H) (k : Nat) {j n : Nat} (hk : mm_arr k = some (j, 2, n)) {i : Int32} (hin : vp_in i n) (hd : decode cc pc = .ok (.baload, 1))
    (kk : W p l e R s m args below meth c H locs cells slots Q (F0 m (pc + 1) ls (.int (rd_ S k i) :: rest))) : W p l e R s m args below meth c H locs cells slots Q (F0 m pc ls (.int i :: .ref (o + j) :: rest)) :=
  wm_bald hx hb hK (hW.2 k j 2 n hk) hin (v := .int (rd_ S k i)) rfl hd kk
theorem mm_lald (hx : p.tables.exec = Jvm.exec) (hb : c.code = cc) (hK : wm_K G s) (hW : mm_W G o S E H) (k : Nat) {j n : Nat} (hk : mm_arr k = some (j, 4, n)) {i : Int32} (hin : vp_in i n) (hd : decode cc pc = .ok (.laload, 1))
    (kk : W p l e R s m args below meth c H locs cells slots Q (F0 m (pc + 1) ls (.long (re_ E k i) :: rest))) : W p l e R s m args below meth c H locs cells slots Q (F0 m pc ls (.int i :: .ref (o + j) :: rest)) :=
  wm_lald hx hb hK (hW.2 k j 4 n hk) hin (v := .long (re_ E k i)) rfl hd kk
theorem mm_iast (hx : p.tables.exec = Jvm.exec) (hb : c.code = cc) (hK : wm_K G s) (hW : mm_W G o S E H) (hS : va_S (mm_F o) H0 H locs) (k : Nat) {j n : Nat} (hk : mm_arr k = some (j, 0, n)) {i x : Int32} (hin : vp_in i n) (hd : decode cc pc = .ok (.iastore, 1))
    (kk : ∀ (S1 : mm_S) (H1 : Heap) (locs1 : List Loc), S1 = wr_ S k i x → mm_W G o S1 E H1 → va_S (mm_F o) H0 H1 locs1 → W p l e R s m args below meth c H1 locs1 cells slots Q (F0 m (pc + 1) ls rest)) : W p l e R s m args below meth c H locs cells slots Q (F0 m pc ls (.int x :: .int i :: .ref (o + j) :: rest)) :=
  wm_iast hx hb hK (hW.2 k j 0 n hk) hS (mm_Fa hk) hin hd (fun H1 locs1 hA _ oq hS1 => kk _ H1 locs1 rfl (hW.ast hk (by decide) hA oq) hS1)
theorem mm_zast (hx : p.tables.exec = Jvm.exec) (hb : c.code = cc) (hK : wm_K G s) (hW : mm_W G o S E H) (hS : va_S (mm_F o) H0 H locs) (k : Nat) {j n : Nat} (hk : mm_arr k = some (j, 1, n)) {i x : Int32} (hn : narrow .boolean (.int x) = .int x) (hin : vp_in i n) (hd : decode cc pc = .ok (.bastore, 1))
    (kk : ∀ (S1 : mm_S) (H1 : Heap) (locs1 : List Loc), S1 = wr_ S k i x → mm_W G o S1 E H1 → va_S (mm_F o) H0 H1 locs1 → W p l e R s m args below meth c H1 locs1 cells slots Q (F0 m (pc + 1) ls rest)) : W p l e R s m args below meth c H locs cells slots Q (F0 m pc ls (.int x :: .int i :: .ref (o + j) :: rest)) :=
  wm_zast hx hb hK (hW.2 k j 1 n hk) hS (mm_Fa hk) hn hin hd (fun H1 locs1 hA _ oq hS1 => kk _ H1 locs1 rfl (hW.ast hk (by decide) hA oq) hS1)
theorem mm_bast (hx : p.tables.exec = Jvm.exec) (hb : c.code = cc) (hK : wm_K G s) (hW : mm_W G o S E H) (hS : va_S (mm_F o) H0 H locs) (k : Nat) {j n : Nat} (hk : mm_arr k = some (j, 2, n)) {i x : Int32} (hin : vp_in i n) (hd : decode cc pc = .ok (.bastore, 1))
    (kk : ∀ (S1 : mm_S) (H1 : Heap) (locs1 : List Loc), S1 = wr_ S k i x.toInt8.toInt32 → mm_W G o S1 E H1 → va_S (mm_F o) H0 H1 locs1 → W p l e R s m args below meth c H1 locs1 cells slots Q (F0 m (pc + 1) ls rest)) : W p l e R s m args below meth c H locs cells slots Q (F0 m pc ls (.int x :: .int i :: .ref (o + j) :: rest)) :=
  wm_bast hx hb hK (hW.2 k j 2 n hk) hS (mm_Fa hk) hin hd (fun H1 locs1 hA _ oq hS1 => kk _ H1 locs1 rfl (hW.ast hk (by decide) hA oq) hS1)
theorem mm_last (hx : p.tables.exec = Jvm.exec) (hb : c.code = cc) (hK : wm_K G s) (hW : mm_W G o S E H) (hS : va_S (mm_F o) H0 H locs) (k : Nat) {j n : Nat} (hk : mm_arr k = some (j, 4, n)) {i : Int32} {x : Int64} (hin : vp_in i n) (hd : decode cc pc = .ok (.lastore, 1))
    (kk : ∀ (E1 : mm_E) (H1 : Heap) (locs1 : List Loc), E1 = we_ E k i x → mm_W G o S E1 H1 → va_S (mm_F o) H0 H1 locs1 → W p l e R s m args below meth c H1 locs1 cells slots Q (F0 m (pc + 1) ls rest)) : W p l e R s m args below meth c H locs cells slots Q (F0 m pc ls (.long x :: .int i :: .ref (o + j) :: rest)) :=
  wm_last hx hb hK (hW.2 k j 4 n hk) hS (mm_Fa hk) hin hd (fun H1 locs1 hA _ oq hS1 => kk _ H1 locs1 rfl (hW.lst hk hA oq) hS1)
theorem mm_recv (hK : wm_K G s) (hW : mm_W G o S E H) : ∃ cell : Cell, H[o]? = some cell ∧ cell.vm.isStatics = false ∧ s.vm.findClass RX5 = some cell.cls := wm_O.recv (ci := 1) (q := (RX5, TX5, 95)) hK rfl hW.1
theorem mm_preV (hK : wm_K G s) (hW : mm_W G o S E H) (av : List Value) : PreV s H RX5 o (va_Pc (.ref o :: av) (fun U => wm_K G U ∧ mm_W G o S E U.heap)) av :=
  ⟨fun _ _ g mk q => ⟨q.1, q.2.1.calling g mk _, q.2.2⟩, mm_recv hK hW, fun _ hU hW2 => ⟨rfl, hK.moved hW2.alike, by rw [hU]; exact hW⟩⟩
/-- a call of a method of the reference's, by itself -/
theorem mm_call {nL n maxL d index : Nat} {y : MethodName} {bytes : ByteArray} {ret : Option FieldType} {own : String} {As st0 : List Value} {r : Option Value} {S' : mm_S} {E' : mm_E} {A : Nat → Prop} (F : CallFix p m c cc nL s args lw_all own) (hK : wm_K G s) (hM : mm_Met l G o y (ws_ y bytes maxL ret) d S E As r S' E') (hg : GoodIn lw_all (wsV own index RX5 y (ws_ y bytes maxL ret))) (hy : y.cls = RX5 ∧ y.cls ≠ "java/lang/invoke/MethodHandle" ∧ y.cls ≠ "java/lang/invoke/VarHandle" ∧ (parseMethodDescriptor y.desc).map (fun d => d.parameters.length) = some n) (hn : As.length = n) (hR : d + 1 ≤ R.frames ∧ 8 + (maxL + 11) + 60 * d ≤ R.locals) (hW : mm_W G o S E H) (hS : va_S A H0 H locs) (hA : ∀ q, mm_F o q → A q) (hsz : ls.size = nL) (hst : st0 = As.reverse ++ .ref o :: rest) (hrest : (rest.map fun v => v.category).sum ≤ 8) (hd : decode cc pc = .ok (.invokevirtual index, 3)) (hroom : cells ≤ R.cells ∧ slots ≤ R.slots)
    (kk : ∀ (H1 : Heap) (locs1 : List Loc), mm_W G o S' E' H1 → H.size ≤ H1.size → (∀ q : Nat, q < H.size → ¬ mm_F o q → H1[q]? = H[q]?) → va_S A H0 H1 locs1 → W p l e R s m args below meth c H1 locs1 cells slots Q (F0 m (pc + 3) ls (r.toList ++ rest))) : W p l e R s m args below meth c H locs cells slots Q (F0 m pc ls st0) := by
  refine wm_call (va_runV F hM (cwV n F.2.2.2.2 hg rfl rfl rfl hy hR) (mm_preV hK hW As) rfl hn hsz hst (lv_room hrest) hd hroom) hS hA hA fun v H1 locs1 hp hz ho hS1 => ?_
  obtain ⟨rfl, hW1⟩ := hp
  exact kk H1 locs1 hW1 hz ho hS1
theorem mm_calli {nL n maxL d index : Nat} {y : MethodName} {bytes : ByteArray} {ret : Option FieldType} {As st0 : List Value} {r : Int32} {S' : mm_S} {E' : mm_E} (F : CallFix p m c cc nL s args lw_all RX5) (hK : wm_K G s) (hM : mm_Met l G o y (ws_ y bytes maxL ret) d S E As (some (.int r)) S' E') (hg : GoodIn lw_all (wsV RX5 index RX5 y (ws_ y bytes maxL ret))) (hy : y.cls = RX5 ∧ y.cls ≠ "java/lang/invoke/MethodHandle" ∧ y.cls ≠ "java/lang/invoke/VarHandle" ∧ (parseMethodDescriptor y.desc).map (fun d => d.parameters.length) = some n) (hn : As.length = n) (hR : d + 1 ≤ R.frames ∧ 8 + (maxL + 11) + 60 * d ≤ R.locals) (hW : mm_W G o S E H) (hS : va_S (mm_F o) H0 H locs) (hsz : ls.size = nL) (hst : st0 = As.reverse ++ .ref o :: rest) (hrest : (rest.map fun v => v.category).sum ≤ 8) (hd : decode cc pc = .ok (.invokevirtual index, 3)) (hroom : cells ≤ R.cells ∧ slots ≤ R.slots)
    (kk : ∀ (v : Int32) (S1 : mm_S) (H1 : Heap) (locs1 : List Loc), v = r → S1 = S' → mm_W G o S1 E' H1 → va_S (mm_F o) H0 H1 locs1 → W p l e R s m args below meth c H1 locs1 cells slots Q (F0 m (pc + 3) ls (.int v :: rest))) : W p l e R s m args below meth c H locs cells slots Q (F0 m pc ls st0) :=
  mm_call F hK hM hg hy hn hR hW hS (fun _ h => h) hsz hst hrest hd hroom fun H1 locs1 hW1 _ _ hS1 => kk r S' H1 locs1 rfl rfl hW1 hS1
theorem mm_callp {nL n maxL d index : Nat} {y : MethodName} {bytes : ByteArray} {ret : Option FieldType} {As st0 : List Value} {r : Int32} (F : CallFix p m c cc nL s args lw_all RX5) (hK : wm_K G s) (hM : mm_Met l G o y (ws_ y bytes maxL ret) d S E As (some (.int r)) S E) (hg : GoodIn lw_all (wsV RX5 index RX5 y (ws_ y bytes maxL ret))) (hy : y.cls = RX5 ∧ y.cls ≠ "java/lang/invoke/MethodHandle" ∧ y.cls ≠ "java/lang/invoke/VarHandle" ∧ (parseMethodDescriptor y.desc).map (fun d => d.parameters.length) = some n) (hn : As.length = n) (hR : d + 1 ≤ R.frames ∧ 8 + (maxL + 11) + 60 * d ≤ R.locals) (hW : mm_W G o S E H) (hS : va_S (mm_F o) H0 H locs) (hsz : ls.size = nL) (hst : st0 = As.reverse ++ .ref o :: rest) (hrest : (rest.map fun v => v.category).sum ≤ 8) (hd : decode cc pc = .ok (.invokevirtual index, 3)) (hroom : cells ≤ R.cells ∧ slots ≤ R.slots)
    (kk : ∀ (v : Int32) (H1 : Heap) (locs1 : List Loc), v = r → mm_W G o S E H1 → va_S (mm_F o) H0 H1 locs1 → W p l e R s m args below meth c H1 locs1 cells slots Q (F0 m (pc + 3) ls (.int v :: rest))) : W p l e R s m args below meth c H locs cells slots Q (F0 m pc ls st0) :=
  mm_call F hK hM hg hy hn hR hW hS (fun _ h => h) hsz hst hrest hd hroom fun H1 locs1 hW1 _ _ hS1 => kk r H1 locs1 rfl hW1 hS1
theorem mm_callv {nL n maxL d index : Nat} {y : MethodName} {bytes : ByteArray} {ret : Option FieldType} {As st0 : List Value} {S' : mm_S} {E' : mm_E} (F : CallFix p m c cc nL s args lw_all RX5) (hK : wm_K G s) (hM : mm_Met l G o y (ws_ y bytes maxL ret) d S E As none S' E') (hg : GoodIn lw_all (wsV RX5 index RX5 y (ws_ y bytes maxL ret))) (hy : y.cls = RX5 ∧ y.cls ≠ "java/lang/invoke/MethodHandle" ∧ y.cls ≠ "java/lang/invoke/VarHandle" ∧ (parseMethodDescriptor y.desc).map (fun d => d.parameters.length) = some n) (hn : As.length = n) (hR : d + 1 ≤ R.frames ∧ 8 + (maxL + 11) + 60 * d ≤ R.locals) (hW : mm_W G o S E H) (hS : va_S (mm_F o) H0 H locs) (hsz : ls.size = nL) (hst : st0 = As.reverse ++ .ref o :: rest) (hrest : (rest.map fun v => v.category).sum ≤ 8) (hd : decode cc pc = .ok (.invokevirtual index, 3)) (hroom : cells ≤ R.cells ∧ slots ≤ R.slots)
    (kk : ∀ (S1 : mm_S) (H1 : Heap) (locs1 : List Loc), S1 = S' → mm_W G o S1 E' H1 → va_S (mm_F o) H0 H1 locs1 → W p l e R s m args below meth c H1 locs1 cells slots Q (F0 m (pc + 3) ls rest)) : W p l e R s m args below meth c H locs cells slots Q (F0 m pc ls st0) :=
  mm_call F hK hM hg hy hn hR hW hS (fun _ h => h) hsz hst hrest hd hroom fun H1 locs1 hW1 _ _ hS1 => kk S' H1 locs1 rfl hW1 hS1
/-- a call of a static method that reads nothing -/
theorem pp_calli {nL n maxL d index : Nat} {y : MethodName} {bytes : ByteArray} {ret : Option FieldType} {own : String} {As st0 : List Value} {r : Int32} (F : CallFix p m c cc nL s args lw_all own) (hM : pp_Met l y (ws_ y bytes maxL ret) d As (some (.int r))) (hg : GoodIn lw_all (va_wsS own index y (ws_ y bytes maxL ret))) (hy : y.cls ≠ "java/lang/invoke/MethodHandle" ∧ y.cls ≠ "java/lang/invoke/VarHandle" ∧ (parseMethodDescriptor y.desc).map (fun d => d.parameters.length) = some n) (hn : As.length = n) (hR : d + 1 ≤ R.frames ∧ 8 + (maxL + 11) + 60 * d ≤ R.locals) (hsz : ls.size = nL) (hst : st0 = As.reverse ++ rest) (hrest : (rest.map fun v => v.category).sum ≤ 8) (hd : decode cc pc = .ok (.invokestatic index, 3)) (hroom : cells ≤ R.cells ∧ slots ≤ R.slots)
    (kk : ∀ v : Int32, v = r → W p l e R s m args below meth c H locs cells slots Q (F0 m (pc + 3) ls (.int v :: rest))) : W p l e R s m args below meth c H locs cells slots Q (F0 m pc ls st0) := by
  have hr := W.runS (l := l) (H := H) (locs := locs) (cells := cells) (slots := slots) (g := F0 m pc ls st0) (p := p) (e := e) (below := below) (meth := meth) (rest := rest) F hM (va_cwS n F.2.2.2.2 hg rfl rfl rfl hy hR) ⟨fun _ _ _ _ q => q, fun _ _ _ => ⟨rfl, trivial⟩⟩ rfl hn hsz hst (lv_room hrest) hd hroom
  intro T hT X
  obtain ⟨v, st₀, t, T', L, h0, X', hL, e1, ⟨hv, hh⟩, st⟩ := hr T hT X
  cases hv
  obtain ⟨t2, a1, b1⟩ := kk r rfl T' (by rw [e1, hh, h0]) (Stand.forget X' (fun q h => (hL q h).elim))
  exact ⟨t2, st t2 a1, b1⟩
theorem mm_iret {v : Int32} {S' : mm_S} {E' : mm_E} {r : Option Value} (hx : p.tables.exec = Jvm.exec) (hb : c.code = cc) (hr : meth.sig.returnType = some .int) (hlocks : meth.locks = false) (hW : mm_W G o S E H) (hS : va_S (mm_F o) s.heap H locs) (he : some (.int v) = r ∧ S = S' ∧ E = E') (hdg : decode cc pc = .ok (.ireturn, 1)) : W p l e R s m args below meth c H locs cells slots (MQ below (wm_Q (fun v H => v = r ∧ mm_W G o S' E' H) (mm_F o)) args s cells slots (mm_F o)) (F0 m pc ls [.int v]) := by
  obtain ⟨rfl, rfl, rfl⟩ := he
  exact wm_iret hx hb hr hlocks hS (fun _ h => h) ⟨rfl, hW⟩ hdg
theorem mm_zret {v : Int32} {S' : mm_S} {E' : mm_E} {r : Option Value} (hx : p.tables.exec = Jvm.exec) (hb : c.code = cc) (hr : meth.sig.returnType = some .boolean) (hlocks : meth.locks = false) (hW : mm_W G o S E H) (hS : va_S (mm_F o) s.heap H locs) (hn : narrow .boolean (.int v) = .int v) (he : some (.int v) = r ∧ S = S' ∧ E = E') (hdg : decode cc pc = .ok (.ireturn, 1)) : W p l e R s m args below meth c H locs cells slots (MQ below (wm_Q (fun v H => v = r ∧ mm_W G o S' E' H) (mm_F o)) args s cells slots (mm_F o)) (F0 m pc ls [.int v]) := by
  obtain ⟨rfl, rfl, rfl⟩ := he
  exact wm_zret hx hb hr hlocks hS (fun _ h => h) hn ⟨rfl, hW⟩ hdg
theorem mm_lret {v : Int64} {S' : mm_S} {E' : mm_E} {r : Option Value} (hx : p.tables.exec = Jvm.exec) (hb : c.code = cc) (hr : meth.sig.returnType = some .long) (hlocks : meth.locks = false) (hW : mm_W G o S E H) (hS : va_S (mm_F o) s.heap H locs) (he : some (.long v) = r ∧ S = S' ∧ E = E') (hdg : decode cc pc = .ok (.lreturn, 1)) : W p l e R s m args below meth c H locs cells slots (MQ below (wm_Q (fun v H => v = r ∧ mm_W G o S' E' H) (mm_F o)) args s cells slots (mm_F o)) (F0 m pc ls [.long v]) := by
  obtain ⟨rfl, rfl, rfl⟩ := he
  exact wm_lret hx hb hr hlocks hS (fun _ h => h) ⟨rfl, hW⟩ hdg
theorem mm_vret {S' : mm_S} {E' : mm_E} (hx : p.tables.exec = Jvm.exec) (hb : c.code = cc) (hr : meth.sig.returnType = none) (hlocks : meth.locks = false) (hW : mm_W G o S E H) (hS : va_S (mm_F o) s.heap H locs) (he : S = S' ∧ E = E') (hdg : decode cc pc = .ok (.return_, 1)) : W p l e R s m args below meth c H locs cells slots (MQ below (wm_Q (fun v H => v = none ∧ mm_W G o S' E' H) (mm_F o)) args s cells slots (mm_F o)) (F0 m pc ls []) := by
  obtain ⟨rfl, rfl⟩ := he
  exact wm_vret hx hb hr hlocks hS (fun _ h => h) ⟨rfl, hW⟩ hdg
theorem pp_iret {v : Int32} {r : Option Value} (hx : p.tables.exec = Jvm.exec) (hb : c.code = cc) (hr : meth.sig.returnType = some .int) (hlocks : meth.locks = false) (he : some (.int v) = r) (hdg : decode cc pc = .ok (.ireturn, 1)) : W p l e R s m args below meth c s.heap [] cells slots (MQ below (pp_Q r) args s cells slots (fun _ => False)) (F0 m pc ls [.int v]) :=
  W.iret (v := v) hx hb hr (fun t ht _ => ⟨by rw [he], ht⟩) (fun q hq => by cases hq) hdg hlocks
theorem pp_zret {v : Int32} {r : Option Value} (hx : p.tables.exec = Jvm.exec) (hb : c.code = cc) (hr : meth.sig.returnType = some .boolean) (hlocks : meth.locks = false) (hn : narrow .boolean (.int v) = .int v) (he : some (.int v) = r) (hdg : decode cc pc = .ok (.ireturn, 1)) : W p l e R s m args below meth c s.heap [] cells slots (MQ below (pp_Q r) args s cells slots (fun _ => False)) (F0 m pc ls [.int v]) :=
  W.zret (v := v) hx hb hr hn (fun t ht _ => ⟨by rw [he], ht⟩) (fun q hq => by cases hq) hdg hlocks
end MM
