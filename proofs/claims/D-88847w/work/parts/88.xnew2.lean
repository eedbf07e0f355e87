/-! THINGS MADE: arrays, contracts of constructors, the world with more in it -/
set_option maxRecDepth 100000
theorem xn_T.ao {U : State} (h : xn_T U) {C : String} (hw : (Cond.arrayOver (.object C)) ∈ lw_tbl) : va_AO C U := by
  obtain ⟨a0, s0, h1, h2, -⟩ := h
  exact va_AO.moved h1.alike (va_AO.of (h2 _ hw))
section WN2
variable {p : Program} {l : Launch} {e : Env} {R : Room} {s : State} {m : MethodId} {args : Array Value} {below : List Frame} {meth : Method} {c : Code} {H : Heap} {locs : List Loc} {cells slots : Nat} {Q : State → Prop}
variable {cc : ByteArray} {pc : Nat} {ls : Array Slot} {rest : List Value} {G : wm_G} {A : Nat → Prop} {H0 : Heap}
theorem wm_newa (hx : p.tables.exec = Jvm.exec) (hb : c.code = cc) {atype : ArrayType} {ty : FieldType} {t : Nat} (hty : newarray.typeOf atype = ty) (harr : (Cond.arrayClass ty).before args s = true) (hfc : s.vm.findClass ("[" ++ ty.toString) = some (G.2 t)) (hS : va_S A H0 H locs) {n : Int32} {N : Nat} (hn : ¬ n < 0) (hN : n.toNatClampNeg = N) (hbytes : N * componentBytes ty ≤ 536870912) (hcells : cells + 1 ≤ R.cells) (hslots : slots + N ≤ R.slots) (hd : decode cc pc = .ok (.newarray atype, 2))
    (kk : ∀ H1 : Heap, wm_A G H.size t N (fun _ => defaultValue ty) H1 → H1.size = H.size + 1 → (∀ q : Nat, q < H.size → H1[q]? = H[q]?) → va_S A H0 H1 locs → W p l e R s m args below meth c H1 locs (cells + 1) (slots + N) Q (F0 m (pc + 2) ls (.ref H.size :: rest))) : W p l e R s m args below meth c H locs cells slots Q (F0 m pc ls (.int n :: rest)) := by
  subst hty
  refine va_newaK hx hb harr rfl hd rfl hn hN hbytes hcells hslots rfl fun H1 cA e1 z1 o1 _ hNm => ?_
  have e : cA = G.2 t := Option.some.inj (hNm.symm.trans hfc)
  rw [e] at e1
  exact kk H1 e1 z1 o1 ⟨Nat.le_trans hS.1 (by omega), fun x h1 h2 => (o1 x (Nat.lt_of_lt_of_le h1 hS.1)).trans (hS.2.1 x h1 h2), hS.2.2⟩
theorem wm_newq (hx : p.tables.exec = Jvm.exec) (hb : c.code = cc) {own C : String} {index t : Nat} (hown : s.vm.findClass own = some m.cls) (hcl : (Cond.classLink own index C).before args s = true) (hover : va_AO C s) (hK : wm_K G s) (ht : (wm_tys G)[t]? = some (G.2 t, .object C)) (hS : va_S A H0 H locs) {n : Int32} {N : Nat} (hn : ¬ n < 0) (hN : n.toNatClampNeg = N) (hbytes : N * 4 ≤ 536870912) (hcells : cells + 1 ≤ R.cells) (hslots : slots + N ≤ R.slots) (hd : decode cc pc = .ok (.anewarray index, 3))
    (kk : ∀ H1 : Heap, wm_A G H.size t N (fun _ => .null) H1 → H1.size = H.size + 1 → (∀ q : Nat, q < H.size → H1[q]? = H[q]?) → va_S A H0 H1 locs → W p l e R s m args below meth c H1 locs (cells + 1) (slots + N) Q (F0 m (pc + 3) ls (.ref H.size :: rest))) : W p l e R s m args below meth c H locs cells slots Q (F0 m pc ls (.int n :: rest)) := by
  subst hN
  refine W.anew hx hb hown hcl (va_AO.use hover) rfl hd rfl hn hbytes hcells hslots fun cA kA comp f1 f2 f3 f4 => ?_
  obtain ⟨_, _, _, _, _, g⟩ := (hK.2 t _ ht).2
  have e : cA = G.2 t := Option.some.inj (f1.symm.trans g)
  generalize hH1 : H.push ({ cls := cA, slots := Array.replicate n.toNatClampNeg .null, vm := .none } : Cell) = H1
  have z1 : H1.size = H.size + 1 := by rw [← hH1, Array.size_push]
  have e1 : H1[H.size]? = some (arrV cA n.toNatClampNeg (fun _ => .null)) := by rw [← hH1, Array.getElem?_push_size, ← arrV_new]
  have o1 : ∀ q : Nat, q < H.size → H1[q]? = H[q]? := fun q hq => by rw [← hH1, Array.getElem?_push, if_neg (Nat.ne_of_lt hq)]
  rw [e] at e1
  exact kk H1 e1 z1 o1 ⟨Nat.le_trans hS.1 (by omega), fun x h1 h2 => (o1 x (Nat.lt_of_lt_of_le h1 hS.1)).trans (hS.2.1 x h1 h2), hS.2.2⟩
/-- a field that isn't final, of a name that others may have too -/
theorem wm_putNs {a : Nat} (hx : p.tables.exec = Jvm.exec) (hb : c.code = cc) {own ref C : String} {T : u_T} {N ci index : Nat} (hts : ∀ w ∈ lw_all, w.before args s = true) (hin : ∀ w ∈ u_ws C T N, w ∈ lw_all) (ty0 : Nat → FieldType) (hty : ∀ k, k < N → parseFieldDescriptor (T k).2.2.1 = some (ty0 k)) (hown : s.vm.findClass own = some m.cls) (hK : wm_K G s) (hc : wm_cl[ci]? = some (C, T, N)) {V : Nat → Value} (hO : wm_O G a ci N V H) (hS0 : va_S A H0 H locs) (hA : A a) (k : Nat) (hk : k < N) (hlink : (Cond.fieldLink own index ref (T k).2.1 (T k).2.2.1) ∈ lw_all) (hsame : ∀ x, s.fieldFound? (T k).1 (T k).2.1 (T k).2.2.1 = some x → s.fieldFound? ref (T k).2.1 (T k).2.2.1 = some x) (hfin : (T k).2.2.2 = false) {v : Value} (hn : narrow (ty0 k) v = v) (hfit : fits (ty0 k) v = true)
    (hdg : decode cc pc = .ok (.putfield index, 3)) (kk : ∀ (V' : Nat → Value) (H1 : Heap) (locs1 : List Loc), V' k = v → (∀ j, j < N → (T j).2.1 ≠ (T k).2.1 → V' j = V j) → (∀ j, V' j = V j ∨ V' j = v) → wm_O G a ci N V' H1 → H1.size = H.size → (∀ q : Nat, q ≠ a → H1[q]? = H[q]?) → va_S A H0 H1 locs1 → W p l e R s m args below meth c H1 locs1 cells slots Q (F0 m (pc + 3) ls rest)) : W p l e R s m args below meth c H locs cells slots Q (F0 m pc ls (v :: .ref a :: rest)) := by
  obtain ⟨cell, q1, q2, q3, q4⟩ := hO
  obtain ⟨hS, hfc, kC, hkC, hkind⟩ := hK.1 ci _ hc
  obtain ⟨cf, kf, fi, f, hi, hsl⟩ := hS k hk
  have hlay := hts _ (hin _ (u_in_lay hk))
  unfold u_lay at hlay
  rw [if_neg (by rw [hfin]; decide)] at hlay
  have hst := (u_facts hfc hkC (u_lays hts hin hk) hi).1
  have h6 := u_store hfc hkC hkind hlay hi (hty k hk) hn hfit
  refine W.putK hx hb (f := f) ⟨hown, hts _ hlink, ⟨_, _, _, hsame _ hi⟩, hst⟩ (by rw [q2]; exact h6) q1 q3 (by rw [hsl]; exact k2_hasslot (q4 k hk)) rfl rfl hdg fun H' e1 e2 e3 => ?_
  rw [hsl] at e1 ⊢
  refine kk (fun j => if (G.1.2 ci) j = (G.1.2 ci) k then v else V j) H' _ (if_pos rfl) (fun j hj hne => if_neg ?_) (fun j => ?_) ⟨_, e1, q2, q3, fun j hj => ?_⟩ e2 e3 (hS0.put e2 e3 hA)
  · obtain ⟨_, _, _, fb, hib, eb⟩ := hS j hj
    rw [← eb, ← hsl]
    refine u_apart (u_lays hts hin hj) (u_lays hts hin hk) hib hi ?_
    rw [(State.fieldFound?_type hib (hty j hj)).1, (State.fieldFound?_type hi (hty k hk)).1]
    exact hne
  · show (if _ then v else V j) = V j ∨ (if _ then v else V j) = v
    split
    · exact Or.inr rfl
    · exact Or.inl rfl
  · show _ = some (if _ then v else V j)
    have hz : (G.1.2 ci) k < cell.slots.size := k2_hasslot (q4 k hk)
    have hc2 : (cell.setSlot ((G.1.2 ci) k) v).slots = cell.slots.setIfInBounds ((G.1.2 ci) k) v := rfl
    rw [hc2, Array.getElem?_setIfInBounds]
    by_cases z : (G.1.2 ci) j = (G.1.2 ci) k
    · rw [if_pos z, if_pos z.symm, if_pos hz]
    · rw [if_neg z, if_neg (fun q => z q.symm)]
      exact q4 j hj
end WN2
/-- a constructor's contract: from the heap H0, changing old cells in A alone -/
def wn_Met (l : Launch) (G : wm_G) (y : MethodName) (ws : List Cond) (d mc ms : Nat) (H0 : Heap) (as : List Value) (A : Nat → Prop) (Post : Heap → Prop) : Prop :=
  Met l y ws (wm_rc d mc ms) (va_Pc as (fun U => wm_K G U ∧ xn_T U ∧ U.heap = H0)) (wm_Q (fun v H => v = none ∧ Post H) A) mc ms A
theorem wn_start {l : Launch} {G : wm_G} {y : MethodName} {own : String} {cc : ByteArray} {maxL : Nat} {d mc ms : Nat} {H0 : Heap} {as : List Value} {A : Nat → Prop} {Post : Heap → Prop} (hy : plainName y.cls = true) (hlen : (lg_sl as).length ≤ maxL) (hOw : y.cls = own) (hyn : y.name = "<init>")
    (body : ∀ (p : Program) (e : Env) (s : State) (m : MethodId) (below : List Frame) (meth : Method) (c : Code), p.tables.exec = Jvm.exec → c.code = cc → c.maxLocals = maxL → meth.sig.returnType = none → meth.locks = false → (∀ w ∈ lw_all, w.before as.toArray s = true) → meth.name = "<init>" → s.vm.findClass own = some m.cls → wm_K G s → xn_T s → s.heap = H0 → va_S A s.heap H0 [] → ∀ ls : Array Slot, lv_has ls maxL (lv_args 0 as) →
      W p l e (wm_rc d mc ms) s m as.toArray below meth c H0 [] 0 0 (MQ below (wm_Q (fun v H => v = none ∧ Post H) A) as.toArray s mc ms A) (F0 m 0 ls [])) : wn_Met l G y (ws_ y cc maxL none) d mc ms H0 as A Post := by
  refine Met.ofW (cc := cc) (maxL := maxL) (ret := none) hy rfl ?_
  intro p e s m args below meth c s₁ B hml hv
  obtain ⟨rfl, hK, hN, hH⟩ := hv
  have hts := atoms_spec (ws := ws_ y cc maxL none) B.pre
  have hts : ∀ w ∈ lw_all, w.before _ s = true := fun w h => hts w (List.mem_cons_of_mem _ h)
  have hown : s.vm.findClass own = some m.cls := by rw [← hOw]; exact findClass_of_methodNamed B.named
  have hin : meth.name = "<init>" := (name_of_methodNamed B.named B.method).1.trans hyn
  have hl := lv_entry as hlen
  rw [lg_entry_eq]
  rw [hH]
  exact body p e s m below meth c B.exec B.bytes hml B.returns B.notSynchronized hts hin hown hK hN hH (by rw [← hH]; exact va_S.rf) _ hl
/-- of a JDK class -/
theorem wn_startF {l : Launch} {G : wm_G} {y : MethodName} {own : String} {cc : ByteArray} {maxL : Nat} {d mc ms : Nat} {H0 : Heap} {as : List Value} {A : Nat → Prop} {Post : Heap → Prop} (hy : plainFor y = true) (hlen : (lg_sl as).length ≤ maxL) (hOw : y.cls = own) (hyn : y.name = "<init>")
    (body : ∀ (p : Program) (e : Env) (s : State) (m : MethodId) (below : List Frame) (meth : Method) (c : Code), p.tables.exec = Jvm.exec → c.code = cc → c.maxLocals = maxL → meth.sig.returnType = none → meth.locks = false → (∀ w ∈ lw_all, w.before as.toArray s = true) → meth.name = "<init>" → s.vm.findClass own = some m.cls → wm_K G s → xn_T s → s.heap = H0 → va_S A s.heap H0 [] → ∀ ls : Array Slot, lv_has ls maxL (lv_args 0 as) →
      W p l e (wm_rc d mc ms) s m as.toArray below meth c H0 [] 0 0 (MQ below (wm_Q (fun v H => v = none ∧ Post H) A) as.toArray s mc ms A) (F0 m 0 ls [])) : wn_Met l G y (ws_ y cc maxL none) d mc ms H0 as A Post := by
  refine va_MetF (cc := cc) (maxL := maxL) (ret := none) hy rfl ?_
  intro p e s m args below meth c s₁ B hml hv
  obtain ⟨rfl, hK, hN, hH⟩ := hv
  have hts := atoms_spec (ws := ws_ y cc maxL none) B.pre
  have hts : ∀ w ∈ lw_all, w.before _ s = true := fun w h => hts w (List.mem_cons_of_mem _ h)
  have hown : s.vm.findClass own = some m.cls := by rw [← hOw]; exact findClass_of_methodNamed B.named
  have hin : meth.name = "<init>" := (name_of_methodNamed B.named B.method).1.trans hyn
  have hl := lv_entry as hlen
  rw [lg_entry_eq]
  rw [hH]
  exact body p e s m below meth c B.exec B.bytes hml B.returns B.notSynchronized hts hin hown hK hN hH (by rw [← hH]; exact va_S.rf) _ hl
section WN3
variable {p : Program} {l : Launch} {e : Env} {R : Room} {s : State} {m : MethodId} {args : Array Value} {below : List Frame} {meth : Method} {c : Code} {H : Heap} {locs : List Loc} {cells slots : Nat} {Q : State → Prop}
variable {cc : ByteArray} {pc : Nat} {ls : Array Slot} {rest : List Value} {G : wm_G} {A A1 : Nat → Prop} {H0 : Heap}
variable {nL n maxL d mc ms index : Nat} {y : MethodName} {bytes : ByteArray} {own : String} {rc : Nat} {As st0 : List Value} {Post : Heap → Prop}
theorem wn_pre (hK : wm_K G s) (hN : xn_T s) (av : List Value) : PreS s H (va_Pc av (fun U => wm_K G U ∧ xn_T U ∧ U.heap = H)) av :=
  ⟨fun _ _ g mk q => ⟨q.1, q.2.1.calling g mk _, q.2.2.1, q.2.2.2⟩, fun _ hU hW2 => ⟨rfl, hK.moved hW2.alike, hN.moved hW2, hU⟩⟩
/-- invokespecial of a constructor -/
theorem wn_callI (F : CallFix p m c cc nL s args lw_all own) (hK : wm_K G s) (hN : xn_T s) (hM : wn_Met l G y (ws_ y bytes maxL none) d mc ms H (.ref rc :: As) A1 Post) (hcode : Cond.code y bytes maxL none ∈ lw_all) (hini : Cond.initialized y.cls ∈ lw_all) (hlink : Cond.methodLink own index y ∈ lw_all) (hinst : Cond.instanceMethod y ∈ lw_all) (hyn : y.name = "<init>") (hy : xw_y y n) (hn : As.length = n) (hR : d + 1 ≤ R.frames ∧ 8 + (maxL + 11) + 60 * d ≤ R.locals) (hsz : ls.size = nL) (hst : st0 = As.reverse ++ .ref rc :: rest) (hrest : (rest.map fun v => v.category).sum ≤ 8) (hd : decode cc pc = .ok (.invokespecial index, 3)) (hroom : cells + mc ≤ R.cells ∧ slots + ms ≤ R.slots) (hS : va_S A H0 H locs) (hA : ∀ q, A1 q → A q)
    (kk : ∀ (H1 : Heap) (locs1 : List Loc), Post H1 → H.size ≤ H1.size → va_S A H0 H1 locs1 → W p l e R s m args below meth c H1 locs1 (cells + mc) (slots + ms) Q (F0 m (pc + 3) ls rest)) : W p l e R s m args below meth c H locs cells slots Q (F0 m pc ls st0) := by
  have hr := va_runI (l := l) (H := H) (locs := locs) (cells := cells) (slots := slots) (g := F0 m pc ls st0) (p := p) (e := e) (below := below) (meth := meth) (rest := rest) (b := rc) F hM (cwI n F.2.2.2.2 (lw_meth hcode) rfl rfl rfl (F.2.2.2.2 _ hini) (F.2.2.2.2 _ hlink) (F.2.2.2.2 _ hinst) hyn hy hR) (wn_pre hK hN (.ref rc :: As)) rfl hn hsz hst (lv_room hrest) hd hroom
  refine wm_call hr hS hA hA fun v H1 locs1 hp hz _ hS1 => ?_
  obtain ⟨rfl, hp⟩ := hp
  exact kk H1 locs1 hp hz hS1
/-- of a private constructor, a nest mate's -/
theorem wn_callN {host : String} (F : CallFix p m c cc nL s args lw_all own) (hK : wm_K G s) (hN : xn_T s) (hM : wn_Met l G y (ws_ y bytes maxL none) d mc ms H (.ref rc :: As) A1 Post) (hcode : Cond.code y bytes maxL none ∈ lw_all) (hini : Cond.initialized y.cls ∈ lw_all) (hlink : va_Nw (.methodLinkNest own index y host) s) (hinst : Cond.instanceMethod y ∈ lw_all) (hyn : y.name = "<init>") (hy : xw_y y n) (hn : As.length = n) (hR : d + 1 ≤ R.frames ∧ 8 + (maxL + 11) + 60 * d ≤ R.locals) (hsz : ls.size = nL) (hst : st0 = As.reverse ++ .ref rc :: rest) (hrest : (rest.map fun v => v.category).sum ≤ 8) (hd : decode cc pc = .ok (.invokespecial index, 3)) (hroom : cells + mc ≤ R.cells ∧ slots + ms ≤ R.slots) (hS : va_S A H0 H locs) (hA : ∀ q, A1 q → A q)
    (kk : ∀ (H1 : Heap) (locs1 : List Loc), Post H1 → H.size ≤ H1.size → va_S A H0 H1 locs1 → W p l e R s m args below meth c H1 locs1 (cells + mc) (slots + ms) Q (F0 m (pc + 3) ls rest)) : W p l e R s m args below meth c H locs cells slots Q (F0 m pc ls st0) := by
  have hr := va_runIN (l := l) (H := H) (locs := locs) (cells := cells) (slots := slots) (g := F0 m pc ls st0) (p := p) (e := e) (below := below) (meth := meth) (rest := rest) (b := rc) F hM ⟨va_cnB n F.2.2.2.2 (lw_meth hcode) rfl rfl rfl hlink (F.2.2.2.2 _ hini) hy hR, hyn, F.2.2.2.2 _ hinst⟩ (wn_pre hK hN (.ref rc :: As)) rfl hn hsz hst (lv_room hrest) hd hroom
  refine wm_call hr hS hA hA fun v H1 locs1 hp hz _ hS1 => ?_
  obtain ⟨rfl, hp⟩ := hp
  exact kk H1 locs1 hp hz hS1
theorem wn_ret (hx : p.tables.exec = Jvm.exec) (hb : c.code = cc) (hr : meth.sig.returnType = none) (hlocks : meth.locks = false) (hS : va_S A s.heap H locs) (hp : Post H) (hc : cells ≤ mc) (hs : slots ≤ ms) (hd : decode cc pc = .ok (.return_, 1)) : W p l e R s m args below meth c H locs cells slots (MQ below (wm_Q (fun v H => v = none ∧ Post H) A) args s mc ms A) (F0 m pc ls []) :=
  W.widen hc hs (wm_vret hx hb hr hlocks hS (fun _ h => h) ⟨rfl, hp⟩ hd)
end WN3
/-! the world, with more in the directory -/
section GW
variable {G : wm_G} {o d0 : Nat} {X : mm_S} {E : mm_E} {D D' : xg} {H H1 : Heap}
theorem xx_W.grow2 (w : xx_W G o d0 X E D H) (hle : xg_le X D D') (hs : H.size ≤ H1.size) (hq : ∀ q : Nat, xg_d D q ≠ (0, 0) → H1[q]? = H[q]?) (hn : ∀ q : Nat, H1.size ≤ q → xg_d D' q = (0, 0)) (hi : ∀ q : Nat, xg_d D' q ≠ (0, 0) → xx_F o d0 q) : xx_W G o d0 X E D' H1 := by
  have hf : ∀ j : Nat, j ≤ 88 → H1[o + j]? = H[o + j]? := fun j hj => hq _ (by rw [w.dfx j hj]; exact nofun)
  exact ⟨xk_main w (hf 0 (by omega)) (fun _ _ _ _ => rfl) hle, xk_arr w (fun k2 j2 t2 n2 h2 => hf j2 (by have := (xx_arrj h2).1; omega)) (fun _ _ => rfl),
    xk_bod w (hf 3 (by omega)) rfl hle, xk_wrk w (hf 6 (by omega)) rfl hle, xk_shv w (hf 40 (by omega)) rfl hle, xk_trn w (hf 8 (by omega)), xk_flt w (hf 17 (by omega)), xk_rdr w (hf 16 (by omega)) rfl rfl, xk_txa w (hf 18 (by omega)),
    xk_txt w (fun i2 hi2 => hf _ (by omega)) (fun _ _ _ => rfl), xk_tst w (fun i2 hi2 => ⟨hf _ (by omega), hf _ (by omega)⟩) (fun q z => hq q (by rw [z]; exact nofun)) rfl hle,
    xk_bdy w (fun b2 hb => hq _ (by rw [show xg_d D (xg_b D b2) = (2, 5 * b2 + 0) from w.dby b2 0 hb (Or.inl rfl)]; exact nofun)) (fun _ _ _ => rfl) rfl hle, xk_knd w rfl rfl,
    xk_har w (fun b2 j2 hb q1 q2 hj => hq _ (by rw [w.dby b2 (1 + j2) hb (Or.inr ⟨q1, q2, by omega⟩)]; exact nofun)) (fun _ _ _ => rfl) rfl hle,
    xk_row w (fun s2 h1 h2 => hq _ (by rw [(w.row s2 h1 h2).2]; exact nofun)) rfl rfl rfl rfl hle, xk_dfx w hle, xk_dby w rfl rfl hle, hn, hi, ⟨w.lim.1, Nat.le_trans w.lim.2 hs⟩, w.rng, w.cap, w.siz⟩
theorem xx_W.dlt (w : xx_W G o d0 X E D H) {q : Nat} (h : xg_d D q ≠ (0, 0)) : q < H.size := by
  rcases Nat.lt_or_ge q H.size with z | z
  · exact z
  · exact absurd (w.dnw q z) h
/-- something new comes, the directory stays -/
theorem xx_W.made (w : xx_W G o d0 X E D H) (hs : H.size ≤ H1.size) (hq : ∀ q : Nat, q < H.size → H1[q]? = H[q]?) : xx_W G o d0 X E D H1 :=
  w.grow2 (xg_le.rf X D) hs (fun q h => hq q (w.dlt h)) (fun q h => w.dnw q (Nat.le_trans hs h)) w.din
/-- a cell that the directory doesn't know changes -/
theorem xx_W.other (w : xx_W G o d0 X E D H) {a : Nat} (ha : xg_d D a = (0, 0)) (hs : H1.size = H.size) (hq : ∀ q : Nat, q ≠ a → H1[q]? = H[q]?) : xx_W G o d0 X E D H1 :=
  w.grow2 (xg_le.rf X D) (Nat.le_of_eq hs.symm) (fun q h => hq q (fun z => h (by rw [z]; exact ha))) (fun q h => w.dnw q (by rw [← hs]; exact h)) w.din
/-- a term's node is entered -/
def xg_mk (D : xg) (b : Nat) : xg := (D.1, D.2.1, fun q => if q = b then (4, 0) else xg_d D q, D.2.2.2)
theorem xg_mk_d (D : xg) (b q : Nat) : xg_d (xg_mk D b) q = if q = b then (4, 0) else xg_d D q := rfl
theorem xg_mk_le {b : Nat} (h : xg_d D b = (0, 0)) : xg_le X D (xg_mk D b) := ⟨fun _ _ => rfl, fun _ _ _ => rfl, fun q hq => by
  rw [xg_mk_d, if_neg (fun z => hq (by rw [z]; exact h))], fun _ _ _ => rfl⟩
theorem xx_W.node (w : xx_W G o d0 X E D H) {b : Nat} (hb : xg_d D b = (0, 0)) (hb0 : d0 ≤ b) (hb1 : b < H.size) (hs : H1.size = H.size) (hq : ∀ q : Nat, q ≠ b → H1[q]? = H[q]?) : xx_W G o d0 X E (xg_mk D b) H1 := by
  refine w.grow2 (xg_mk_le hb) (Nat.le_of_eq hs.symm) (fun q h => hq q (fun z => h (by rw [z]; exact hb))) (fun q h => ?_) (fun q h => ?_)
  · rw [xg_mk_d, if_neg (by omega)]
    exact w.dnw q (by omega)
  · rw [xg_mk_d] at h
    by_cases z : q = b
    · rw [z]; exact Or.inr hb0
    · rw [if_neg z] at h; exact w.din q h
theorem xt_mk {b : Nat} (hb : xg_d D b = (0, 0)) (hq : ∀ q : Nat, q ≠ b → H1[q]? = H[q]?) {h : Nat} {t : xt} {a : Nat} (ht : xt_at G o D H h t a) : xt_at G o (xg_mk D b) H1 h t a :=
  xt_kept (fun q z => hq q (fun y => by rw [y, hb] at z; cases z)) (fun q z => by rw [xg_mk_d]; split <;> first | rfl | exact z) h t a ht
theorem xt_mono {h : Nat} : ∀ {c : xt} {a : Nat}, xt_at G o D H h c a → xt_at G o D H (h + 1) c a := by
  induction h with
  | zero => intro c a q; exact q.elim
  | succ h ih =>
    intro c a q
    obtain ⟨q0, q⟩ := q
    refine ⟨q0, ?_⟩
    rcases q with ⟨v, e, k⟩ | ⟨n, e, n0, n1, k⟩ | ⟨b, c1, a1, e, k, r⟩ | ⟨g, c1, c2, a1, a2, s, e, k, r1, r2⟩
    · exact Or.inl ⟨v, e, k⟩
    · exact Or.inr (Or.inl ⟨n, e, n0, n1, k⟩)
    · exact Or.inr (Or.inr (Or.inl ⟨b, c1, a1, e, k, ih r⟩))
    · exact Or.inr (Or.inr (Or.inr ⟨g, c1, c2, a1, a2, s, e, k, ih r1, ih r2⟩))
theorem xt_le {h h2 : Nat} (hh : h ≤ h2) {c : xt} {a : Nat} (q : xt_at G o D H h c a) : xt_at G o D H h2 c a := by
  induction hh with
  | refl => exact q
  | step _ ih => exact xt_mono ih
theorem xt_mkF {b : Nat} {v : Int32} {V : Nat → Value} (hO : wm_O G b 14 3 V H1) (h0 : V 0 = .ref o) (h1 : V 1 = .int v) (h2 : V 2 = .ref o) (h : Nat) : xt_at G o (xg_mk D b) H1 (h + 1) [(1, v)] b := by
  refine ⟨by rw [xg_mk_d, if_pos rfl], Or.inl ⟨v, rfl, hO.to fun k hk => ?_⟩⟩
  rcases (show k = 0 ∨ k = 1 ∨ k = 2 by omega) with rfl | rfl | rfl
  · exact h0
  · exact h1
  · exact h2
theorem xt_mkN {b : Nat} {v : Int32} (v0 : 0 ≤ v.toInt) (v1 : v.toInt < 8) {V : Nat → Value} (hO : wm_O G b 13 3 V H1) (h0 : V 0 = .ref o) (h1 : V 1 = .int v) (h2 : V 2 = .ref o) (h : Nat) : xt_at G o (xg_mk D b) H1 (h + 1) [(2, v)] b := by
  refine ⟨by rw [xg_mk_d, if_pos rfl], Or.inr (Or.inl ⟨v, rfl, v0, v1, hO.to fun k hk => ?_⟩)⟩
  rcases (show k = 0 ∨ k = 1 ∨ k = 2 by omega) with rfl | rfl | rfl
  · exact h0
  · exact h1
  · exact h2
theorem xt_mkT {b a1 h : Nat} {v : Int32} (hv : v = 0 ∨ v = 1) {t : xt} (hb : xg_d D b = (0, 0)) (hq : ∀ q : Nat, q ≠ b → H1[q]? = H[q]?) {V : Nat → Value} (hO : wm_O G b 12 4 V H1) (h0 : V 0 = .ref o) (h1 : V 1 = .int v) (h2 : V 2 = .ref a1) (h3 : V 3 = .ref o) (ht : xt_at G o D H h t a1) : xt_at G o (xg_mk D b) H1 (h + 1) (t ++ [(if v = 0 then 3 else 4, 0)]) b := by
  refine ⟨by rw [xg_mk_d, if_pos rfl], Or.inr (Or.inr (Or.inl ⟨v, t, a1, ?_, hO.to fun k hk => ?_, xt_mk hb hq ht⟩))⟩
  · rcases hv with rfl | rfl
    · exact Or.inl ⟨rfl, rfl⟩
    · exact Or.inr ⟨rfl, rfl⟩
  · rcases (show k = 0 ∨ k = 1 ∨ k = 2 ∨ k = 3 by omega) with rfl | rfl | rfl | rfl
    · exact h0
    · exact h1
    · exact h2
    · exact h3
theorem xt_mkB {b a1 a2 h : Nat} {g : Int32} (hg : g ∈ xt_sg) {t1 t2 : xt} (hb : xg_d D b = (0, 0)) (hq : ∀ q : Nat, q ≠ b → H1[q]? = H[q]?) {V : Nat → Value} (hO : wm_O G b 15 5 V H1) (h0 : V 0 = .ref o) (h1 : V 1 = .int g) (h2 : V 2 = .ref a1) (h3 : V 3 = .ref a2) (h4 : V 4 = .ref o) (ht1 : xt_at G o D H h t1 a1) (ht2 : xt_at G o D H h t2 a2) : xt_at G o (xg_mk D b) H1 (h + 1) (t1 ++ t2 ++ [(g, 0)]) b := by
  refine ⟨by rw [xg_mk_d, if_pos rfl], Or.inr (Or.inr (Or.inr ⟨g, t1, t2, a1, a2, hg, rfl, hO.to fun k hk => ?_, xt_mk hb hq ht1, xt_mk hb hq ht2⟩))⟩
  rcases (show k = 0 ∨ k = 1 ∨ k = 2 ∨ k = 3 ∨ k = 4 by omega) with rfl | rfl | rfl | rfl | rfl
  · exact h0
  · exact h1
  · exact h2
  · exact h3
  · exact h4
end GW
