/-! READING: what is known all through, next, take, deeper, calls of levels -/
set_option maxRecDepth 100000
/-- what stands outside: two statics, the names' text -/
def xg_A (z : Nat) (U : State) (H : Heap) : Prop := (vx_Zq Bundle.tN "UNASSIGNED_STACK" Bundle.steD (fun q => z ≤ q) U H ∧ vx_Zq Bundle.tN "SUPPRESSED_SENTINEL" Bundle.listD (fun q => z ≤ q) U H) ∧ ∃ aK aV : Nat, xs_P z aK aV U H ∧ vk_R RX2 92 "hdskinft" aK U
theorem xg_A.moved {z : Nat} {u U : State} {H : Heap} (hW : u.WarmedH U.vm) (h : xg_A z u H) : xg_A z U H := by
  obtain ⟨⟨h1, h2⟩, aK, aV, h3, h4⟩ := h
  exact ⟨⟨vx_Zq.moved hW.alike h1, vx_Zq.moved hW.alike h2⟩, aK, aV, h3.moved hW.alike, h4.warm hW⟩
theorem xg_A.calling {z : Nat} {U : State} {H : Heap} (g : JFrame) (mk : MethodId) (a : Array Value) (h : xg_A z U H) : xg_A z (U.calling g mk a) H := by
  obtain ⟨⟨h1, h2⟩, aK, aV, h3, h4⟩ := h
  exact ⟨⟨vx_Zq.moved (U := U.calling g mk a) (Vm.Alike.refl U.vm) h1, vx_Zq.moved (U := U.calling g mk a) (Vm.Alike.refl U.vm) h2⟩, aK, aV, h3.moved (U := U.calling g mk a) (Vm.Alike.refl U.vm), h4.same (U := U.calling g mk a) rfl⟩
theorem xg_A.kept {z : Nat} {U : State} {H H1 : Heap} (h : xg_A z U H) (hq : ∀ a : Nat, a < H.size → ¬ z ≤ a → H1[a]? = H[a]?) : xg_A z U H1 := by
  obtain ⟨⟨h1, h2⟩, aK, aV, h3, h4⟩ := h
  exact ⟨⟨h1.kept hq, h2.kept hq⟩, aK, aV, h3.kept hq, h4⟩
theorem xg_A.frame {z o d0 : Nat} {s : State} {H : Heap} {locs : List Loc} (hz : z ≤ o) (hd : o ≤ d0) (h : xg_A z s s.heap) (hS : va_S (xx_F o d0) s.heap H locs) : xg_A z s H :=
  h.kept fun a ha hn => hS.2.1 a ha (fun q => by rcases q with q | q <;> omega)
/-- a contract that knows it -/
def xy_Met (l : Launch) (G : wm_G) (o d0 : Nat) (y : MethodName) (ws : List Cond) (d mc ms : Nat) (H0 : Heap) (as : List Value) (z : Nat) (P : xz_P) (nm : String) (PX : xz_T) : Prop :=
  vx_Met l y ws (wm_rc d mc ms) (va_Pc as (fun U => wm_K G U ∧ xn_T U ∧ U.heap = H0 ∧ xg_A z U H0)) (wm_Q (xz_R G o d0 P) (xx_F o d0)) (xz_X G o d0 nm PX) mc ms (xx_F o d0)
theorem xy_start {l : Launch} {G : wm_G} {o d0 : Nat} {y : MethodName} {own : String} {cc : ByteArray} {maxL : Nat} {ret : Option FieldType} {d mc ms : Nat} {H0 : Heap} {as : List Value} {z : Nat} {P : xz_P} {nm : String} {PX : xz_T} (hy : plainName y.cls = true) (hlen : (lg_sl as).length ≤ maxL) (hOw : y.cls = own)
    (body : ∀ (p : Program) (e : Env) (s : State) (m : MethodId) (below : List Frame) (meth : Method) (c : Code), p.tables.exec = Jvm.exec → c.code = cc → c.maxLocals = maxL → meth.sig.returnType = ret → meth.locks = false → (∀ x ∈ c.exceptionTable.toList, False) → (∀ w ∈ lw_all, w.before as.toArray s = true) → s.vm.findClass own = some m.cls → wm_K G s → xn_T s → s.heap = H0 → xg_A z s s.heap → va_S (xx_F o d0) s.heap H0 [] → ∀ ls : Array Slot, lv_has ls maxL (lv_args 0 as) →
      W p l e (wm_rc d mc ms) s m as.toArray below meth c H0 [] 0 0 (xz_Q G o d0 P nm PX below as.toArray s mc ms) (F0 m 0 ls [])) : xy_Met l G o d0 y (ws_ y cc maxL ret) d mc ms H0 as z P nm PX := by
  refine vx_ofW (cc := cc) (maxL := maxL) (ret := ret) hy rfl ?_
  intro p e s m args below meth c s₁ B hml htb hv
  obtain ⟨rfl, hK, hN, hH, hA⟩ := hv
  have hts := atoms_spec (ws := ws_ y cc maxL ret) B.pre
  have hts : ∀ w ∈ lw_all, w.before _ s = true := fun w h => hts w (List.mem_cons_of_mem _ h)
  have hown : s.vm.findClass own = some m.cls := by rw [← hOw]; exact findClass_of_methodNamed B.named
  have hl := lv_entry as hlen
  rw [lg_entry_eq]
  rw [hH]
  exact body p e s m below meth c B.exec B.bytes hml B.returns B.notSynchronized htb hts hown hK hN hH (by rw [hH]; exact hA) (by rw [← hH]; exact va_S.rf) _ hl
/-- with handlers -/
theorem xy_startH {l : Launch} {G : wm_G} {o d0 : Nat} {y : MethodName} {own : String} {cc : ByteArray} {maxL : Nat} {ret : Option FieldType} {hh : List (Nat × Nat × Nat × Nat)} {d mc ms : Nat} {H0 : Heap} {as : List Value} {z : Nat} {P : xz_P} {nm : String} {PX : xz_T} (hy : plainName y.cls = true) (hlen : (lg_sl as).length ≤ maxL) (hOw : y.cls = own)
    (body : ∀ (p : Program) (e : Env) (s : State) (m : MethodId) (below : List Frame) (meth : Method) (c : Code), p.tables.exec = Jvm.exec → c.code = cc → c.maxLocals = maxL → meth.sig.returnType = ret → meth.locks = false → c.exceptionTable.toList = tableOf hh → (∀ w ∈ lw_all, w.before as.toArray s = true) → s.vm.findClass own = some m.cls → wm_K G s → xn_T s → s.heap = H0 → xg_A z s s.heap → va_S (xx_F o d0) s.heap H0 [] → ∀ ls : Array Slot, lv_has ls maxL (lv_args 0 as) →
      W p l e (wm_rc d mc ms) s m as.toArray below meth c H0 [] 0 0 (xz_Q G o d0 P nm PX below as.toArray s mc ms) (F0 m 0 ls [])) : xy_Met l G o d0 y (wsW_ y cc maxL ret hh) d mc ms H0 as z P nm PX := by
  refine vx_ofWH (cc := cc) (maxL := maxL) (ret := ret) (hh := hh) hy rfl ?_
  intro p e s m args below meth c s₁ B hml hv
  obtain ⟨rfl, hK, hN, hH, hA⟩ := hv
  have hts := atoms_spec (ws := wsW_ y cc maxL ret hh) B.pre
  have htab := vx_table (x := y) (hh := hh) B (hts _ List.mem_cons_self)
  have hts : ∀ w ∈ lw_all, w.before _ s = true := fun w h => hts w (List.mem_cons_of_mem _ h)
  have hown : s.vm.findClass own = some m.cls := by rw [← hOw]; exact findClass_of_methodNamed B.named
  have hl := lv_entry as hlen
  rw [lg_entry_eq]
  rw [hH]
  exact body p e s m below meth c B.exec B.bytes hml B.returns B.notSynchronized htab hts hown hK hN hH (by rw [hH]; exact hA) (by rw [← hH]; exact va_S.rf) _ hl
theorem xq_nx_st {X : mm_S} {p q : Int32} : xq_nx (xq_st X p q) = xq_nx X := by
  funext k
  unfold xq_nx
  rw [fd_xq (by decide) (by decide), rd_xq (by decide) (by decide)]
theorem xv_L_st {X : mm_S} {p q : Int32} (h : xv_L X) : xv_L (xq_st X p q) := by
  unfold xv_L
  rw [fd_xq (by decide) (by decide)]
  exact h
theorem xq_nx_lt {X : mm_S} {p : Int32} (h : ¬ xq_nx X p = -1) : p.toInt < (fd_ X 22).toInt ∧ xq_nx X p = rd_ X 21 p := by
  unfold xq_nx at h ⊢
  split at h
  · exact absurd rfl h
  · rename_i c
    rw [if_neg c]
    exact ⟨ww_nle c, rfl⟩
/-- all but the reader's cell stays -/
def xq_K (o : Nat) (H0 H : Heap) : Prop := H0.size ≤ H.size ∧ ∀ a : Nat, a < H0.size → a ≠ o + 16 → H[a]? = H0[a]?
def xq_D (H0 : Heap) (D D' : xg) : Prop := D'.1 = D.1 ∧ D'.2.1 = D.2.1 ∧ D'.2.2.2 = D.2.2.2 ∧ ∀ q : Nat, q < H0.size → xg_d D' q = xg_d D q
theorem xq_K.rf (o : Nat) (H : Heap) : xq_K o H H := ⟨Nat.le_refl _, fun _ _ _ => rfl⟩
theorem xq_D.rf (H : Heap) (D : xg) : xq_D H D D := ⟨rfl, rfl, rfl, fun _ _ => rfl⟩
theorem xq_K.tr {o : Nat} {H H1 H2 : Heap} (h : xq_K o H H1) (g : xq_K o H1 H2) : xq_K o H H2 := ⟨Nat.le_trans h.1 g.1, fun a h1 h2 => (g.2 a (Nat.lt_of_lt_of_le h1 h.1) h2).trans (h.2 a h1 h2)⟩
theorem xq_D.tr {H H1 : Heap} {D D1 D2 : xg} (h : xq_D H D D1) (hs : H.size ≤ H1.size) (g : xq_D H1 D1 D2) : xq_D H D D2 := ⟨g.1.trans h.1, g.2.1.trans h.2.1, g.2.2.1.trans h.2.2.1, fun q hq => (g.2.2.2 q (Nat.lt_of_lt_of_le hq hs)).trans (h.2.2.2 q hq)⟩
theorem xq_K.same {o : Nat} {H H1 : Heap} (hs : H1.size = H.size) (hq : ∀ q : Nat, q ≠ o + 16 → H1[q]? = H[q]?) : xq_K o H H1 := ⟨Nat.le_of_eq hs.symm, fun a _ h => hq a h⟩
theorem xq_K.made {o : Nat} {H H1 : Heap} (hs : H1.size = H.size + 1) (hq : ∀ q : Nat, q < H.size → H1[q]? = H[q]?) : xq_K o H H1 := ⟨by omega, fun a h _ => hq a h⟩
theorem xq_K.node {o b : Nat} {H H1 H2 : Heap} (h : xq_K o H H1) (hb : H.size ≤ b) (hs : H2.size = H1.size) (hq : ∀ q : Nat, q ≠ b → H2[q]? = H1[q]?) : xq_K o H H2 := ⟨by rw [hs]; exact h.1, fun a h1 h2 => (hq a (by omega)).trans (h.2 a h1 h2)⟩
theorem xq_D.node {b : Nat} {H : Heap} {D D1 : xg} (h : xq_D H D D1) (hb : H.size ≤ b) : xq_D H D (xg_mk D1 b) := ⟨h.1, h.2.1, h.2.2.1, fun q hq => by rw [xg_mk_d, if_neg (by omega)]; exact h.2.2.2 q hq⟩
def xq_m (p p' : Int32) : Nat := (p'.toInt - p.toInt).toNat
/-- behind a level: a term, a fault -/
def xq_P (G : wm_G) (o : Nat) (X : mm_S) (E : mm_E) (D : xg) (H0 : Heap) (p : Int32) (r : xq_r) : xz_P := fun v X' E' D' H => E' = E ∧ X' = xq_st X r.2.1 r.2.2 ∧ xq_K o H0 H ∧ xq_D H0 D D' ∧ ∃ (t : xt) (a : Nat), r.1 = some t ∧ v = some (.ref a) ∧ xt_at G o D' H (xq_m p r.2.1) t a
def xq_X (o : Nat) (X : mm_S) (E : mm_E) (D : xg) (H0 : Heap) (r : xq_r) : xz_T := fun X' E' D' H => E' = E ∧ X' = xq_st X r.2.1 r.2.2 ∧ xq_K o H0 H ∧ xq_D H0 D D' ∧ r.1 = none
def xq_Con (l : Launch) (G : wm_G) (o d0 z : Nat) (X : mm_S) (E : mm_E) (y : MethodName) (ws : List Cond) (d : Nat) (f : xq_f) (B : Int32 → Prop) : Prop :=
  ∀ (D : xg) (H0 : Heap) (p q : Int32), xx_W G o d0 (xq_st X p q) E D H0 → 0 ≤ p.toInt → p.toInt ≤ (fd_ X 22).toInt → B q → xy_Met l G o d0 y ws d (xq_m p (f p q).2.1) (5 * xq_m p (f p q).2.1) H0 [.ref (o + 16)] z (xq_P G o X E D H0 p (f p q)) RX3 (xq_X o X E D H0 (f p q))
/-- one that moves the reader alone -/
def xk_Met (l : Launch) (G : wm_G) (o d0 : Nat) (y : MethodName) (ws : List Cond) (d : Nat) (X' : mm_S) (E : mm_E) (D : xg) (H0 : Heap) (as : List Value) (r : Option Value) : Prop :=
  Met l y ws (wm_rm d) (va_Pc as (fun U => wm_K G U ∧ xn_T U ∧ U.heap = H0)) (wm_Q (fun v H => v = r ∧ xx_W G o d0 X' E D H ∧ H.size = H0.size ∧ ∀ q : Nat, q ≠ o + 16 → H[q]? = H0[q]?) (xx_F o d0)) 0 0 (xx_F o d0)
theorem xk_start {l : Launch} {G : wm_G} {o d0 : Nat} {y : MethodName} {own : String} {cc : ByteArray} {maxL : Nat} {ret : Option FieldType} {d : Nat} {X' : mm_S} {E : mm_E} {D : xg} {H0 : Heap} {as : List Value} {r : Option Value} (hy : plainName y.cls = true) (hlen : (lg_sl as).length ≤ maxL) (hOw : y.cls = own)
    (body : ∀ (p : Program) (e : Env) (s : State) (m : MethodId) (below : List Frame) (meth : Method) (c : Code), p.tables.exec = Jvm.exec → c.code = cc → c.maxLocals = maxL → meth.sig.returnType = ret → meth.locks = false → (∀ w ∈ lw_all, w.before as.toArray s = true) → s.vm.findClass own = some m.cls → wm_K G s → xn_T s → s.heap = H0 → va_S (xx_F o d0) s.heap H0 [] → ∀ ls : Array Slot, lv_has ls maxL (lv_args 0 as) →
      W p l e (wm_rm d) s m as.toArray below meth c H0 [] 0 0 (MQ below (wm_Q (fun v H => v = r ∧ xx_W G o d0 X' E D H ∧ H.size = H0.size ∧ ∀ q : Nat, q ≠ o + 16 → H[q]? = H0[q]?) (xx_F o d0)) as.toArray s 0 0 (xx_F o d0)) (F0 m 0 ls [])) : xk_Met l G o d0 y (ws_ y cc maxL ret) d X' E D H0 as r := by
  refine Met.ofW (cc := cc) (maxL := maxL) (ret := ret) hy rfl ?_
  intro p e s m args below meth c s₁ B hml hv
  obtain ⟨rfl, hK, hN, hH⟩ := hv
  have hts := atoms_spec (ws := ws_ y cc maxL ret) B.pre
  have hts : ∀ w ∈ lw_all, w.before _ s = true := fun w h => hts w (List.mem_cons_of_mem _ h)
  have hown : s.vm.findClass own = some m.cls := by rw [← hOw]; exact findClass_of_methodNamed B.named
  have hl := lv_entry as hlen
  rw [lg_entry_eq]
  rw [hH]
  exact body p e s m below meth c B.exec B.bytes hml B.returns B.notSynchronized hts hown hK hN hH (by rw [← hH]; exact va_S.rf) _ hl
section XRE
variable {p : Program} {l : Launch} {e : Env} {R : Room} {s : State} {m : MethodId} {args : Array Value} {below : List Frame} {meth : Method} {c : Code} {H : Heap} {locs : List Loc} {cells slots : Nat} {Q : State → Prop}
variable {cc : ByteArray} {pc : Nat} {ls : Array Slot} {rest : List Value} {G : wm_G} {o d0 z : Nat} {H0 : Heap} {X : mm_S} {E : mm_E} {D D0 : xg} {P : xz_P} {nm : String} {PX : xz_T}
variable {nL n maxL d mc ms index : Nat} {y : MethodName} {bytes : ByteArray} {ret : Option FieldType} {own C : String} {rc : Nat} {As st0 : List Value}
theorem xy_preV (hK : wm_K G s) (hN : xn_T s) (hA : xg_A z s H) (hr : xr_ s H C rc) (av : List Value) : PreV s H C rc (va_Pc (.ref rc :: av) (fun U => wm_K G U ∧ xn_T U ∧ U.heap = H ∧ xg_A z U H)) av :=
  ⟨fun _ _ g mk q => ⟨q.1, q.2.1.calling g mk _, q.2.2.1, q.2.2.2.1, q.2.2.2.2.calling g mk _⟩, hr, fun _ hU hW2 => ⟨rfl, hK.moved hW2.alike, hN.moved hW2, hU, hA.moved hW2⟩⟩
theorem xy_rV (F : CallFix p m c cc nL s args lw_all own) (hK : wm_K G s) (hN : xn_T s) (hA : xg_A z s H) (hM : xy_Met l G o d0 y (ws_ y bytes maxL ret) d mc ms H (.ref rc :: As) z P nm PX) (hg : GoodIn lw_all (wsV own index C y (ws_ y bytes maxL ret))) (hr : xr_ s H C rc) (hy : y.cls = C ∧ xw_y y n) (hn : As.length = n) (hR : d + 1 ≤ R.frames ∧ 8 + (maxL + 11) + 60 * d ≤ R.locals) (hsz : ls.size = nL) (hst : st0 = As.reverse ++ .ref rc :: rest) (hrest : (rest.map fun v => v.category).sum ≤ 8) (hd : decode cc pc = .ok (.invokevirtual index, 3)) (hroom : cells + mc ≤ R.cells ∧ slots + ms ≤ R.slots) : xz_Run p l e R s m args below meth c H locs cells slots mc ms (F0 m pc ls st0) rest G o d0 P nm PX :=
  ⟨_, vx_runV F hM (cwV n F.2.2.2.2 hg rfl rfl rfl hy hR) (xy_preV hK hN hA hr As) rfl hn hsz hst (lv_room hrest) hd hroom⟩
theorem xy_rVH {hh : List (Nat × Nat × Nat × Nat)} (F : CallFix p m c cc nL s args lw_all own) (hK : wm_K G s) (hN : xn_T s) (hA : xg_A z s H) (hM : xy_Met l G o d0 y (wsW_ y bytes maxL ret hh) d mc ms H (.ref rc :: As) z P nm PX) (hg : GoodIn lw_all (wsV own index C y (wsW_ y bytes maxL ret hh))) (hr : xr_ s H C rc) (hy : y.cls = C ∧ xw_y y n) (hn : As.length = n) (hR : d + 1 ≤ R.frames ∧ 8 + (maxL + 11) + 60 * d ≤ R.locals) (hsz : ls.size = nL) (hst : st0 = As.reverse ++ .ref rc :: rest) (hrest : (rest.map fun v => v.category).sum ≤ 8) (hd : decode cc pc = .ok (.invokevirtual index, 3)) (hroom : cells + mc ≤ R.cells ∧ slots + ms ≤ R.slots) : xz_Run p l e R s m args below meth c H locs cells slots mc ms (F0 m pc ls st0) rest G o d0 P nm PX :=
  ⟨_, vx_runVX F hM (vx_cwVW n F.2.2.2.2 hg rfl rfl rfl hy hR) (xy_preV hK hN hA hr As) rfl hn hsz hst (lv_room hrest) hd hroom⟩
/-- the reader's place set -/
theorem xq_putaK {index : Nat} {v : Int32} (hx : p.tables.exec = Jvm.exec) (hb : c.code = cc) (hts : ∀ w ∈ lw_all, w.before args s = true) (hown : s.vm.findClass RX2 = some m.cls) (hK : wm_K G s) (hW : xx_W G o d0 X E D H) (hS : va_S (xx_F o d0) H0 H locs) (hq : (Cond.fieldLink RX2 index RX2 (TX2 1).2.1 (TX2 1).2.2.1) ∈ lw_all) (hd : decode cc pc = .ok (.putfield index, 3))
    (kk : ∀ (H1 : Heap) (locs1 : List Loc), xx_W G o d0 (fw_ X 95 v) E D H1 → H1.size = H.size → (∀ q : Nat, q ≠ o + 16 → H1[q]? = H[q]?) → va_S (xx_F o d0) H0 H1 locs1 → W p l e R s m args below meth c H1 locs1 cells slots Q (F0 m (pc + 3) ls rest)) : W p l e R s m args below meth c H locs cells slots Q (F0 m pc ls (.int v :: .ref (o + 16) :: rest)) :=
  wm_put hx hb hts in_X2 tyX2 tyX2_ok nmX2 hown hK (ci := 2) rfl hW.rdr hS xx_Fr 1 (by decide) hq (fun _ h => h) rfl rfl rfl hd (fun H1 locs1 hO hz oq hS1 => kk H1 locs1 (hW.aput hO hz oq) hz oq hS1)
theorem xq_putoK {index : Nat} {v : Int32} (hx : p.tables.exec = Jvm.exec) (hb : c.code = cc) (hts : ∀ w ∈ lw_all, w.before args s = true) (hown : s.vm.findClass RX2 = some m.cls) (hK : wm_K G s) (hW : xx_W G o d0 X E D H) (hS : va_S (xx_F o d0) H0 H locs) (hq : (Cond.fieldLink RX2 index RX2 (TX2 2).2.1 (TX2 2).2.2.1) ∈ lw_all) (hd : decode cc pc = .ok (.putfield index, 3))
    (kk : ∀ (H1 : Heap) (locs1 : List Loc), xx_W G o d0 (fw_ X 96 v) E D H1 → H1.size = H.size → (∀ q : Nat, q ≠ o + 16 → H1[q]? = H[q]?) → va_S (xx_F o d0) H0 H1 locs1 → W p l e R s m args below meth c H1 locs1 cells slots Q (F0 m (pc + 3) ls rest)) : W p l e R s m args below meth c H locs cells slots Q (F0 m pc ls (.int v :: .ref (o + 16) :: rest)) :=
  wm_put hx hb hts in_X2 tyX2 tyX2_ok nmX2 hown hK (ci := 2) rfl hW.rdr hS xx_Fr 2 (by decide) hq (fun _ h => h) rfl rfl rfl hd (fun H1 locs1 hO hz oq hS1 => kk H1 locs1 (hW.oput hO hz oq) hz oq hS1)
/-- a call that reads alone -/
theorem xr_callV {v0 : Int32} (F : CallFix p m c cc nL s args lw_all own) (hK : wm_K G s) (hN : xn_T s) (hW : xx_W G o d0 X E D H) (hM : xr_Met l G o d0 y (ws_ y bytes maxL ret) d X E D (fun _ => True) (.ref rc :: As) (some (.int v0))) (hg : GoodIn lw_all (wsV own index C y (ws_ y bytes maxL ret))) (hr : xr_ s H C rc) (hy : y.cls = C ∧ xw_y y n) (hn : As.length = n) (hR : d + 1 ≤ R.frames ∧ 8 + (maxL + 11) + 60 * d ≤ R.locals) (hsz : ls.size = nL) (hst : st0 = As.reverse ++ .ref rc :: rest) (hrest : (rest.map fun v => v.category).sum ≤ 8) (hd : decode cc pc = .ok (.invokevirtual index, 3)) (hroom : cells ≤ R.cells ∧ slots ≤ R.slots)
    (kk : ∀ v : Int32, v = v0 → W p l e R s m args below meth c H locs cells slots Q (F0 m (pc + 3) ls (.int v :: rest))) : W p l e R s m args below meth c H locs cells slots Q (F0 m pc ls st0) := by
  have hr := va_runV (l := l) (H := H) (locs := locs) (cells := cells) (slots := slots) (g := F0 m pc ls st0) (p := p) (e := e) (below := below) (meth := meth) (rest := rest) F hM (cwV n F.2.2.2.2 hg rfl rfl rfl hy hR)
    ⟨fun _ _ g mk q => ⟨q.1, q.2.1.calling g mk _, q.2.2.1, q.2.2.2⟩, hr, fun _ hU hW2 => ⟨rfl, hK.moved hW2.alike, hN.moved hW2, by rw [hU]; exact hW, trivial⟩⟩ rfl hn hsz hst (lv_room hrest) hd hroom
  intro T hT Z
  obtain ⟨v, st₀, t, T', L, h0, Z', hL, e1, -, ⟨hv, hh⟩, st⟩ := hr T hT Z
  cases hv
  obtain ⟨t2, a1, b1⟩ := kk v0 rfl T' (by rw [e1, hh, h0]) (Stand.forget Z' (fun q h => (hL q h).elim))
  exact ⟨t2, st t2 a1, b1⟩
theorem xk_callV {v0 : Option Value} {X' : mm_S} (F : CallFix p m c cc nL s args lw_all own) (hK : wm_K G s) (hN : xn_T s) (hM : xk_Met l G o d0 y (ws_ y bytes maxL ret) d X' E D H (.ref rc :: As) v0) (hg : GoodIn lw_all (wsV own index C y (ws_ y bytes maxL ret))) (hr : xr_ s H C rc) (hy : y.cls = C ∧ xw_y y n) (hn : As.length = n) (hR : d + 1 ≤ R.frames ∧ 8 + (maxL + 11) + 60 * d ≤ R.locals) (hsz : ls.size = nL) (hst : st0 = As.reverse ++ .ref rc :: rest) (hrest : (rest.map fun v => v.category).sum ≤ 8) (hd : decode cc pc = .ok (.invokevirtual index, 3)) (hroom : cells ≤ R.cells ∧ slots ≤ R.slots) (hS : va_S (xx_F o d0) H0 H locs)
    (kk : ∀ (H1 : Heap) (locs1 : List Loc), xx_W G o d0 X' E D H1 → H1.size = H.size → (∀ q : Nat, q ≠ o + 16 → H1[q]? = H[q]?) → va_S (xx_F o d0) H0 H1 locs1 → W p l e R s m args below meth c H1 locs1 cells slots Q (F0 m (pc + 3) ls (v0.toList ++ rest))) : W p l e R s m args below meth c H locs cells slots Q (F0 m pc ls st0) := by
  have hr := va_runV (l := l) (H := H) (locs := locs) (cells := cells) (slots := slots) (g := F0 m pc ls st0) (p := p) (e := e) (below := below) (meth := meth) (rest := rest) F hM (cwV n F.2.2.2.2 hg rfl rfl rfl hy hR) (xz_preV hK hN hr As) rfl hn hsz hst (lv_room hrest) hd hroom
  refine wm_call hr hS (fun _ h => h) (fun _ h => h) fun v H1 locs1 hp _ _ hS1 => ?_
  obtain ⟨rfl, h1, h2, h3⟩ := hp
  exact kk H1 locs1 h1 h2 h3 hS1
end XRE
