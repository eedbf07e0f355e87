/-! THE COMPONENT's methods that make and throw: contracts, starts, calls, ends, catches -/
set_option maxRecDepth 100000
abbrev xz_P : Type := Option Value → mm_S → mm_E → xg → Heap → Prop
abbrev xz_T : Type := mm_S → mm_E → xg → Heap → Prop
/-- what is left behind a return, behind a throw of a class -/
def xz_R (G : wm_G) (o d0 : Nat) (P : xz_P) (v : Option Value) (H : Heap) : Prop := ∃ (X' : mm_S) (E' : mm_E) (D' : xg), P v X' E' D' H ∧ xx_W G o d0 X' E' D' H
def xz_X (G : wm_G) (o d0 : Nat) (nm : String) (PX : xz_T) : String → State → State → Prop := fun E st t => E = nm ∧ (∃ (X' : mm_S) (E' : mm_E) (D' : xg), PX X' E' D' t.heap ∧ xx_W G o d0 X' E' D' t.heap) ∧ va_F (xx_F o d0) st t
/-- a contract: from the heap H0 -/
def xz_Met (l : Launch) (G : wm_G) (o d0 : Nat) (y : MethodName) (ws : List Cond) (d mc ms : Nat) (H0 : Heap) (as : List Value) (P : xz_P) (nm : String) (PX : xz_T) : Prop :=
  vx_Met l y ws (wm_rc d mc ms) (va_Pc as (fun U => wm_K G U ∧ xn_T U ∧ U.heap = H0)) (wm_Q (xz_R G o d0 P) (xx_F o d0)) (xz_X G o d0 nm PX) mc ms (xx_F o d0)
abbrev xz_Q (G : wm_G) (o d0 : Nat) (P : xz_P) (nm : String) (PX : xz_T) (below : List Frame) (args : Array Value) (s : State) (mc ms : Nat) : State → Prop :=
  vx_MQ below (wm_Q (xz_R G o d0 P) (xx_F o d0)) (xz_X G o d0 nm PX) args s mc ms (xx_F o d0)
theorem xz_start {l : Launch} {G : wm_G} {o d0 : Nat} {y : MethodName} {own : String} {cc : ByteArray} {maxL : Nat} {ret : Option FieldType} {d mc ms : Nat} {H0 : Heap} {as : List Value} {P : xz_P} {nm : String} {PX : xz_T} (hy : plainName y.cls = true) (hlen : (lg_sl as).length ≤ maxL) (hOw : y.cls = own)
    (body : ∀ (p : Program) (e : Env) (s : State) (m : MethodId) (below : List Frame) (meth : Method) (c : Code), p.tables.exec = Jvm.exec → c.code = cc → c.maxLocals = maxL → meth.sig.returnType = ret → meth.locks = false → (∀ x ∈ c.exceptionTable.toList, False) → (∀ w ∈ lw_all, w.before as.toArray s = true) → s.vm.findClass own = some m.cls → wm_K G s → xn_T s → s.heap = H0 → va_S (xx_F o d0) s.heap H0 [] → ∀ ls : Array Slot, lv_has ls maxL (lv_args 0 as) →
      W p l e (wm_rc d mc ms) s m as.toArray below meth c H0 [] 0 0 (xz_Q G o d0 P nm PX below as.toArray s mc ms) (F0 m 0 ls [])) : xz_Met l G o d0 y (ws_ y cc maxL ret) d mc ms H0 as P nm PX := by
  refine vx_ofW (cc := cc) (maxL := maxL) (ret := ret) hy rfl ?_
  intro p e s m args below meth c s₁ B hml htb hv
  obtain ⟨rfl, hK, hN, hH⟩ := hv
  have hts := atoms_spec (ws := ws_ y cc maxL ret) B.pre
  have hts : ∀ w ∈ lw_all, w.before _ s = true := fun w h => hts w (List.mem_cons_of_mem _ h)
  have hown : s.vm.findClass own = some m.cls := by rw [← hOw]; exact findClass_of_methodNamed B.named
  have hl := lv_entry as hlen
  rw [lg_entry_eq]
  rw [hH]
  exact body p e s m below meth c B.exec B.bytes hml B.returns B.notSynchronized htb hts hown hK hN hH (by rw [← hH]; exact va_S.rf) _ hl
/-- with handlers -/
theorem xz_startH {l : Launch} {G : wm_G} {o d0 : Nat} {y : MethodName} {own : String} {cc : ByteArray} {maxL : Nat} {ret : Option FieldType} {hh : List (Nat × Nat × Nat × Nat)} {d mc ms : Nat} {H0 : Heap} {as : List Value} {P : xz_P} {nm : String} {PX : xz_T} (hy : plainName y.cls = true) (hlen : (lg_sl as).length ≤ maxL) (hOw : y.cls = own)
    (body : ∀ (p : Program) (e : Env) (s : State) (m : MethodId) (below : List Frame) (meth : Method) (c : Code), p.tables.exec = Jvm.exec → c.code = cc → c.maxLocals = maxL → meth.sig.returnType = ret → meth.locks = false → c.exceptionTable.toList = tableOf hh → (∀ w ∈ lw_all, w.before as.toArray s = true) → s.vm.findClass own = some m.cls → wm_K G s → xn_T s → s.heap = H0 → va_S (xx_F o d0) s.heap H0 [] → ∀ ls : Array Slot, lv_has ls maxL (lv_args 0 as) →
      W p l e (wm_rc d mc ms) s m as.toArray below meth c H0 [] 0 0 (xz_Q G o d0 P nm PX below as.toArray s mc ms) (F0 m 0 ls [])) : xz_Met l G o d0 y (wsW_ y cc maxL ret hh) d mc ms H0 as P nm PX := by
  refine vx_ofWH (cc := cc) (maxL := maxL) (ret := ret) (hh := hh) hy rfl ?_
  intro p e s m args below meth c s₁ B hml hv
  obtain ⟨rfl, hK, hN, hH⟩ := hv
  have hts := atoms_spec (ws := wsW_ y cc maxL ret hh) B.pre
  have htab := vx_table (x := y) (hh := hh) B (hts _ List.mem_cons_self)
  have hts : ∀ w ∈ lw_all, w.before _ s = true := fun w h => hts w (List.mem_cons_of_mem _ h)
  have hown : s.vm.findClass own = some m.cls := by rw [← hOw]; exact findClass_of_methodNamed B.named
  have hl := lv_entry as hlen
  rw [lg_entry_eq]
  rw [hH]
  exact body p e s m below meth c B.exec B.bytes hml B.returns B.notSynchronized htab hts hown hK hN hH (by rw [← hH]; exact va_S.rf) _ hl
section XZ
variable {p : Program} {l : Launch} {e : Env} {R : Room} {s : State} {m : MethodId} {args : Array Value} {below : List Frame} {meth : Method} {c : Code} {H : Heap} {locs : List Loc} {cells slots : Nat} {Q : State → Prop}
variable {cc : ByteArray} {pc : Nat} {ls : Array Slot} {rest : List Value} {G : wm_G} {o d0 : Nat} {H0 : Heap} {X : mm_S} {E : mm_E} {D : xg} {P : xz_P} {nm : String} {PX : xz_T}
variable {nL n maxL d mc ms index : Nat} {y : MethodName} {bytes : ByteArray} {ret : Option FieldType} {own C : String} {rc : Nat} {As st0 : List Value}
abbrev xz_Run (p : Program) (l : Launch) (e : Env) (R : Room) (s : State) (m : MethodId) (args : Array Value) (below : List Frame) (meth : Method) (c : Code) (H : Heap) (locs : List Loc) (cells slots mc ms : Nat) (g : JFrame) (rest : List Value) (G : wm_G) (o d0 : Nat) (P : xz_P) (nm : String) (PX : xz_T) : Prop :=
  ∃ av : Array Value, vx_Run p l e R s m args below meth c H locs cells slots mc ms g rest (wm_Q (xz_R G o d0 P) (xx_F o d0) av) (xz_X G o d0 nm PX) (xx_F o d0)
theorem xz_preV (hK : wm_K G s) (hN : xn_T s) (hr : xr_ s H C rc) (av : List Value) : PreV s H C rc (va_Pc (.ref rc :: av) (fun U => wm_K G U ∧ xn_T U ∧ U.heap = H)) av :=
  ⟨fun _ _ g mk q => ⟨q.1, q.2.1.calling g mk _, q.2.2.1, q.2.2.2⟩, hr, fun _ hU hW2 => ⟨rfl, hK.moved hW2.alike, hN.moved hW2, hU⟩⟩
/-- of the receiver's own class -/
theorem xz_rV (F : CallFix p m c cc nL s args lw_all own) (hK : wm_K G s) (hN : xn_T s) (hM : xz_Met l G o d0 y (ws_ y bytes maxL ret) d mc ms H (.ref rc :: As) P nm PX) (hg : GoodIn lw_all (wsV own index C y (ws_ y bytes maxL ret))) (hr : xr_ s H C rc) (hy : y.cls = C ∧ xw_y y n) (hn : As.length = n) (hR : d + 1 ≤ R.frames ∧ 8 + (maxL + 11) + 60 * d ≤ R.locals) (hsz : ls.size = nL) (hst : st0 = As.reverse ++ .ref rc :: rest) (hrest : (rest.map fun v => v.category).sum ≤ 8) (hd : decode cc pc = .ok (.invokevirtual index, 3)) (hroom : cells + mc ≤ R.cells ∧ slots + ms ≤ R.slots) : xz_Run p l e R s m args below meth c H locs cells slots mc ms (F0 m pc ls st0) rest G o d0 P nm PX :=
  ⟨_, vx_runV F hM (cwV n F.2.2.2.2 hg rfl rfl rfl hy hR) (xz_preV hK hN hr As) rfl hn hsz hst (lv_room hrest) hd hroom⟩
/-- with a table of its own -/
theorem xz_rVH {hh : List (Nat × Nat × Nat × Nat)} (F : CallFix p m c cc nL s args lw_all own) (hK : wm_K G s) (hN : xn_T s) (hM : xz_Met l G o d0 y (wsW_ y bytes maxL ret hh) d mc ms H (.ref rc :: As) P nm PX) (hg : GoodIn lw_all (wsV own index C y (wsW_ y bytes maxL ret hh))) (hr : xr_ s H C rc) (hy : y.cls = C ∧ xw_y y n) (hn : As.length = n) (hR : d + 1 ≤ R.frames ∧ 8 + (maxL + 11) + 60 * d ≤ R.locals) (hsz : ls.size = nL) (hst : st0 = As.reverse ++ .ref rc :: rest) (hrest : (rest.map fun v => v.category).sum ≤ 8) (hd : decode cc pc = .ok (.invokevirtual index, 3)) (hroom : cells + mc ≤ R.cells ∧ slots + ms ≤ R.slots) : xz_Run p l e R s m args below meth c H locs cells slots mc ms (F0 m pc ls st0) rest G o d0 P nm PX :=
  ⟨_, vx_runVX F hM (vx_cwVW n F.2.2.2.2 hg rfl rfl rfl hy hR) (xz_preV hK hN hr As) rfl hn hsz hst (lv_room hrest) hd hroom⟩
/-- behind a call: it has returned, or it has thrown -/
theorem xz_call (hr : xz_Run p l e R s m args below meth c H locs cells slots mc ms (F0 m pc ls st0) rest G o d0 P nm PX) (hS : va_S (xx_F o d0) H0 H locs)
    (kx : ∀ (q9 : Nat) (ce : Cell) (X' : mm_S) (E' : mm_E) (D' : xg) (H1 : Heap) (locs1 : List Loc), PX X' E' D' H1 → xx_W G o d0 X' E' D' H1 → va_S (xx_F o d0) H0 H1 locs1 → H1[q9]? = some ce → ce.vm = .none → s.vm.findClass nm = some ce.cls → vx_W p l e R s m args below meth c H1 locs1 (cells + mc) (slots + ms) Q (F0 m pc ls rest) q9)
    (kk : ∀ (v : Option Value) (X' : mm_S) (E' : mm_E) (D' : xg) (H1 : Heap) (locs1 : List Loc), P v X' E' D' H1 → xx_W G o d0 X' E' D' H1 → va_S (xx_F o d0) H0 H1 locs1 → W p l e R s m args below meth c H1 locs1 (cells + mc) (slots + ms) Q (F0 m (pc + 3) ls (v.toList ++ rest))) : W p l e R s m args below meth c H locs cells slots Q (F0 m pc ls st0) := by
  obtain ⟨av, hr⟩ := hr
  intro T hT Z
  rcases hr T hT Z with ⟨v, st₀, t, T', L, h0, Z', hL, e1, e2, ⟨⟨u, hv, X', E', D', hp, hw⟩, hF⟩, st⟩ | ⟨q, st₀, t, T', L, E1, ce, h0, Z', hL, e1, e2, ⟨rfl, ⟨X', E', D', hp, hw⟩, hF⟩, hce, hcv, hcl, st⟩
  · cases hv
    obtain ⟨-, -, k3⟩ := vx_keep h0 e1 hS (fun _ _ h => h) (fun _ h => h) hL hF
    obtain ⟨t2, a1, b1⟩ := kk v X' E' D' T'.heap (locs ++ L) (by rw [e1]; exact hp) (by rw [e1]; exact hw) k3 T' rfl Z'
    exact ⟨t2, st t2 a1, b1⟩
  · obtain ⟨-, -, k3⟩ := vx_keep h0 e1 hS (fun _ _ h => h) (fun _ h => h) hL hF
    obtain ⟨t2, a1, b1⟩ := kx q ce X' E' D' T'.heap (locs ++ L) (by rw [e1]; exact hp) (by rw [e1]; exact hw) k3 (by rw [e1]; exact hce) hcv hcl T' rfl Z'
    exact ⟨t2, st.trans a1, b1⟩
/-! ends -/
theorem xz_iret {v : Int32} (hx : p.tables.exec = Jvm.exec) (hb : c.code = cc) (hr : meth.sig.returnType = some .int) (hlocks : meth.locks = false) (hW : xx_W G o d0 X E D H) (hS : va_S (xx_F o d0) s.heap H locs) (hp : P (some (.int v)) X E D H) (hc : cells ≤ mc) (hs : slots ≤ ms) (hdg : decode cc pc = .ok (.ireturn, 1)) : W p l e R s m args below meth c H locs cells slots (xz_Q G o d0 P nm PX below args s mc ms) (F0 m pc ls [.int v]) :=
  vx_ret (W.widen hc hs (wm_iret hx hb hr hlocks hS (fun _ h => h) ⟨X, E, D, hp, hW⟩ hdg))
theorem xz_zret {v : Int32} (hx : p.tables.exec = Jvm.exec) (hb : c.code = cc) (hr : meth.sig.returnType = some .boolean) (hlocks : meth.locks = false) (hW : xx_W G o d0 X E D H) (hS : va_S (xx_F o d0) s.heap H locs) (hn : narrow .boolean (.int v) = .int v) (hp : P (some (.int v)) X E D H) (hc : cells ≤ mc) (hs : slots ≤ ms) (hdg : decode cc pc = .ok (.ireturn, 1)) : W p l e R s m args below meth c H locs cells slots (xz_Q G o d0 P nm PX below args s mc ms) (F0 m pc ls [.int v]) :=
  vx_ret (W.widen hc hs (wm_zret hx hb hr hlocks hS (fun _ h => h) hn ⟨X, E, D, hp, hW⟩ hdg))
theorem xz_dret {v : UInt64} (hx : p.tables.exec = Jvm.exec) (hb : c.code = cc) (hr : meth.sig.returnType = some .double) (hlocks : meth.locks = false) (hW : xx_W G o d0 X E D H) (hS : va_S (xx_F o d0) s.heap H locs) (hp : P (some (.double v)) X E D H) (hc : cells ≤ mc) (hs : slots ≤ ms) (hdg : decode cc pc = .ok (.dreturn, 1)) : W p l e R s m args below meth c H locs cells slots (xz_Q G o d0 P nm PX below args s mc ms) (F0 m pc ls [.double v]) :=
  vx_ret (W.widen hc hs (wm_dret hx hb hr hlocks hS (fun _ h => h) ⟨X, E, D, hp, hW⟩ hdg))
theorem xz_vret (hx : p.tables.exec = Jvm.exec) (hb : c.code = cc) (hr : meth.sig.returnType = none) (hlocks : meth.locks = false) (hW : xx_W G o d0 X E D H) (hS : va_S (xx_F o d0) s.heap H locs) (hp : P none X E D H) (hc : cells ≤ mc) (hs : slots ≤ ms) (hdg : decode cc pc = .ok (.return_, 1)) : W p l e R s m args below meth c H locs cells slots (xz_Q G o d0 P nm PX below args s mc ms) (F0 m pc ls []) :=
  vx_ret (W.widen hc hs (wm_vret hx hb hr hlocks hS (fun _ h => h) ⟨X, E, D, hp, hW⟩ hdg))
theorem xz_aret {a : Nat} {cn : String} (hx : p.tables.exec = Jvm.exec) (hb : c.code = cc) (hr : meth.sig.returnType = some (.object cn)) (hlocks : meth.locks = false) (hW : xx_W G o d0 X E D H) (hS : va_S (xx_F o d0) s.heap H locs) (hp : P (some (.ref a)) X E D H) (hc : cells ≤ mc) (hs : slots ≤ ms) (hdg : decode cc pc = .ok (.areturn, 1)) : W p l e R s m args below meth c H locs cells slots (xz_Q G o d0 P nm PX below args s mc ms) (F0 m pc ls [.ref a]) :=
  vx_ret (W.widen hc hs (wm_aret hx hb hr (Or.inl ⟨cn, rfl⟩) (Or.inr ⟨a, rfl⟩) hlocks hS (fun _ h => h) ⟨X, E, D, hp, hW⟩ hdg))
/-- thrown on, by rows that don't cover -/
theorem xz_on {q : Nat} {ce : Cell} (htb : ∀ x ∈ c.exceptionTable.toList, covers x pc = false) (hlocks : meth.locks = false) (hW : xx_W G o d0 X E D H) (hS : va_S (xx_F o d0) s.heap H locs) (hp : PX X E D H) (hce : H[q]? = some ce) (hcv : ce.vm = .none) (hcl : s.vm.findClass nm = some ce.cls) (hc : cells ≤ mc) (hs : slots ≤ ms) :
    vx_W p l e R s m args below meth c H locs cells slots (xz_Q G o d0 P nm PX below args s mc ms) (F0 m pc ls rest) q :=
  vx_out htb hlocks hce hcv hcl (fun t ht _ => ⟨rfl, ⟨X, E, D, by rw [ht]; exact hp, by rw [ht]; exact hW⟩, hS.F ht⟩) (fun z hz => hS.2.2 z hz) hc hs
/-- an object's cell as it is thrown -/
theorem wm_O.thrown {a ci : Nat} {q : vw_C} {V : Nat → Value} (hK : wm_K G s) (hc : wm_cl[ci]? = some q) (h : wm_O G a ci q.2.2 V H) : ∃ ce : Cell, H[a]? = some ce ∧ ce.vm = .none ∧ s.vm.findClass q.1 = some ce.cls := by
  obtain ⟨cell, g1, g2, g3, -⟩ := h
  exact ⟨cell, g1, g3, by rw [g2]; exact (hK.1 ci q hc).2.1⟩
theorem xz_torn (hK : wm_K G s) (hW : xx_W G o d0 X E D H) : ∃ ce : Cell, H[o + 8]? = some ce ∧ ce.vm = .none ∧ s.vm.findClass RX1 = some ce.cls := by
  obtain ⟨V, h⟩ := hW.trn
  exact wm_O.thrown (q := (RX1, TX1, 6)) hK rfl h
theorem xz_fault (hK : wm_K G s) (hW : xx_W G o d0 X E D H) : ∃ ce : Cell, H[o + 17]? = some ce ∧ ce.vm = .none ∧ s.vm.findClass RX3 = some ce.cls := by
  obtain ⟨V, h⟩ := hW.flt
  exact wm_O.thrown (q := (RX3, TX3, 6)) hK rfl h
end XZ
