/-! THE COMPONENT's CONTRACTS: starts, calls, ends -/
set_option maxRecDepth 100000
/-- a contract of the component's: from X, E to X', E', with the answer r -/
def xw_Met (l : Launch) (G : wm_G) (o d0 : Nat) (y : MethodName) (ws : List Cond) (d : Nat) (X : mm_S) (E : mm_E) (D : xg) (as : List Value) (r : Option Value) (X' : mm_S) (E' : mm_E) : Prop :=
  Met l y ws (wm_rm d) (va_Pc as (fun U => wm_K G U ∧ xn_T U ∧ xx_W G o d0 X E D U.heap)) (wm_Q (fun v H => v = r ∧ xx_W G o d0 X' E' D H) (xx_F o d0)) 0 0 (xx_F o d0)
theorem xw_start {l : Launch} {G : wm_G} {o d0 : Nat} {y : MethodName} {own : String} {cc : ByteArray} {maxL : Nat} {ret : Option FieldType} {d : Nat} {X : mm_S} {E : mm_E} {D : xg} {as : List Value} {r : Option Value} {X' : mm_S} {E' : mm_E} (hy : plainName y.cls = true) (hlen : (lg_sl as).length ≤ maxL) (hOw : y.cls = own)
    (body : ∀ (p : Program) (e : Env) (s : State) (m : MethodId) (below : List Frame) (meth : Method) (c : Code), p.tables.exec = Jvm.exec → c.code = cc → c.maxLocals = maxL → meth.sig.returnType = ret → meth.locks = false → (∀ w ∈ lw_all, w.before as.toArray s = true) → s.vm.findClass own = some m.cls → wm_K G s → xn_T s → ∀ H : Heap, xx_W G o d0 X E D H → va_S (xx_F o d0) s.heap H [] → ∀ ls : Array Slot, lv_has ls maxL (lv_args 0 as) →
      W p l e (wm_rm d) s m as.toArray below meth c H [] 0 0 (MQ below (wm_Q (fun v H => v = r ∧ xx_W G o d0 X' E' D H) (xx_F o d0)) as.toArray s 0 0 (xx_F o d0)) (F0 m 0 ls [])) : xw_Met l G o d0 y (ws_ y cc maxL ret) d X E D as r X' E' := by
  refine Met.ofW (cc := cc) (maxL := maxL) (ret := ret) hy rfl ?_
  intro p e s m args below meth c s₁ B hml hv
  obtain ⟨rfl, hK, hN, hW⟩ := hv
  have hts := atoms_spec (ws := ws_ y cc maxL ret) B.pre
  have hts : ∀ w ∈ lw_all, w.before _ s = true := fun w h => hts w (List.mem_cons_of_mem _ h)
  have hown : s.vm.findClass own = some m.cls := by rw [← hOw]; exact findClass_of_methodNamed B.named
  have hl := lv_entry as hlen
  rw [lg_entry_eq]
  exact body p e s m below meth c B.exec B.bytes hml B.returns B.notSynchronized hts hown hK hN _ hW va_S.rf _ hl
section XC
variable {p : Program} {l : Launch} {e : Env} {R : Room} {s : State} {m : MethodId} {args : Array Value} {below : List Frame} {meth : Method} {c : Code} {H : Heap} {locs : List Loc} {cells slots : Nat} {Q : State → Prop}
variable {cc : ByteArray} {pc : Nat} {ls : Array Slot} {rest : List Value} {G : wm_G} {o d0 : Nat} {H0 : Heap} {X X' : mm_S} {E E' : mm_E} {D : xg}
variable {nL n maxL d index : Nat} {y : MethodName} {bytes : ByteArray} {ret : Option FieldType} {own C : String} {rc : Nat} {As st0 av : List Value} {r : Option Value}
/-- the receiver's cell -/
abbrev xr_ (s : State) (H : Heap) (C : String) (rc : Nat) : Prop := ∃ cell : Cell, H[rc]? = some cell ∧ cell.vm.isStatics = false ∧ s.vm.findClass C = some cell.cls
theorem xr_main (hK : wm_K G s) (hW : xx_W G o d0 X E D H) : xr_ s H RX0 o := wm_O.recv (ci := 0) (q := (RX0, TX0, 59)) hK rfl hW.main
theorem xr_rdr (hK : wm_K G s) (hW : xx_W G o d0 X E D H) : xr_ s H RX2 (o + 16) := wm_O.recv (ci := 2) (q := (RX2, TX2, 4)) hK rfl hW.rdr
theorem xr_txt (hK : wm_K G s) (hW : xx_W G o d0 X E D H) {i : Int32} (h : vp_in i 16) : xr_ s H RX4 (xt_ o i) := wm_O.recv (ci := 3) (q := (RX4, TX4, 7)) hK rfl (hW.txt i.toNatClampNeg (Nat.not_le.mp fun q => h (Or.inr q)))
theorem xr_body (hK : wm_K G s) (hW : xx_W G o d0 X E D H) {b : Int32} (hi : xb_in X b) {q : Nat} (hq : xq X b = q) : xr_ s H (xk_C q) (xb_ D b) := by subst hq; exact xb_recv hK hW hi
theorem xw_preV (hK : wm_K G s) (hN : xn_T s) (hW : xx_W G o d0 X E D H) (hr : xr_ s H C rc) (av : List Value) : PreV s H C rc (va_Pc (.ref rc :: av) (fun U => wm_K G U ∧ xn_T U ∧ xx_W G o d0 X E D U.heap)) av :=
  ⟨fun _ _ g mk q => ⟨q.1, q.2.1.calling g mk _, q.2.2.1, q.2.2.2⟩, hr, fun _ hU hW2 => ⟨rfl, hK.moved hW2.alike, hN.moved hW2, by rw [hU]; exact hW⟩⟩
theorem xw_preS (hK : wm_K G s) (hN : xn_T s) (hW : xx_W G o d0 X E D H) (av : List Value) : PreS s H (va_Pc av (fun U => wm_K G U ∧ xn_T U ∧ xx_W G o d0 X E D U.heap)) av :=
  ⟨fun _ _ g mk q => ⟨q.1, q.2.1.calling g mk _, q.2.2.1, q.2.2.2⟩, fun _ hU hW2 => ⟨rfl, hK.moved hW2.alike, hN.moved hW2, by rw [hU]; exact hW⟩⟩
/-- what is left of a call -/
abbrev xw_Run (p : Program) (l : Launch) (e : Env) (R : Room) (s : State) (m : MethodId) (args : Array Value) (below : List Frame) (meth : Method) (c : Code) (H : Heap) (locs : List Loc) (cells slots : Nat) (g : JFrame) (rest : List Value) (G : wm_G) (o d0 : Nat) (D : xg) (r : Option Value) (X' : mm_S) (E' : mm_E) : Prop :=
  ∃ av : Array Value, va_Run p l e R s m args below meth c H locs cells slots 0 0 g rest (wm_Q (fun v H => v = r ∧ xx_W G o d0 X' E' D H) (xx_F o d0) av) (xx_F o d0)
abbrev xw_y (y : MethodName) (n : Nat) : Prop := y.cls ≠ "java/lang/invoke/MethodHandle" ∧ y.cls ≠ "java/lang/invoke/VarHandle" ∧ (parseMethodDescriptor y.desc).map (fun d => d.parameters.length) = some n
/-- of the receiver's own class -/
theorem xw_rV (F : CallFix p m c cc nL s args lw_all own) (hK : wm_K G s) (hN : xn_T s) (hW : xx_W G o d0 X E D H) (hM : xw_Met l G o d0 y (ws_ y bytes maxL ret) d X E D (.ref rc :: As) r X' E') (hg : GoodIn lw_all (wsV own index C y (ws_ y bytes maxL ret))) (hr : xr_ s H C rc) (hy : y.cls = C ∧ xw_y y n) (hn : As.length = n) (hR : d + 1 ≤ R.frames ∧ 8 + (maxL + 11) + 60 * d ≤ R.locals) (hsz : ls.size = nL) (hst : st0 = As.reverse ++ .ref rc :: rest) (hrest : (rest.map fun v => v.category).sum ≤ 8) (hd : decode cc pc = .ok (.invokevirtual index, 3)) (hroom : cells ≤ R.cells ∧ slots ≤ R.slots) : xw_Run p l e R s m args below meth c H locs cells slots (F0 m pc ls st0) rest G o d0 D r X' E' :=
  ⟨_, va_runV F hM (cwV n F.2.2.2.2 hg rfl rfl rfl hy hR) (xw_preV hK hN hW hr As) rfl hn hsz hst (lv_room hrest) hd hroom⟩
/-- static, of the same class -/
theorem xw_rS (F : CallFix p m c cc nL s args lw_all own) (hK : wm_K G s) (hN : xn_T s) (hW : xx_W G o d0 X E D H) (hM : xw_Met l G o d0 y (ws_ y bytes maxL ret) d X E D As r X' E') (hg : GoodIn lw_all (va_wsS own index y (ws_ y bytes maxL ret))) (hy : xw_y y n) (hn : As.length = n) (hR : d + 1 ≤ R.frames ∧ 8 + (maxL + 11) + 60 * d ≤ R.locals) (hsz : ls.size = nL) (hst : st0 = As.reverse ++ rest) (hrest : (rest.map fun v => v.category).sum ≤ 8) (hd : decode cc pc = .ok (.invokestatic index, 3)) (hroom : cells ≤ R.cells ∧ slots ≤ R.slots) : xw_Run p l e R s m args below meth c H locs cells slots (F0 m pc ls st0) rest G o d0 D r X' E' :=
  ⟨_, va_runS F hM (va_cwS n F.2.2.2.2 hg rfl rfl rfl hy hR) (xw_preS hK hN hW As) rfl hn hsz hst (lv_room hrest) hd hroom⟩
/-- private, of a nest mate's -/
theorem xw_rVN {host : String} (F : CallFix p m c cc nL s args lw_all own) (hK : wm_K G s) (hN : xn_T s) (hW : xx_W G o d0 X E D H) (hM : xw_Met l G o d0 y (ws_ y bytes maxL ret) d X E D (.ref rc :: As) r X' E') (hg : GoodIn lw_all (ws_ y bytes maxL ret)) (hl : va_Nw (.methodLinkNest own index y host) s) (hini : Cond.initialized y.cls ∈ lw_all) (hinst : Cond.instanceMethod y ∈ lw_all) (hsel : Cond.selects C y y ∈ lw_all) (hr : xr_ s H C rc) (hy : xw_y y n) (hn : As.length = n) (hR : d + 1 ≤ R.frames ∧ 8 + (maxL + 11) + 60 * d ≤ R.locals) (hsz : ls.size = nL) (hst : st0 = As.reverse ++ .ref rc :: rest) (hrest : (rest.map fun v => v.category).sum ≤ 8) (hd : decode cc pc = .ok (.invokevirtual index, 3)) (hroom : cells ≤ R.cells ∧ slots ≤ R.slots) : xw_Run p l e R s m args below meth c H locs cells slots (F0 m pc ls st0) rest G o d0 D r X' E' :=
  ⟨_, va_runVN F hM ⟨va_cnB n F.2.2.2.2 hg rfl rfl rfl hl (F.2.2.2.2 _ hini) hy hR, F.2.2.2.2 _ hinst, F.2.2.2.2 _ hsel⟩ (xw_preV hK hN hW hr As) rfl hn hsz hst (lv_room hrest) hd hroom⟩
/-- inherited -/
theorem xw_rU {owner : String} {x : MethodName} (F : CallFix p m c cc nL s args lw_all own) (hK : wm_K G s) (hN : xn_T s) (hW : xx_W G o d0 X E D H) (hM : xw_Met l G o d0 y (ws_ y bytes maxL ret) d X E D (.ref rc :: As) r X' E') (hg : GoodIn lw_all (va_wsU own index C owner x y (ws_ y bytes maxL ret))) (hyx : y = ⟨owner, x.name, x.desc⟩) (hr : xr_ s H C rc) (hy : owner ≠ "java/lang/invoke/MethodHandle" ∧ owner ≠ "java/lang/invoke/VarHandle" ∧ (parseMethodDescriptor x.desc).map (fun d => d.parameters.length) = some n) (hn : As.length = n) (hR : d + 1 ≤ R.frames ∧ 8 + (maxL + 11) + 60 * d ≤ R.locals) (hsz : ls.size = nL) (hst : st0 = As.reverse ++ .ref rc :: rest) (hrest : (rest.map fun v => v.category).sum ≤ 8) (hd : decode cc pc = .ok (.invokevirtual index, 3)) (hroom : cells ≤ R.cells ∧ slots ≤ R.slots) : xw_Run p l e R s m args below meth c H locs cells slots (F0 m pc ls st0) rest G o d0 D r X' E' :=
  ⟨_, va_runU F hM (va_cwU n F.2.2.2.2 hg rfl rfl rfl hyx hy hR) (xw_preV hK hN hW hr As) rfl hn hsz hst (lv_room hrest) hd hroom⟩
/-- overriding -/
theorem xw_rO {owner : String} {x : MethodName} {b0 : ByteArray} {m0 : Nat} {r0 : Option FieldType} (F : CallFix p m c cc nL s args lw_all own) (hK : wm_K G s) (hN : xn_T s) (hW : xx_W G o d0 X E D H) (hM : xw_Met l G o d0 y (ws_ y bytes maxL ret) d X E D (.ref rc :: As) r X' E') (hg : GoodIn lw_all (va_wsO own index C owner x y (ws_ y bytes maxL ret))) (h0 : Cond.code ⟨owner, x.name, x.desc⟩ b0 m0 r0 ∈ lw_all) (hr : xr_ s H C rc) (hy : owner ≠ "java/lang/invoke/MethodHandle" ∧ owner ≠ "java/lang/invoke/VarHandle" ∧ (parseMethodDescriptor x.desc).map (fun d => d.parameters.length) = some n) (hn : As.length = n) (hR : d + 1 ≤ R.frames ∧ 8 + (maxL + 11) + 60 * d ≤ R.locals) (hsz : ls.size = nL) (hst : st0 = As.reverse ++ .ref rc :: rest) (hrest : (rest.map fun v => v.category).sum ≤ 8) (hd : decode cc pc = .ok (.invokevirtual index, 3)) (hroom : cells ≤ R.cells ∧ slots ≤ R.slots) : xw_Run p l e R s m args below meth c H locs cells slots (F0 m pc ls st0) rest G o d0 D r X' E' :=
  ⟨_, va_runU F hM (va_cwO n F.2.2.2.2 hg rfl rfl rfl h0 hy hR) (xw_preV hK hN hW hr As) rfl hn hsz hst (lv_room hrest) hd hroom⟩
/-- super.m(..) -/
theorem xw_rSU {cC : ClassId} (hat : ClassAt s C cC) (F : CallFix p m c cc nL s args lw_all own) (hK : wm_K G s) (hN : xn_T s) (hW : xx_W G o d0 X E D H) (hM : xw_Met l G o d0 y (ws_ y bytes maxL ret) d X E D (.ref rc :: As) r X' E') (hg : GoodIn lw_all (va_wsSU own index y (ws_ y bytes maxL ret))) (hr : xr_ s H C rc) (hy : y.name ≠ "<init>" ∧ (parseMethodDescriptor y.desc).map (fun d => d.parameters.length) = some n) (hn : As.length = n) (hR : d + 1 ≤ R.frames ∧ 8 + (maxL + 11) + 60 * d ≤ R.locals) (hsz : ls.size = nL) (hst : st0 = As.reverse ++ .ref rc :: rest) (hrest : (rest.map fun v => v.category).sum ≤ 8) (hd : decode cc pc = .ok (.invokespecial index, 3)) (hroom : cells ≤ R.cells ∧ slots ≤ R.slots) : xw_Run p l e R s m args below meth c H locs cells slots (F0 m pc ls st0) rest G o d0 D r X' E' :=
  ⟨_, va_runSU hat F hM (va_cwSU n F.2.2.2.2 hg rfl rfl rfl hy hR) (xw_preV hK hN hW hr As) rfl hn hsz hst (lv_room hrest) hd hroom⟩
/-- behind a call: an int, the state changed -/
theorem xw_i {v0 : Int32} (hr : xw_Run p l e R s m args below meth c H locs cells slots (F0 m pc ls st0) rest G o d0 D (some (.int v0)) X' E') (hS : va_S (xx_F o d0) H0 H locs)
    (kk : ∀ (v : Int32) (X1 : mm_S) (H1 : Heap) (locs1 : List Loc), v = v0 → X1 = X' → xx_W G o d0 X1 E' D H1 → va_S (xx_F o d0) H0 H1 locs1 → W p l e R s m args below meth c H1 locs1 cells slots Q (F0 m (pc + 3) ls (.int v :: rest))) : W p l e R s m args below meth c H locs cells slots Q (F0 m pc ls st0) := by
  obtain ⟨av, hr⟩ := hr
  refine wm_call hr hS (fun _ h => h) (fun _ h => h) fun v H1 locs1 hp _ _ hS1 => ?_
  obtain ⟨rfl, hW1⟩ := hp
  exact kk v0 X' H1 locs1 rfl rfl hW1 hS1
theorem xw_p {v0 : Int32} (hr : xw_Run p l e R s m args below meth c H locs cells slots (F0 m pc ls st0) rest G o d0 D (some (.int v0)) X E) (hS : va_S (xx_F o d0) H0 H locs)
    (kk : ∀ (v : Int32) (H1 : Heap) (locs1 : List Loc), v = v0 → xx_W G o d0 X E D H1 → va_S (xx_F o d0) H0 H1 locs1 → W p l e R s m args below meth c H1 locs1 cells slots Q (F0 m (pc + 3) ls (.int v :: rest))) : W p l e R s m args below meth c H locs cells slots Q (F0 m pc ls st0) := by
  obtain ⟨av, hr⟩ := hr
  refine wm_call hr hS (fun _ h => h) (fun _ h => h) fun v H1 locs1 hp _ _ hS1 => ?_
  obtain ⟨rfl, hW1⟩ := hp
  exact kk v0 H1 locs1 rfl hW1 hS1
/-- a body's number -/
theorem xw_b {v0 : Int32} (hr : xw_Run p l e R s m args below meth c H locs cells slots (F0 m pc ls st0) rest G o d0 D (some (va_rf (xx_o D v0))) X E) (hS : va_S (xx_F o d0) H0 H locs)
    (kk : ∀ (v : Int32) (H1 : Heap) (locs1 : List Loc), v = v0 → xx_W G o d0 X E D H1 → va_S (xx_F o d0) H0 H1 locs1 → W p l e R s m args below meth c H1 locs1 cells slots Q (F0 m (pc + 3) ls (va_rf (xx_o D v) :: rest))) : W p l e R s m args below meth c H locs cells slots Q (F0 m pc ls st0) := by
  obtain ⟨av, hr⟩ := hr
  refine wm_call hr hS (fun _ h => h) (fun _ h => h) fun v H1 locs1 hp _ _ hS1 => ?_
  obtain ⟨rfl, hW1⟩ := hp
  exact kk v0 H1 locs1 rfl hW1 hS1
theorem xw_v (hr : xw_Run p l e R s m args below meth c H locs cells slots (F0 m pc ls st0) rest G o d0 D none X' E') (hS : va_S (xx_F o d0) H0 H locs)
    (kk : ∀ (X1 : mm_S) (H1 : Heap) (locs1 : List Loc), X1 = X' → xx_W G o d0 X1 E' D H1 → va_S (xx_F o d0) H0 H1 locs1 → W p l e R s m args below meth c H1 locs1 cells slots Q (F0 m (pc + 3) ls rest)) : W p l e R s m args below meth c H locs cells slots Q (F0 m pc ls st0) := by
  obtain ⟨av, hr⟩ := hr
  refine wm_call hr hS (fun _ h => h) (fun _ h => h) fun v H1 locs1 hp _ _ hS1 => ?_
  obtain ⟨rfl, hW1⟩ := hp
  exact kk X' H1 locs1 rfl hW1 hS1
/-- a private static that reads nothing, of a nest mate's -/
theorem pp_calliN {host : String} {v0 : Int32} (F : CallFix p m c cc nL s args lw_all own) (hM : pp_Met l y (ws_ y bytes maxL ret) d As (some (.int v0))) (hg : GoodIn lw_all (ws_ y bytes maxL ret)) (hl : va_Nw (.methodLinkNest own index y host) s) (hini : Cond.initialized y.cls ∈ lw_all) (hstat : Cond.static y ∈ lw_all) (hy : xw_y y n) (hn : As.length = n) (hR : d + 1 ≤ R.frames ∧ 8 + (maxL + 11) + 60 * d ≤ R.locals) (hsz : ls.size = nL) (hst : st0 = As.reverse ++ rest) (hrest : (rest.map fun v => v.category).sum ≤ 8) (hd : decode cc pc = .ok (.invokestatic index, 3)) (hroom : cells ≤ R.cells ∧ slots ≤ R.slots)
    (kk : ∀ v : Int32, v = v0 → W p l e R s m args below meth c H locs cells slots Q (F0 m (pc + 3) ls (.int v :: rest))) : W p l e R s m args below meth c H locs cells slots Q (F0 m pc ls st0) := by
  have hr := va_runSN (l := l) (H := H) (locs := locs) (cells := cells) (slots := slots) (g := F0 m pc ls st0) (p := p) (e := e) (below := below) (meth := meth) (rest := rest) F hM ⟨va_cnB n F.2.2.2.2 hg rfl rfl rfl hl (F.2.2.2.2 _ hini) hy hR, F.2.2.2.2 _ hstat, trivial⟩ ⟨fun _ _ _ _ q => q, fun _ _ _ => ⟨rfl, trivial⟩⟩ rfl hn hsz hst (lv_room hrest) hd hroom
  intro T hT Z
  obtain ⟨v, st₀, t, T', L, h0, Z', hL, e1, -, ⟨hv, hh⟩, st⟩ := hr T hT Z
  cases hv
  obtain ⟨t2, a1, b1⟩ := kk v0 rfl T' (by rw [e1, hh, h0]) (Stand.forget Z' (fun q h => (hL q h).elim))
  exact ⟨t2, st t2 a1, b1⟩
/-! ways that meet behind calls -/
theorem xw_join {P : Int32 → Prop} {j : Nat} {g : JFrame} (F : ∀ (v : Int32) (H : Heap) (locs : List Loc), P v → xx_W G o d0 X E D H → va_S (xx_F o d0) H0 H locs → W p l e R s m args below meth c H locs cells slots Q (F0 m j ls (.int v :: rest))) (k : (∀ (v : Int32) (H : Heap) (locs : List Loc), P v → xx_W G o d0 X E D H → va_S (xx_F o d0) H0 H locs → W p l e R s m args below meth c H locs cells slots Q (F0 m j ls (.int v :: rest))) → W p l e R s m args below meth c H locs cells slots Q g) : W p l e R s m args below meth c H locs cells slots Q g := k F
theorem xw_joinb {P : Int32 → Prop} {j : Nat} {g : JFrame} (F : ∀ (v : Int32) (H : Heap) (locs : List Loc), P v → xx_W G o d0 X E D H → va_S (xx_F o d0) H0 H locs → W p l e R s m args below meth c H locs cells slots Q (F0 m j ls (va_rf (xx_o D v) :: rest))) (k : (∀ (v : Int32) (H : Heap) (locs : List Loc), P v → xx_W G o d0 X E D H → va_S (xx_F o d0) H0 H locs → W p l e R s m args below meth c H locs cells slots Q (F0 m j ls (va_rf (xx_o D v) :: rest))) → W p l e R s m args below meth c H locs cells slots Q g) : W p l e R s m args below meth c H locs cells slots Q g := k F
/-! ends -/
theorem xw_iret {v : Int32} (hx : p.tables.exec = Jvm.exec) (hb : c.code = cc) (hr : meth.sig.returnType = some .int) (hlocks : meth.locks = false) (hW : xx_W G o d0 X E D H) (hS : va_S (xx_F o d0) s.heap H locs) (he : some (.int v) = r ∧ X = X' ∧ E = E') (hdg : decode cc pc = .ok (.ireturn, 1)) : W p l e R s m args below meth c H locs cells slots (MQ below (wm_Q (fun v H => v = r ∧ xx_W G o d0 X' E' D H) (xx_F o d0)) args s cells slots (xx_F o d0)) (F0 m pc ls [.int v]) := by
  obtain ⟨rfl, rfl, rfl⟩ := he
  exact wm_iret hx hb hr hlocks hS (fun _ h => h) ⟨rfl, hW⟩ hdg
theorem xw_zret {v : Int32} (hx : p.tables.exec = Jvm.exec) (hb : c.code = cc) (hr : meth.sig.returnType = some .boolean) (hlocks : meth.locks = false) (hW : xx_W G o d0 X E D H) (hS : va_S (xx_F o d0) s.heap H locs) (hn : narrow .boolean (.int v) = .int v) (he : some (.int v) = r ∧ X = X' ∧ E = E') (hdg : decode cc pc = .ok (.ireturn, 1)) : W p l e R s m args below meth c H locs cells slots (MQ below (wm_Q (fun v H => v = r ∧ xx_W G o d0 X' E' D H) (xx_F o d0)) args s cells slots (xx_F o d0)) (F0 m pc ls [.int v]) := by
  obtain ⟨rfl, rfl, rfl⟩ := he
  exact wm_zret hx hb hr hlocks hS (fun _ h => h) hn ⟨rfl, hW⟩ hdg
theorem xw_lret {v : Int64} (hx : p.tables.exec = Jvm.exec) (hb : c.code = cc) (hr : meth.sig.returnType = some .long) (hlocks : meth.locks = false) (hW : xx_W G o d0 X E D H) (hS : va_S (xx_F o d0) s.heap H locs) (he : some (.long v) = r ∧ X = X' ∧ E = E') (hdg : decode cc pc = .ok (.lreturn, 1)) : W p l e R s m args below meth c H locs cells slots (MQ below (wm_Q (fun v H => v = r ∧ xx_W G o d0 X' E' D H) (xx_F o d0)) args s cells slots (xx_F o d0)) (F0 m pc ls [.long v]) := by
  obtain ⟨rfl, rfl, rfl⟩ := he
  exact wm_lret hx hb hr hlocks hS (fun _ h => h) ⟨rfl, hW⟩ hdg
theorem xw_vret (hx : p.tables.exec = Jvm.exec) (hb : c.code = cc) (hr : meth.sig.returnType = none) (hlocks : meth.locks = false) (hW : xx_W G o d0 X E D H) (hS : va_S (xx_F o d0) s.heap H locs) (he : X = X' ∧ E = E') (hdg : decode cc pc = .ok (.return_, 1)) : W p l e R s m args below meth c H locs cells slots (MQ below (wm_Q (fun v H => v = none ∧ xx_W G o d0 X' E' D H) (xx_F o d0)) args s cells slots (xx_F o d0)) (F0 m pc ls []) := by
  obtain ⟨rfl, rfl⟩ := he
  exact wm_vret hx hb hr hlocks hS (fun _ h => h) ⟨rfl, hW⟩ hdg
theorem xw_aret {q : Option Nat} {nm : String} (hx : p.tables.exec = Jvm.exec) (hb : c.code = cc) (hr : meth.sig.returnType = some (.object nm)) (hlocks : meth.locks = false) (hW : xx_W G o d0 X E D H) (hS : va_S (xx_F o d0) s.heap H locs) (he : some (va_rf q) = r ∧ X = X' ∧ E = E') (hdg : decode cc pc = .ok (.areturn, 1)) : W p l e R s m args below meth c H locs cells slots (MQ below (wm_Q (fun v H => v = r ∧ xx_W G o d0 X' E' D H) (xx_F o d0)) args s cells slots (xx_F o d0)) (F0 m pc ls [va_rf q]) := by
  obtain ⟨rfl, rfl, rfl⟩ := he
  exact wm_aret hx hb hr (Or.inl ⟨nm, rfl⟩) (by cases q with
    | none => exact Or.inl rfl
    | some a => exact Or.inr ⟨a, rfl⟩) hlocks hS (fun _ h => h) ⟨rfl, hW⟩ hdg
end XC
