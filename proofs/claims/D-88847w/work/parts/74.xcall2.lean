/-! CALLS OF BODIES: supers, defaults, interfaces; acts as functions -/
section XS2
variable {p : Program} {l : Launch} {e : Env} {R : Room} {s : State} {m : MethodId} {args : Array Value} {below : List Frame} {meth : Method} {c : Code} {H : Heap} {locs : List Loc} {cells slots : Nat} {Q : State → Prop}
variable {y : MethodName} {bytes cc : ByteArray} {maxL nL mc ms n index d : Nat} {ret : Option FieldType} {ws ws' : List Cond} {rm : Room} {Pc : Array Value → State → Prop} {Qc : Array Value → State → Outcome → State → Prop} {free : Addr → Prop} {Ts : List Cond} {own C owner : String} {x : MethodName} {b rc : Addr} {As rest st0 : List Value} {g : JFrame}
variable {G : wm_G} {o d0 : Nat} {H0 : Heap} {X X' : mm_S} {E E' : mm_E} {D : xg} {pc : Nat} {ls : Array Slot} {r : Option Value}
/-- a superclass further up -/
theorem xs_sub {a a2 t t2 : String} {x : MethodName} (ht : ∀ w ∈ lw_all, w.before args s = true) (hca : va_Nw (.castable a t) s) (sa : Cond.superclass a a2 ∈ lw_all) (sb : Cond.superclass t t2 ∈ lw_all) (hx : x.cls = t) : ∀ cn, s.vm.findClass a = some cn → ∀ mk, s.methodNamed? x = some mk → s.vm.isSubclass cn mk.cls = true := by
  intro cn hcn mk hmk
  obtain ⟨c0, t0, h1, h2, h3⟩ := Cond.castable_spec (va_Nw.use (A := #[]) rfl hca)
  cases hcn.symm.trans h1
  have h4 := findClass_of_methodNamed hmk
  rw [hx] at h4
  have e := Option.some.inj (h4.symm.trans h2)
  obtain ⟨p1, k1, kp1, -, q1, -, -, q2, -, -⟩ := Cond.superclass_spec hcn (ht _ sa)
  obtain ⟨p2, k2, kp2, -, z1, -, -, z2, -, z3⟩ := Cond.superclass_spec h2 (ht _ sb)
  rw [e]
  exact isSubclass_of_assignable q1 z1 q2 z2 z3 h3
/-- the superclass itself -/
theorem xs_sub1 {a t : String} {x : MethodName} (ht : ∀ w ∈ lw_all, w.before args s = true) (sa : Cond.superclass a t ∈ lw_all) (hx : x.cls = t) : ∀ cn, s.vm.findClass a = some cn → ∀ mk, s.methodNamed? x = some mk → s.vm.isSubclass cn mk.cls = true := by
  intro cn hcn mk hmk
  have h4 := findClass_of_methodNamed hmk
  rw [hx] at h4
  obtain ⟨p1, k1, kp1, h2, q1, q3, q4, -, -, -⟩ := Cond.superclass_spec hcn (ht _ sa)
  have e := Option.some.inj (h4.symm.trans h2)
  rw [e]
  have hpos : 0 < s.vm.classes.size := Nat.lt_of_le_of_lt (Nat.zero_le _) (Array.getElem?_eq_some_iff.mp q1).1
  obtain ⟨N, hN⟩ : ∃ N, s.vm.classes.size = N + 1 := ⟨s.vm.classes.size - 1, by omega⟩
  unfold Vm.isSubclass
  rw [hN]
  simp [Vm.isSubclassAux, q1, q4]
/-- super.m of a method that the superclass has from further up -/
theorem va_runSX (S : CallFix p m c cc nL s args Ts own) (hM : Met l y ws rm Pc Qc mc ms free) (cw : xl_B R s args y bytes maxL ret ws rm mc ms) (hlink : (Cond.methodLink own index x).before args s = true) (hsame : (Cond.sameMethod x.cls y.cls x.name x.desc).before args s = true) (hyn : y.name = x.name ∧ y.desc = x.desc) (hno : x.name ≠ "<init>") (hsup : (Cond.superclass own x.cls).before args s = true)
    (hsub : ∀ cn, s.vm.findClass x.cls = some cn → ∀ mk, s.methodNamed? y = some mk → s.vm.isSubclass cn mk.cls = true) (hlen : (parseMethodDescriptor x.desc).map (fun d => d.parameters.length) = some n) {cC : ClassId} (hat : ClassAt s C cC) (hp : PreV s H C b Pc As)
    (hg : g.method = m) (hn : As.length = n) (hsize : g.locals.size = nL) (hstack : g.stack = As.reverse ++ .ref b :: rest) (hW : 2 * g.monitorRoom + (rest.map fun v => v.category).sum ≤ 8) (hdg : decode cc g.pc = .ok (.invokespecial index, 3)) (hf : cells + mc ≤ R.cells ∧ slots + ms ≤ R.slots) :
    va_Run p l e R s m args below meth c H locs cells slots mc ms g rest (Qc (Value.ref b :: As).toArray) (free) := by
  obtain ⟨⟨hrc, hrs, hfr, hlo, hws, hcw⟩, hcode, hini, hinst⟩ := cw
  have hK : Back l R p e below s args y 3 8 (PreOf R mc ms Pc) (PostOf Qc mc ms free) := back_of (bytes := bytes) (maxL := maxL) (ret := ret) hM hp.1 hrc hrs hfr hlo hws hcw (fun a' U hW => word_at hW (Or.inl (by first | rfl | simp [Cond.onTables, Cond.keeps, Cond.steady])) hini)
  obtain ⟨hx, hb, hml, ho, -⟩ := S
  obtain ⟨-, ⟨cellB, hcB, hoB, hclB⟩, hPc⟩ := hp
  obtain ⟨hfc, kB, hkB, -⟩ := hat
  cases hfc.symm.trans hclB
  intro T hT X
  obtain ⟨mk, methM, hnamed, hmethM, hstM, habM⟩ := Cond.instanceMethod_spec hinst
  obtain ⟨methM', cM, hmethM', -, -, -, -, -, -, hsigM⟩ := Cond.code_spec hnamed hcode
  cases hmethM.symm.trans hmethM'
  obtain ⟨hyn1, hyn2⟩ := hyn
  have hn0 : s.methodNamed? ⟨y.cls, x.name, x.desc⟩ = some mk := by rw [← hyn1, ← hyn2]; exact hnamed
  obtain ⟨ps, dk, kp, hps, hdk, hkp, hsuper, -, -, hnid⟩ := Cond.superclass_spec ho hsup
  have hpar : As.length = methM.sig.parameters.length := by
    rw [← hyn2, hsigM] at hlen
    exact hn.trans (Option.some.inj hlen).symm
  obtain ⟨vm₁, X₁, hstep₁⟩ := X.invokespecialUp hx (owner := y.cls) ho hlink hsame hn0 hmethM hstM habM hno hdk hnid hps hsuper (hsub ps hps mk hnamed) (a := b) (cell := cellB) (by rw [hT]; exact hcB)
    (fun z h => by rw [h] at hoB; cases hoB) hkB (g := g) hg (argsL := As) (rest := rest) hpar hstack (by rw [hb]; exact hdg)
  obtain ⟨v, B, X', ⟨g', mk', t, L, e1, e2, hq, h1, hL, h2, h3⟩, hsteps⟩ := hK m meth c ⟨T.setVm vm₁, locs, cells, slots⟩ { g with stack := rest } (.invokespecial index) mk (Value.ref b :: As).toArray X₁ hg (hsize.trans hml.symm) (by rw [hb]; exact hdg) hW (X₁.named hnamed) ⟨hf.1, hf.2, hPc (T.setVm vm₁) hT X₁.warmed⟩
  obtain ⟨U', l2, c2', s2⟩ := B
  dsimp only [Pt.U, Pt.locs, Pt.cells, Pt.slots] at X' e1 e2 h1 h2 h3 hsteps
  subst h1; subst h2; subst h3
  exact ⟨v, (T.setVm vm₁).calling g' mk' (Value.ref b :: As).toArray, t, U', L, hT, X', hL, e1, e2, hq, fun target h => hstep₁ _ (by rw [doInvoke_state]; exact hsteps.trans h)⟩
theorem xw_rSX {cC : ClassId} (hat : ClassAt s C cC) (F : CallFix p m c cc nL s args lw_all own) (hK : wm_K G s) (hN : xn_T s) (hW : xx_W G o d0 X E D H) (hM : xw_Met l G o d0 y (ws_ y bytes maxL ret) d X E D (.ref rc :: As) r X' E') (hg : GoodIn lw_all (ws_ y bytes maxL ret)) (hini : Cond.initialized y.cls ∈ lw_all) (hinst : Cond.instanceMethod y ∈ lw_all) (hlink : Cond.methodLink own index x ∈ lw_all) (hsame : Cond.sameMethod x.cls y.cls x.name x.desc ∈ lw_all) (hyn : y.name = x.name ∧ y.desc = x.desc) (hsup : Cond.superclass own x.cls ∈ lw_all)
    (hsub : ∀ cn, s.vm.findClass x.cls = some cn → ∀ mk, s.methodNamed? y = some mk → s.vm.isSubclass cn mk.cls = true) (hr : xr_ s H C rc) (hlen : x.name ≠ "<init>" ∧ (parseMethodDescriptor x.desc).map (fun d => d.parameters.length) = some n) (hn : As.length = n) (hR : d + 1 ≤ R.frames ∧ 8 + (maxL + 11) + 60 * d ≤ R.locals) (hsz : ls.size = nL) (hst : st0 = As.reverse ++ .ref rc :: rest) (hrest : (rest.map fun v => v.category).sum ≤ 8) (hd : decode cc pc = .ok (.invokespecial index, 3)) (hroom : cells ≤ R.cells ∧ slots ≤ R.slots) : xw_Run p l e R s m args below meth c H locs cells slots (F0 m pc ls st0) rest G o d0 D r X' E' :=
  ⟨_, va_runSX F hM (xl_b F.2.2.2.2 hg rfl rfl rfl hini hinst hR) (F.2.2.2.2 _ hlink) (F.2.2.2.2 _ hsame) hyn hlen.1 (F.2.2.2.2 _ hsup) hsub hlen.2 hat (xw_preV hK hN hW hr As) rfl hn hsz hst (lv_room hrest) hd hroom⟩
/-- super.m that is a default -/
theorem xw_rSD {cC : ClassId} (hat : ClassAt s C cC) (F : CallFix p m c cc nL s args lw_all own) (hK : wm_K G s) (hN : xn_T s) (hW : xx_W G o d0 X E D H) (hM : xw_Met l G o d0 y (ws_ y bytes maxL ret) d X E D (.ref rc :: As) r X' E') (hg : GoodIn lw_all (ws_ y bytes maxL ret)) (hini : Cond.initialized y.cls ∈ lw_all) (hinst : Cond.instanceMethod y ∈ lw_all) (hlink : Cond.methodLink own index x ∈ defaultWords_1) (hsame : Cond.sameMethod x.cls y.cls x.name x.desc ∈ defaultWords_1) (hyn : y.name = x.name ∧ y.desc = x.desc) (hsup : Cond.superclass own x.cls ∈ lw_all)
    (hsel : Cond.landsInDefault x.cls x y ∈ xn_ld) (hr : xr_ s H C rc) (hlen : x.name ≠ "<init>" ∧ (parseMethodDescriptor x.desc).map (fun d => d.parameters.length) = some n) (hn : As.length = n) (hR : d + 1 ≤ R.frames ∧ 8 + (maxL + 11) + 60 * d ≤ R.locals) (hsz : ls.size = nL) (hst : st0 = As.reverse ++ .ref rc :: rest) (hrest : (rest.map fun v => v.category).sum ≤ 8) (hd : decode cc pc = .ok (.invokespecial index, 3)) (hroom : cells ≤ R.cells ∧ slots ≤ R.slots) : xw_Run p l e R s m args below meth c H locs cells slots (F0 m pc ls st0) rest G o d0 D r X' E' :=
  ⟨_, va_runSD F hM (xl_b F.2.2.2.2 hg rfl rfl rfl hini hinst hR) (hN.ml hlink args) (hN.sm hsame args) hyn hlen.1 (F.2.2.2.2 _ hsup) (hN.ld hsel args) hlen.2 hat (xw_preV hK hN hW hr As) rfl hn hsz hst (lv_room hrest) hd hroom⟩
/-- of a name that is a default's: the receiver's class has its own -/
theorem xw_rVC (F : CallFix p m c cc nL s args lw_all own) (hK : wm_K G s) (hN : xn_T s) (hW : xx_W G o d0 X E D H) (hM : xw_Met l G o d0 y (ws_ y bytes maxL ret) d X E D (.ref rc :: As) r X' E') (hg : GoodIn lw_all (ws_ y bytes maxL ret)) (hini : Cond.initialized y.cls ∈ lw_all) (hinst : Cond.instanceMethod y ∈ lw_all) (hlink : Cond.methodLink own index x ∈ defaultWords_1) (hsame : Cond.sameMethod x.cls owner x.name x.desc ∈ defaultWords_1) (hde : Cond.declares ⟨owner, x.name, x.desc⟩ ∈ lw_tbl) (hsel : Cond.selects C ⟨owner, x.name, x.desc⟩ y ∈ lw_all)
    (hr : xr_ s H C rc) (hlen : (owner ≠ "java/lang/invoke/MethodHandle" ∧ owner ≠ "java/lang/invoke/VarHandle") ∧ (parseMethodDescriptor x.desc).map (fun d => d.parameters.length) = some n) (hn : As.length = n) (hR : d + 1 ≤ R.frames ∧ 8 + (maxL + 11) + 60 * d ≤ R.locals) (hsz : ls.size = nL) (hst : st0 = As.reverse ++ .ref rc :: rest) (hrest : (rest.map fun v => v.category).sum ≤ 8) (hd : decode cc pc = .ok (.invokevirtual index, 3)) (hroom : cells ≤ R.cells ∧ slots ≤ R.slots) : xw_Run p l e R s m args below meth c H locs cells slots (F0 m pc ls st0) rest G o d0 D r X' E' :=
  ⟨_, va_runVC F hM (xl_b F.2.2.2.2 hg rfl rfl rfl hini hinst hR) (hN.ml hlink args) (hN.sm hsame args) (va_Decl.abs (hN.de hde)) hlen.1 (F.2.2.2.2 _ hsel) hlen.2 (xw_preV hK hN hW hr As) rfl hn hsz hst (lv_room hrest) hd hroom⟩
/-- .. the receiver's class has none: the default -/
theorem xw_rVD (F : CallFix p m c cc nL s args lw_all own) (hK : wm_K G s) (hN : xn_T s) (hW : xx_W G o d0 X E D H) (hM : xw_Met l G o d0 y (ws_ y bytes maxL ret) d X E D (.ref rc :: As) r X' E') (hg : GoodIn lw_all (ws_ y bytes maxL ret)) (hini : Cond.initialized y.cls ∈ lw_all) (hinst : Cond.instanceMethod y ∈ lw_all) (hlink : Cond.methodLink own index x ∈ defaultWords_1) (hsame : Cond.sameMethod x.cls owner x.name x.desc ∈ defaultWords_1) (hde : Cond.declares ⟨owner, x.name, x.desc⟩ ∈ lw_tbl) (hsel : Cond.landsInDefault C x y ∈ xn_ld)
    (hr : xr_ s H C rc) (hlen : (owner ≠ "java/lang/invoke/MethodHandle" ∧ owner ≠ "java/lang/invoke/VarHandle") ∧ (parseMethodDescriptor x.desc).map (fun d => d.parameters.length) = some n) (hn : As.length = n) (hR : d + 1 ≤ R.frames ∧ 8 + (maxL + 11) + 60 * d ≤ R.locals) (hsz : ls.size = nL) (hst : st0 = As.reverse ++ .ref rc :: rest) (hrest : (rest.map fun v => v.category).sum ≤ 8) (hd : decode cc pc = .ok (.invokevirtual index, 3)) (hroom : cells ≤ R.cells ∧ slots ≤ R.slots) : xw_Run p l e R s m args below meth c H locs cells slots (F0 m pc ls st0) rest G o d0 D r X' E' :=
  ⟨_, va_runVD F hM (xl_b F.2.2.2.2 hg rfl rfl rfl hini hinst hR) (hN.ml hlink args) (hN.sm hsame args) (va_Nw.use rfl (hN.de hde)) hlen.1 (hN.ld hsel args) hlen.2 (xw_preV hK hN hW hr As) rfl hn hsz hst (lv_room hrest) hd hroom⟩
/-- what is left of a call through an interface -/
abbrev xw_Run5 (p : Program) (l : Launch) (e : Env) (R : Room) (s : State) (m : MethodId) (args : Array Value) (below : List Frame) (meth : Method) (c : Code) (H : Heap) (locs : List Loc) (cells slots : Nat) (g : JFrame) (rest : List Value) (G : wm_G) (o d0 : Nat) (D : xg) (r : Option Value) (X' : mm_S) (E' : mm_E) : Prop :=
  ∃ av : Array Value, va_Run5 p l e R s m args below meth c H locs cells slots 0 0 g rest (wm_Q (fun v H => v = r ∧ xx_W G o d0 X' E' D H) (xx_F o d0) av) (xx_F o d0)
theorem xw_rF {cC : ClassId} {count : Nat} (hat : ClassAt s C cC) (F : CallFix p m c cc nL s args lw_all own) (hK : wm_K G s) (hN : xn_T s) (hW : xx_W G o d0 X E D H) (hM : xw_Met l G o d0 y (ws_ y bytes maxL ret) d X E D (.ref rc :: As) r X' E') (hg : GoodIn lw_all (va_wsF own index C x y (ws_ y bytes maxL ret))) (hF : va_Fw C x y s) (hr : xr_ s H C rc) (hlen : x.cls ≠ "java/lang/invoke/MethodHandle" ∧ x.cls ≠ "java/lang/invoke/VarHandle" ∧ (parseMethodDescriptor x.desc).map (fun d => d.parameters.length) = some n) (hn : As.length = n) (hR : d + 1 ≤ R.frames ∧ 8 + (maxL + 11) + 60 * d ≤ R.locals) (hsz : ls.size = nL) (hst : st0 = As.reverse ++ .ref rc :: rest) (hrest : (rest.map fun v => v.category).sum ≤ 8) (hd : decode cc pc = .ok (.invokeinterface index count, 5)) (hroom : cells ≤ R.cells ∧ slots ≤ R.slots) : xw_Run5 p l e R s m args below meth c H locs cells slots (F0 m pc ls st0) rest G o d0 D r X' E' :=
  ⟨_, va_runF hat F hM (va_cwF n F.2.2.2.2 hg rfl rfl rfl hF hlen hR) (xw_preV hK hN hW hr As) rfl hn hsz hst (lv_room hrest) hd hroom⟩
theorem wm_call5 {A A1 : Nat → Prop} {Post : Option Value → Heap → Prop} {av : Array Value} {mc ms : Nat} {free : Addr → Prop} {st0 : List Value} (hr : va_Run5 p l e R s m args below meth c H locs cells slots mc ms (F0 m pc ls st0) rest (wm_Q Post A1 av) free) (hS : va_S A H0 H locs) (hA : ∀ q, A1 q → A q) (hf : ∀ q, free q → A q)
    (kk : ∀ (v : Option Value) (H1 : Heap) (locs1 : List Loc), Post v H1 → H.size ≤ H1.size → (∀ q : Nat, q < H.size → ¬ A1 q → H1[q]? = H[q]?) → va_S A H0 H1 locs1 → W p l e R s m args below meth c H1 locs1 (cells + mc) (slots + ms) Q (F0 m (pc + 5) ls (v.toList ++ rest))) : W p l e R s m args below meth c H locs cells slots Q (F0 m pc ls st0) := by
  intro T hT X
  obtain ⟨v, st₀, t, T', L, h0, X', hL, e1, e2, ⟨⟨u, hv, hp⟩, hz, hk⟩, st⟩ := hr T hT X
  cases hv
  rw [h0] at hz hk
  obtain ⟨t2, a1, b1⟩ := kk v T'.heap (locs ++ L) (by rw [e1]; exact hp) (by rw [e1]; exact hz) (fun q h1 h2 => by rw [e1]; exact hk q h1 h2)
    ⟨Nat.le_trans hS.1 (by rw [e1]; exact hz), fun q h1 h2 => by rw [e1, hk q (Nat.lt_of_lt_of_le h1 hS.1) (fun z => h2 (hA q z))]; exact hS.2.1 q h1 h2, fun q hq => by
      rcases List.mem_append.mp hq with h | h
      · exact hS.2.2 q h
      · exact hf _ (hL q h)⟩ T' rfl X'
  exact ⟨t2, st t2 a1, b1⟩
theorem xw_i5 {v0 : Int32} (hr : xw_Run5 p l e R s m args below meth c H locs cells slots (F0 m pc ls st0) rest G o d0 D (some (.int v0)) X' E') (hS : va_S (xx_F o d0) H0 H locs)
    (kk : ∀ (v : Int32) (X1 : mm_S) (H1 : Heap) (locs1 : List Loc), v = v0 → X1 = X' → xx_W G o d0 X1 E' D H1 → va_S (xx_F o d0) H0 H1 locs1 → W p l e R s m args below meth c H1 locs1 cells slots Q (F0 m (pc + 5) ls (.int v :: rest))) : W p l e R s m args below meth c H locs cells slots Q (F0 m pc ls st0) := by
  obtain ⟨av, hr⟩ := hr
  refine wm_call5 hr hS (fun _ h => h) (fun _ h => h) fun v H1 locs1 hp _ _ hS1 => ?_
  obtain ⟨rfl, hW1⟩ := hp
  exact kk v0 X' H1 locs1 rfl rfl hW1 hS1
theorem xw_p5 {v0 : Int32} (hr : xw_Run5 p l e R s m args below meth c H locs cells slots (F0 m pc ls st0) rest G o d0 D (some (.int v0)) X E) (hS : va_S (xx_F o d0) H0 H locs)
    (kk : ∀ (v : Int32) (H1 : Heap) (locs1 : List Loc), v = v0 → xx_W G o d0 X E D H1 → va_S (xx_F o d0) H0 H1 locs1 → W p l e R s m args below meth c H1 locs1 cells slots Q (F0 m (pc + 5) ls (.int v :: rest))) : W p l e R s m args below meth c H locs cells slots Q (F0 m pc ls st0) := by
  obtain ⟨av, hr⟩ := hr
  refine wm_call5 hr hS (fun _ h => h) (fun _ h => h) fun v H1 locs1 hp _ _ hS1 => ?_
  obtain ⟨rfl, hW1⟩ := hp
  exact kk v0 H1 locs1 rfl hW1 hS1
theorem xw_v5 (hr : xw_Run5 p l e R s m args below meth c H locs cells slots (F0 m pc ls st0) rest G o d0 D none X' E') (hS : va_S (xx_F o d0) H0 H locs)
    (kk : ∀ (X1 : mm_S) (H1 : Heap) (locs1 : List Loc), X1 = X' → xx_W G o d0 X1 E' D H1 → va_S (xx_F o d0) H0 H1 locs1 → W p l e R s m args below meth c H1 locs1 cells slots Q (F0 m (pc + 5) ls rest)) : W p l e R s m args below meth c H locs cells slots Q (F0 m pc ls st0) := by
  obtain ⟨av, hr⟩ := hr
  refine wm_call5 hr hS (fun _ h => h) (fun _ h => h) fun v H1 locs1 hp _ _ hS1 => ?_
  obtain ⟨rfl, hW1⟩ := hp
  exact kk X' H1 locs1 rfl hW1 hS1
end XS2
/-! a body of a kind -/
def xa_in (X : mm_S) (b : Int32) (q : Nat) : Prop := xb_in X b ∧ xq X b = q
theorem xa_fw {X : mm_S} {k : Nat} {v b : Int32} {q : Nat} (h : xa_in X b q) (h4 : k ≠ 4) (h60 : k ≠ 60) : xa_in (fw_ X k v) b q := ⟨xb_fw h.1 h4 h60, by rw [xq_fw h60]; exact h.2⟩
theorem xa_wr {X : mm_S} {k : Nat} {i v b : Int32} {q : Nat} (h : xa_in X b q) (h4 : k ≠ 4) (h60 : k ≠ 60) : xa_in (wr_ X k i v) b q := ⟨xb_wr h.1 h4 h60, by rw [xq_wr h60]; exact h.2⟩
theorem xa_eq {X Y : mm_S} {b : Int32} {q : Nat} (e : Y 4 = X 4 ∧ Y 60 = X 60) (h : xa_in X b q) : xa_in Y b q := ⟨xb_eq e h.1, by rw [xq_eq e]; exact h.2⟩
theorem xa_8 {G : wm_G} {o d0 : Nat} {X : mm_S} {E : mm_E} {D : xg} {H : Heap} (hW : xx_W G o d0 X E D H) {b : Int32} {q : Nat} (h : xa_in X b q) : q < 8 := by rw [← h.2]; exact xq_lt hW h.1
/-! acts as functions -/
def xa_beg (X : mm_S) (t : Int32) : mm_S := if 24 ≤ fd_ X 7 then fw_ X 7 (fd_ X 7 + 1) else fw_ (wr_ X 6 (fd_ X 7) t) 7 (fd_ (wr_ X 6 (fd_ X 7) t) 7 + 1)
def xa_bd (X : mm_S) (b x : Int32) : Int32 × mm_S := (x + b, xa_beg X 1)
def xa_bw (X : mm_S) (b x : Int32) : Int32 × mm_S := ((xa_bd (xa_beg X 20) b x).1 * 2, (xa_bd (xa_beg X 20) b x).2)
def xa_bs (X : mm_S) (b x : Int32) : Int32 × mm_S := xa_bw (xa_beg X 50) b (x + 1)
def xa_bl (X : mm_S) (b x : Int32) : Int32 × mm_S := ((xa_bs (xa_beg X 61) b x).1 ^^^ 7, (xa_bs (xa_beg X 61) b x).2)
def xa_bores (q : Nat) (X : mm_S) (b x : Int32) : Int32 × mm_S := if q = 0 then xa_bd X b x else if q = 7 then xa_bd X b x else if q = 5 then xa_bl X b x else if q = 4 then xa_bs X b x else xa_bw X b x
def xa_cb (q : Nat) (X : mm_S) (b x : Int32) : Int32 × mm_S := ((xa_bores q (xa_beg X 10) b x).1 - 1, (xa_bores q (xa_beg X 10) b x).2)
def xa_ch (q : Nat) (X : mm_S) (b x : Int32) : Int32 × mm_S := ((xa_cb q (xa_beg X 30) b x).1 + rd_ (xa_cb q (xa_beg X 30) b x).2 62 b, (xa_cb q (xa_beg X 30) b x).2)
def xa_cm (q : Nat) (X : mm_S) (b x : Int32) : Int32 × mm_S := ((xa_cb q (xa_beg X 80) b x).1 - rd_ (xa_cb q (xa_beg X 80) b x).2 77 b, (xa_cb q (xa_beg X 80) b x).2)
def xa_carries (q : Nat) (X : mm_S) (b x : Int32) : Int32 × mm_S := if q = 7 then xa_cm q X b x else if q = 0 then xa_cb q X b x else if q = 1 then xa_cb q X b x else if q = 6 then xa_cb q X b x else xa_ch q X b x
def xa_hb (X : mm_S) (b x : Int32) : Int32 × mm_S := (x ^^^ b, xa_beg X 11)
def xa_ht (q : Nat) (X : mm_S) (b x : Int32) : Int32 × mm_S := ((xa_hb (xa_beg X 40) b x).1 - (xa_carries q (xa_hb (xa_beg X 40) b x).2 b 1).1, (xa_carries q (xa_hb (xa_beg X 40) b x).2 b 1).2)
def xa_hl (X : mm_S) (b x : Int32) : Int32 × mm_S := (-(xa_hb (xa_beg X 60) b x).1, (xa_hb (xa_beg X 60) b x).2)
def xa_hs (q : Nat) (X : mm_S) (b x : Int32) : Int32 × mm_S := ((xa_hb (xa_beg X 70) b x).1 + (xa_cb q (xa_hb (xa_beg X 70) b x).2 b x).1, (xa_cb q (xa_hb (xa_beg X 70) b x).2 b x).2)
def xa_holds (q : Nat) (X : mm_S) (b x : Int32) : Int32 × mm_S := if q = 3 then xa_ht q X b x else if q = 5 then xa_hl X b x else if q = 6 then xa_hs q X b x else xa_hb X b x
def xa_td (q : Nat) (X : mm_S) (b x : Int32) : Int32 × mm_S := ((xa_carries q (xa_beg X 2) b x).1 + (xa_holds q (xa_carries q (xa_beg X 2) b x).2 b 1).1, (xa_holds q (xa_carries q (xa_beg X 2) b x).2 b 1).2)
def xa_ts (q : Nat) (X : mm_S) (b x : Int32) : Int32 × mm_S := ((xa_td q (xa_beg X 51) b x).1 * 3, (xa_td q (xa_beg X 51) b x).2)
def xa_tells (q : Nat) (X : mm_S) (b x : Int32) : Int32 × mm_S := if q = 4 then xa_ts q X b x else if q = 5 then xa_ts q X b x else xa_td q X b x
def xa_act (X : mm_S) (b w x : Int32) : Int32 × mm_S :=
  if xf_isBody (fw_ X 7 0) b = 0 then (0, fw_ X 7 0) else if ff_in w 0 3 = 0 then (0, fw_ X 7 0) else if w = 0 then xa_bores (xq X b) (fw_ X 7 0) b x else if w = 1 then xa_carries (xq X b) (fw_ X 7 0) b x else if w = 2 then xa_holds (xq X b) (fw_ X 7 0) b x else xa_tells (xq X b) (fw_ X 7 0) b x
/-- how often has been begun -/
def xa_r (n : Int) (X : mm_S) : Prop := 0 ≤ (fd_ X 7).toInt ∧ (fd_ X 7).toInt ≤ n
theorem xa_r.le {n n2 : Int} {X : mm_S} (h : xa_r n X) (q : n ≤ n2) : xa_r n2 X := ⟨h.1, by have := h.2; omega⟩
theorem xa_beg_r {n : Int} {X : mm_S} (h : xa_r n X) (hn : n ≤ 1000) (t : Int32) : xa_r (n + 1) (xa_beg X t) := by
  have h0 := h.1
  have h1 := h.2
  have e : (fd_ X 7 + 1).toInt = (fd_ X 7).toInt + 1 := ww_inc' (by omega)
  unfold xa_beg xa_r
  split
  · rw [fd_fw]; omega
  · rw [fd_fw, fd_wn (by decide)]; omega
theorem xa_beg_fr (X : mm_S) (t : Int32) : fr_ [6, 7] X (xa_beg X t) := by
  unfold xa_beg
  split
  · exact fr_fw (by decide)
  · exact (show fr_ [6, 7] X (wr_ X 6 (fd_ X 7) t) from fr_wr (by decide)).fw (by decide)
theorem xa_e {X Y : mm_S} (r : fr_ [6, 7] X Y) : Y 4 = X 4 ∧ Y 60 = X 60 := ⟨r 4 (by decide), r 60 (by decide)⟩
/-- what an act does to the store: up to k more begun -/
def xa_ok (k : Int) (f : mm_S → Int32 × mm_S) : Prop := ∀ X : mm_S, fr_ [6, 7] X (f X).2 ∧ ∀ n : Int, n + k ≤ 1000 → xa_r n X → xa_r (n + k) (f X).2
theorem xa_ok.le {k k2 : Int} {f : mm_S → Int32 × mm_S} (h : xa_ok k f) (q : k ≤ k2) : xa_ok k2 f := fun X => ⟨(h X).1, fun n hn hr => ((h X).2 n (by omega) hr).le (by omega)⟩
theorem xa_ok.beg {k : Int} {f g : mm_S → Int32 × mm_S} {t : Int32} (h : xa_ok k f) (hk : 0 ≤ k) (e : ∀ X, (g X).2 = (f (xa_beg X t)).2) : xa_ok (k + 1) g := fun X => by
  rw [e X]
  exact ⟨(xa_beg_fr X t).tr (h _).1, fun n hn hr => ((h (xa_beg X t)).2 (n + 1) (by omega) (xa_beg_r hr (by omega) t)).le (by omega)⟩
theorem xa_ok.seq {k k2 : Int} {f f2 g : mm_S → Int32 × mm_S} (h : xa_ok k f) (h2 : xa_ok k2 f2) (hk : 0 ≤ k2) (e : ∀ X, (g X).2 = (f2 (f X).2).2) : xa_ok (k + k2) g := fun X => by
  rw [e X]
  exact ⟨(h X).1.tr (h2 _).1, fun n hn hr => ((h2 (f X).2).2 (n + k) (by omega) ((h X).2 n (by omega) hr)).le (by omega)⟩
theorem xa_bd_ok (b x : Int32) : xa_ok 1 (fun X => xa_bd X b x) := fun X => ⟨xa_beg_fr X 1, fun n hn hr => xa_beg_r hr (by omega) 1⟩
theorem xa_bw_ok (b x : Int32) : xa_ok 2 (fun X => xa_bw X b x) := (xa_bd_ok b x).beg (by decide) fun X => rfl
theorem xa_bs_ok (b x : Int32) : xa_ok 3 (fun X => xa_bs X b x) := (xa_bw_ok b (x + 1)).beg (by decide) fun X => rfl
theorem xa_bl_ok (b x : Int32) : xa_ok 4 (fun X => xa_bl X b x) := (xa_bs_ok b x).beg (by decide) fun X => rfl
theorem xa_bores_ok (q : Nat) (b x : Int32) : xa_ok 4 (fun X => xa_bores q X b x) := by
  unfold xa_bores
  repeat' split
  · exact (xa_bd_ok b x).le (by decide)
  · exact (xa_bd_ok b x).le (by decide)
  · exact xa_bl_ok b x
  · exact (xa_bs_ok b x).le (by decide)
  · exact (xa_bw_ok b x).le (by decide)
theorem xa_cb_ok (q : Nat) (b x : Int32) : xa_ok 5 (fun X => xa_cb q X b x) := (xa_bores_ok q b x).beg (by decide) fun X => rfl
theorem xa_ch_ok (q : Nat) (b x : Int32) : xa_ok 6 (fun X => xa_ch q X b x) := (xa_cb_ok q b x).beg (by decide) fun X => rfl
theorem xa_cm_ok (q : Nat) (b x : Int32) : xa_ok 6 (fun X => xa_cm q X b x) := (xa_cb_ok q b x).beg (by decide) fun X => rfl
theorem xa_carries_ok (q : Nat) (b x : Int32) : xa_ok 6 (fun X => xa_carries q X b x) := by
  unfold xa_carries
  repeat' split
  · exact xa_cm_ok q b x
  · exact (xa_cb_ok q b x).le (by decide)
  · exact (xa_cb_ok q b x).le (by decide)
  · exact (xa_cb_ok q b x).le (by decide)
  · exact xa_ch_ok q b x
theorem xa_hb_ok (b x : Int32) : xa_ok 1 (fun X => xa_hb X b x) := fun X => ⟨xa_beg_fr X 11, fun n hn hr => xa_beg_r hr (by omega) 11⟩
theorem xa_ht_ok (q : Nat) (b x : Int32) : xa_ok 8 (fun X => xa_ht q X b x) := ((xa_hb_ok b x).seq (xa_carries_ok q b 1) (by decide) (g := fun X => (0, (xa_carries q (xa_hb X b x).2 b 1).2)) (fun X => rfl)).beg (by decide) fun X => rfl
theorem xa_hl_ok (b x : Int32) : xa_ok 2 (fun X => xa_hl X b x) := (xa_hb_ok b x).beg (by decide) fun X => rfl
theorem xa_hs_ok (q : Nat) (b x : Int32) : xa_ok 7 (fun X => xa_hs q X b x) := ((xa_hb_ok b x).seq (xa_cb_ok q b x) (by decide) (g := fun X => (0, (xa_cb q (xa_hb X b x).2 b x).2)) (fun X => rfl)).beg (by decide) fun X => rfl
theorem xa_holds_ok (q : Nat) (b x : Int32) : xa_ok 8 (fun X => xa_holds q X b x) := by
  unfold xa_holds
  repeat' split
  · exact xa_ht_ok q b x
  · exact (xa_hl_ok b x).le (by decide)
  · exact (xa_hs_ok q b x).le (by decide)
  · exact (xa_hb_ok b x).le (by decide)
theorem xa_td_ok (q : Nat) (b x : Int32) : xa_ok 15 (fun X => xa_td q X b x) := ((xa_carries_ok q b x).seq (xa_holds_ok q b 1) (by decide) (g := fun X => (0, (xa_holds q (xa_carries q X b x).2 b 1).2)) (fun X => rfl)).beg (by decide) fun X => rfl
theorem xa_ts_ok (q : Nat) (b x : Int32) : xa_ok 16 (fun X => xa_ts q X b x) := (xa_td_ok q b x).beg (by decide) fun X => rfl
theorem xa_tells_ok (q : Nat) (b x : Int32) : xa_ok 16 (fun X => xa_tells q X b x) := by
  unfold xa_tells
  repeat' split
  · exact xa_ts_ok q b x
  · exact xa_ts_ok q b x
  · exact (xa_td_ok q b x).le (by decide)
/-! is it under a kind -/
def xu_0 (k : Int32) : Int32 := if k = 0 then 1 else 0
def xu_1 (k : Int32) : Int32 := if k = 1 then 1 else if xu_0 k = 0 then 0 else 1
def xu_2 (k : Int32) : Int32 := if k = 2 then 1 else if xu_1 k = 0 then 0 else 1
def xu_3 (k : Int32) : Int32 := if k = 3 then 1 else if xu_2 k = 0 then 0 else 1
def xu_4 (k : Int32) : Int32 := if k = 4 then 1 else if xu_2 k = 0 then 0 else 1
def xu_5 (k : Int32) : Int32 := if k = 5 then 1 else if xu_4 k = 0 then 0 else 1
def xu_6 (k : Int32) : Int32 := if k = 6 then 1 else if xu_1 k = 0 then 0 else 1
def xu_7 (k : Int32) : Int32 := if k = 7 then 1 else if xu_0 k = 0 then 0 else 1
def xa_und (q : Nat) (k : Int32) : Int32 := if q = 0 then xu_0 k else if q = 1 then xu_1 k else if q = 2 then xu_2 k else if q = 3 then xu_3 k else if q = 4 then xu_4 k else if q = 5 then xu_5 k else if q = 6 then xu_6 k else xu_7 k
