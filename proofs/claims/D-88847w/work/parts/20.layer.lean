/-! THE LAYER: every class of the system by number, the array classes by number, a world as what the cells at some addresses hold -/
set_option maxRecDepth 100000
/-- the classes by number -/
def wm_cl : List vw_C := [(RX0, TX0, 59), (RX5, TX5, 95), (RX2, TX2, 4), (RX4, TX4, 7), (RX6, TX6, 2), (RX7, TX7, 3), (RX8, TX8, 15), (RX9, TX9, 17), (RX10, TX10, 16), (RX11, TX11, 17), (RX12, TX12, 8), (RX13, TX13, 7), (RX15, TX15, 4), (RX16, TX16, 3), (RX17, TX17, 3), (RX18, TX18, 5), (RX1, TX1, 6), (RX3, TX3, 6)]
/-- classes' numbers and slots, and the array classes: 0 int, 1 boolean, 2 byte, 3 char, 4 long, 5 float, 6 double, 7 Body, 8 Hole, 9 Text, 10 Object, 11 Term -/
abbrev wm_G : Type := va_G × (Nat → ClassId)
def wm_ty : List FieldType := [.int, .boolean, .byte, .char, .long, .float, .double, .object "ThirtyThreeBelow$Body", .object "ThirtyThreeBelow$Hole", .object "ThirtyThreeBelow$Text", .object "java/lang/Object", .object "ThirtyThreeBelow$Term"]
def wm_tys (G : wm_G) : List (ClassId × FieldType) := [(G.2 0, .int), (G.2 1, .boolean), (G.2 2, .byte), (G.2 3, .char), (G.2 4, .long), (G.2 5, .float), (G.2 6, .double), (G.2 7, .object "ThirtyThreeBelow$Body"), (G.2 8, .object "ThirtyThreeBelow$Hole"), (G.2 9, .object "ThirtyThreeBelow$Text"), (G.2 10, .object "java/lang/Object"), (G.2 11, .object "ThirtyThreeBelow$Term")]
def wm_K (G : wm_G) (U : State) : Prop := va_K G.1 wm_cl (wm_tys G) U
theorem wm_K.moved {G : wm_G} {u U : State} (hvm : u.vm.Alike U.vm) (h : wm_K G u) : wm_K G U := va_K.moved hvm h
theorem wm_K.calling {G : wm_G} {U : State} (g : JFrame) (mk : MethodId) (a : Array Value) (h : wm_K G U) : wm_K G (U.calling g mk a) := va_K.moved (u := U) (U := U.calling g mk a) (Vm.Alike.refl U.vm) h
/-- an array's cell: number of its class, length, contents -/
def wm_A (G : wm_G) (a : Nat) (t n : Nat) (f : Nat → Value) (H : Heap) : Prop := H[a]? = some (arrV (G.2 t) n f)
/-- an object's cell: number of its class, how many fields, what they hold -/
def wm_O (G : wm_G) (a : Nat) (ci N : Nat) (V : Nat → Value) (H : Heap) : Prop := t_OB a (G.1.1 ci) N (G.1.2 ci) H V
theorem wm_A.kept {G : wm_G} {a t n : Nat} {f : Nat → Value} {H H1 : Heap} (h : wm_A G a t n f H) (hq : H1[a]? = H[a]?) : wm_A G a t n f H1 := hq.trans h
theorem wm_O.kept {G : wm_G} {a ci N : Nat} {V : Nat → Value} {H H1 : Heap} (h : wm_O G a ci N V H) (hq : H1[a]? = H[a]?) : wm_O G a ci N V H1 := t_OB.kept h hq
theorem wm_O.to {G : wm_G} {a ci N : Nat} {V V' : Nat → Value} {H : Heap} (h : wm_O G a ci N V H) (hv : ∀ k, k < N → V k = V' k) : wm_O G a ci N V' H := t_OB.to h hv
theorem wm_A.lt {G : wm_G} {a t n : Nat} {f : Nat → Value} {H : Heap} (h : wm_A G a t n f H) : a < H.size := (Array.getElem?_eq_some_iff.mp h).1
theorem wm_O.lt {G : wm_G} {a ci N : Nat} {V : Nat → Value} {H : Heap} (h : wm_O G a ci N V H) : a < H.size := by
  obtain ⟨cell, h2, -⟩ := h
  exact (Array.getElem?_eq_some_iff.mp h2).1
theorem wm_O.recv {G : wm_G} {s : State} {a ci : Nat} {q : vw_C} {V : Nat → Value} {H : Heap} (hK : wm_K G s) (hc : wm_cl[ci]? = some q) (h : wm_O G a ci q.2.2 V H) : ∃ cell : Cell, H[a]? = some cell ∧ cell.vm.isStatics = false ∧ s.vm.findClass q.1 = some cell.cls := by
  obtain ⟨cell, g1, g2, g3, -⟩ := h
  exact ⟨cell, g1, by rw [g3]; rfl, by rw [g2]; exact (hK.1 ci q hc).2.1⟩
section WM
variable {p : Program} {l : Launch} {e : Env} {R : Room} {s : State} {m : MethodId} {args : Array Value} {below : List Frame} {meth : Method} {c : Code} {H : Heap} {locs : List Loc} {cells slots : Nat} {Q : State → Prop}
variable {cc : ByteArray} {pc : Nat} {ls : Array Slot} {rest : List Value} {G : wm_G} {A : Nat → Prop} {a : Nat} {H0 : Heap}
/-! numbers with names -/
theorem nv_iadd (hx : p.tables.exec = Jvm.exec) (hb : c.code = cc) {x y : Int32} (hd : decode cc pc = .ok (.iadd, 1)) (k : ∀ v : Int32, v = x + y → W p l e R s m args below meth c H locs cells slots Q (F0 m (pc + 1) ls (.int v :: rest))) : W p l e R s m args below meth c H locs cells slots Q (F0 m pc ls (.int y :: .int x :: rest)) := lv_iadd hx hb hd (k _ rfl)
theorem nv_isub (hx : p.tables.exec = Jvm.exec) (hb : c.code = cc) {x y : Int32} (hd : decode cc pc = .ok (.isub, 1)) (k : ∀ v : Int32, v = x - y → W p l e R s m args below meth c H locs cells slots Q (F0 m (pc + 1) ls (.int v :: rest))) : W p l e R s m args below meth c H locs cells slots Q (F0 m pc ls (.int y :: .int x :: rest)) := lv_isub hx hb hd (k _ rfl)
theorem nv_imul (hx : p.tables.exec = Jvm.exec) (hb : c.code = cc) {x y : Int32} (hd : decode cc pc = .ok (.imul, 1)) (k : ∀ v : Int32, v = x * y → W p l e R s m args below meth c H locs cells slots Q (F0 m (pc + 1) ls (.int v :: rest))) : W p l e R s m args below meth c H locs cells slots Q (F0 m pc ls (.int y :: .int x :: rest)) := lv_imul hx hb hd (k _ rfl)
theorem nv_iand (hx : p.tables.exec = Jvm.exec) (hb : c.code = cc) {x y : Int32} (hd : decode cc pc = .ok (.iand, 1)) (k : ∀ v : Int32, v = x &&& y → W p l e R s m args below meth c H locs cells slots Q (F0 m (pc + 1) ls (.int v :: rest))) : W p l e R s m args below meth c H locs cells slots Q (F0 m pc ls (.int y :: .int x :: rest)) := lv_iand hx hb hd (k _ rfl)
theorem nv_ior (hx : p.tables.exec = Jvm.exec) (hb : c.code = cc) {x y : Int32} (hd : decode cc pc = .ok (.ior, 1)) (k : ∀ v : Int32, v = x ||| y → W p l e R s m args below meth c H locs cells slots Q (F0 m (pc + 1) ls (.int v :: rest))) : W p l e R s m args below meth c H locs cells slots Q (F0 m pc ls (.int y :: .int x :: rest)) := lv_ior hx hb hd (k _ rfl)
theorem nv_ixor (hx : p.tables.exec = Jvm.exec) (hb : c.code = cc) {x y : Int32} (hd : decode cc pc = .ok (.ixor, 1)) (k : ∀ v : Int32, v = x ^^^ y → W p l e R s m args below meth c H locs cells slots Q (F0 m (pc + 1) ls (.int v :: rest))) : W p l e R s m args below meth c H locs cells slots Q (F0 m pc ls (.int y :: .int x :: rest)) := lv_ixor hx hb hd (k _ rfl)
theorem nv_idiv (hx : p.tables.exec = Jvm.exec) (hb : c.code = cc) {x y : Int32} (hd : decode cc pc = .ok (.idiv, 1)) (hne : ¬ y = 0) (k : ∀ v : Int32, v = x / y → W p l e R s m args below meth c H locs cells slots Q (F0 m (pc + 1) ls (.int v :: rest))) : W p l e R s m args below meth c H locs cells slots Q (F0 m pc ls (.int y :: .int x :: rest)) := lv_idiv hx hb hd hne (k _ rfl)
/-- the machine's remainder -/
def jr_ (x y : Int32) : Int32 := x - x / y * y
theorem nv_irem (hx : p.tables.exec = Jvm.exec) (hb : c.code = cc) {x y : Int32} (hd : decode cc pc = .ok (.irem, 1)) (hne : ¬ y = 0) (k : ∀ v : Int32, v = jr_ x y → W p l e R s m args below meth c H locs cells slots Q (F0 m (pc + 1) ls (.int v :: rest))) : W p l e R s m args below meth c H locs cells slots Q (F0 m pc ls (.int y :: .int x :: rest)) := lv_irem hx hb hd hne (k _ rfl)
theorem nv_ineg (hx : p.tables.exec = Jvm.exec) (hb : c.code = cc) {x : Int32} (hd : decode cc pc = .ok (.ineg, 1)) (k : ∀ v : Int32, v = -x → W p l e R s m args below meth c H locs cells slots Q (F0 m (pc + 1) ls (.int v :: rest))) : W p l e R s m args below meth c H locs cells slots Q (F0 m pc ls (.int x :: rest)) := lv_ineg hx hb hd (k _ rfl)
theorem nv_ishl (hx : p.tables.exec = Jvm.exec) (hb : c.code = cc) {x y : Int32} (hd : decode cc pc = .ok (.ishl, 1)) (k : ∀ v : Int32, v = x <<< (y &&& 31) → W p l e R s m args below meth c H locs cells slots Q (F0 m (pc + 1) ls (.int v :: rest))) : W p l e R s m args below meth c H locs cells slots Q (F0 m pc ls (.int y :: .int x :: rest)) := lv_ishl hx hb hd (k _ rfl)
theorem nv_ishr (hx : p.tables.exec = Jvm.exec) (hb : c.code = cc) {x y : Int32} (hd : decode cc pc = .ok (.ishr, 1)) (k : ∀ v : Int32, v = x >>> (y &&& 31) → W p l e R s m args below meth c H locs cells slots Q (F0 m (pc + 1) ls (.int v :: rest))) : W p l e R s m args below meth c H locs cells slots Q (F0 m pc ls (.int y :: .int x :: rest)) := lv_ishr hx hb hd (k _ rfl)
theorem nv_i2b (hx : p.tables.exec = Jvm.exec) (hb : c.code = cc) {x : Int32} (hd : decode cc pc = .ok (.i2b, 1)) (k : ∀ v : Int32, v = x.toInt8.toInt32 → W p l e R s m args below meth c H locs cells slots Q (F0 m (pc + 1) ls (.int v :: rest))) : W p l e R s m args below meth c H locs cells slots Q (F0 m pc ls (.int x :: rest)) := lv_i2b hx hb hd rfl (k _ rfl)
theorem nv_i2c (hx : p.tables.exec = Jvm.exec) (hb : c.code = cc) {x : Int32} (hd : decode cc pc = .ok (.i2c, 1)) (k : ∀ v : Int32, v = (x.toUInt32 % 65536).toInt32 → W p l e R s m args below meth c H locs cells slots Q (F0 m (pc + 1) ls (.int v :: rest))) : W p l e R s m args below meth c H locs cells slots Q (F0 m pc ls (.int x :: rest)) := lv_i2c hx hb hd rfl (k _ rfl)
theorem nv_l2i (hx : p.tables.exec = Jvm.exec) (hb : c.code = cc) {x : Int64} (hd : decode cc pc = .ok (.l2i, 1)) (k : ∀ v : Int32, v = x.toInt32 → W p l e R s m args below meth c H locs cells slots Q (F0 m (pc + 1) ls (.int v :: rest))) : W p l e R s m args below meth c H locs cells slots Q (F0 m pc ls (.long x :: rest)) := lv_l2i hx hb hd rfl (k _ rfl)
theorem nv_i2l (hx : p.tables.exec = Jvm.exec) (hb : c.code = cc) {x : Int32} (hd : decode cc pc = .ok (.i2l, 1)) (k : ∀ v : Int64, v = x.toInt64 → W p l e R s m args below meth c H locs cells slots Q (F0 m (pc + 1) ls (.long v :: rest))) : W p l e R s m args below meth c H locs cells slots Q (F0 m pc ls (.int x :: rest)) := lv_i2l hx hb hd rfl (k _ rfl)
theorem nv_ladd (hx : p.tables.exec = Jvm.exec) (hb : c.code = cc) {x y : Int64} (hd : decode cc pc = .ok (.ladd, 1)) (k : ∀ v : Int64, v = x + y → W p l e R s m args below meth c H locs cells slots Q (F0 m (pc + 1) ls (.long v :: rest))) : W p l e R s m args below meth c H locs cells slots Q (F0 m pc ls (.long y :: .long x :: rest)) := lv_ladd hx hb hd (k _ rfl)
theorem nv_land (hx : p.tables.exec = Jvm.exec) (hb : c.code = cc) {x y : Int64} (hd : decode cc pc = .ok (.land, 1)) (k : ∀ v : Int64, v = x &&& y → W p l e R s m args below meth c H locs cells slots Q (F0 m (pc + 1) ls (.long v :: rest))) : W p l e R s m args below meth c H locs cells slots Q (F0 m pc ls (.long y :: .long x :: rest)) := lv_land hx hb hd (k _ rfl)
theorem nv_lor (hx : p.tables.exec = Jvm.exec) (hb : c.code = cc) {x y : Int64} (hd : decode cc pc = .ok (.lor, 1)) (k : ∀ v : Int64, v = x ||| y → W p l e R s m args below meth c H locs cells slots Q (F0 m (pc + 1) ls (.long v :: rest))) : W p l e R s m args below meth c H locs cells slots Q (F0 m pc ls (.long y :: .long x :: rest)) := lv_lor hx hb hd (k _ rfl)
theorem nv_lshl (hx : p.tables.exec = Jvm.exec) (hb : c.code = cc) {x : Int64} {y : Int32} (hd : decode cc pc = .ok (.lshl, 1)) (k : ∀ v : Int64, v = x <<< (y.toInt64 &&& 63) → W p l e R s m args below meth c H locs cells slots Q (F0 m (pc + 1) ls (.long v :: rest))) : W p l e R s m args below meth c H locs cells slots Q (F0 m pc ls (.int y :: .long x :: rest)) := lv_lshl hx hb hd rfl (k _ rfl)
/-! fields -/
theorem wm_get (hx : p.tables.exec = Jvm.exec) (hb : c.code = cc) {own ref C : String} {T : u_T} {N ci index : Nat} (hts : ∀ w ∈ lw_all, w.before args s = true) (hin : ∀ w ∈ u_ws C T N, w ∈ lw_all) (hown : s.vm.findClass own = some m.cls) (hK : wm_K G s) (hc : wm_cl[ci]? = some (C, T, N)) {V : Nat → Value} (hO : wm_O G a ci N V H) (k : Nat) (hk : k < N) (hlink : (Cond.fieldLink own index ref (T k).2.1 (T k).2.2.1) ∈ lw_all) (hsame : ∀ x, s.fieldFound? (T k).1 (T k).2.1 (T k).2.2.1 = some x → s.fieldFound? ref (T k).2.1 (T k).2.2.1 = some x) {v : Value} (hv : V k = v) (hdg : decode cc pc = .ok (.getfield index, 3))
    (kk : W p l e R s m args below meth c H locs cells slots Q (F0 m (pc + 3) ls (v :: rest))) : W p l e R s m args below meth c H locs cells slots Q (F0 m pc ls (.ref a :: rest)) := by
  obtain ⟨cell, q1, q2, q3, q4⟩ := hO
  obtain ⟨hS, hfc, kC, hkC, hkind⟩ := hK.1 ci _ hc
  obtain ⟨cf, kf, fi, f, hi, hsl⟩ := hS k hk
  refine W.getf hx hb hown (hts _ hlink) (hsame _ hi) (u_facts hfc hkC (u_lays hts hin hk) hi).1 q1 (by rw [q3]; exact fun h => by cases h) (v := v) ?_ rfl rfl hdg kk
  rw [hsl, q4 k hk, hv]
theorem wm_apart {own C : String} {T : u_T} {N ci : Nat} (hts : ∀ w ∈ lw_all, w.before args s = true) (hin : ∀ w ∈ u_ws C T N, w ∈ lw_all) (ty : Nat → FieldType) (hty : ∀ k, k < N → parseFieldDescriptor (T k).2.2.1 = some (ty k)) (hnm : ∀ a, a < N → ∀ b, b < N → a ≠ b → (T a).2.1 ≠ (T b).2.1) (hK : wm_K G s) (hc : wm_cl[ci]? = some (C, T, N)) : ∀ x y, x < N → y < N → x ≠ y → (G.1.2 ci) x ≠ (G.1.2 ci) y :=
  va_apart (own := own) hts hin ty hty hnm hK hc
theorem wm_put (hx : p.tables.exec = Jvm.exec) (hb : c.code = cc) {own ref C : String} {T : u_T} {N ci index : Nat} (hts : ∀ w ∈ lw_all, w.before args s = true) (hin : ∀ w ∈ u_ws C T N, w ∈ lw_all) (ty0 : Nat → FieldType) (hty : ∀ k, k < N → parseFieldDescriptor (T k).2.2.1 = some (ty0 k)) (hnm : ∀ a, a < N → ∀ b, b < N → a ≠ b → (T a).2.1 ≠ (T b).2.1) (hown : s.vm.findClass own = some m.cls) (hK : wm_K G s) (hc : wm_cl[ci]? = some (C, T, N)) {V : Nat → Value} (hO : wm_O G a ci N V H) (hS0 : va_S A H0 H locs) (hA : A a) (k : Nat) (hk : k < N) (hlink : (Cond.fieldLink own index ref (T k).2.1 (T k).2.2.1) ∈ lw_all) (hsame : ∀ x, s.fieldFound? (T k).1 (T k).2.1 (T k).2.2.1 = some x → s.fieldFound? ref (T k).2.1 (T k).2.2.1 = some x) (hfin : (T k).2.2.2 = false) {v : Value} (hn : narrow (ty0 k) v = v) (hfit : fits (ty0 k) v = true)
    (hdg : decode cc pc = .ok (.putfield index, 3)) (kk : ∀ (H1 : Heap) (locs1 : List Loc), wm_O G a ci N (updV V k v) H1 → H1.size = H.size → (∀ q : Nat, q ≠ a → H1[q]? = H[q]?) → va_S A H0 H1 locs1 → W p l e R s m args below meth c H1 locs1 cells slots Q (F0 m (pc + 3) ls rest)) : W p l e R s m args below meth c H locs cells slots Q (F0 m pc ls (v :: .ref a :: rest)) := by
  have hap := va_apart (own := own) hts hin ty0 hty hnm hK hc
  obtain ⟨cell, q1, q2, q3, q4⟩ := hO
  obtain ⟨hS, hfc, kC, hkC, hkind⟩ := hK.1 ci _ hc
  obtain ⟨cf, kf, fi, f, hi, hsl⟩ := hS k hk
  have hlay := hts _ (hin _ (u_in_lay hk))
  unfold u_lay at hlay
  rw [if_neg (by rw [hfin]; decide)] at hlay
  have hst := (u_facts hfc hkC (u_lays hts hin hk) hi).1
  have h6 := u_store hfc hkC hkind hlay hi (hty k hk) hn hfit
  refine W.putK hx hb (f := f) ⟨hown, hts _ hlink, ⟨_, _, _, hsame _ hi⟩, hst⟩ (by rw [q2]; exact h6) q1 q3 (by rw [hsl]; exact k2_hasslot (q4 k hk)) rfl rfl hdg fun H' e1 e2 e3 => ?_
  rw [hsl] at e1 ⊢
  exact kk H' _ ⟨_, e1, q2, q3, t_set q4 hap hk v⟩ e2 e3 (hS0.put e2 e3 hA)
theorem wm_putF (hx : p.tables.exec = Jvm.exec) (hb : c.code = cc) {own ref C : String} {T : u_T} {N ci index : Nat} (hts : ∀ w ∈ lw_all, w.before args s = true) (hin : ∀ w ∈ u_ws C T N, w ∈ lw_all) (ty0 : Nat → FieldType) (hty : ∀ k, k < N → parseFieldDescriptor (T k).2.2.1 = some (ty0 k)) (hnm : ∀ a, a < N → ∀ b, b < N → a ≠ b → (T a).2.1 ≠ (T b).2.1) (hown : s.vm.findClass own = some m.cls) (hK : wm_K G s) (hc : wm_cl[ci]? = some (C, T, N)) {V : Nat → Value} (hO : wm_O G a ci N V H) (hS0 : va_S A H0 H locs) (hA : A a) (k : Nat) (hk : k < N) (hlink : (Cond.fieldLink own index ref (T k).2.1 (T k).2.2.1) ∈ lw_all) (hsame : ∀ x, s.fieldFound? (T k).1 (T k).2.1 (T k).2.2.1 = some x → s.fieldFound? ref (T k).2.1 (T k).2.2.1 = some x) (hfin : (T k).2.2.2 = true) (hin2 : meth.name = "<init>") (hdecl : (T k).1 = own) {v : Value} (hn : narrow (ty0 k) v = v) (hfit : fits (ty0 k) v = true)
    (hdg : decode cc pc = .ok (.putfield index, 3)) (kk : ∀ (H1 : Heap) (locs1 : List Loc), wm_O G a ci N (updV V k v) H1 → H1.size = H.size → (∀ q : Nat, q ≠ a → H1[q]? = H[q]?) → va_S A H0 H1 locs1 → W p l e R s m args below meth c H1 locs1 cells slots Q (F0 m (pc + 3) ls rest)) : W p l e R s m args below meth c H locs cells slots Q (F0 m pc ls (v :: .ref a :: rest)) := by
  have hap := va_apart (own := own) hts hin ty0 hty hnm hK hc
  obtain ⟨cell, q1, q2, q3, q4⟩ := hO
  obtain ⟨hS, hfc, kC, hkC, hkind⟩ := hK.1 ci _ hc
  obtain ⟨cf, kf, fi, f, hi, hsl⟩ := hS k hk
  have hlay := hts _ (hin _ (u_in_lay hk))
  unfold u_lay at hlay
  rw [if_pos hfin] at hlay
  have hst := (u_facts hfc hkC (u_lays hts hin hk) hi).1
  have hcf : m.cls = cf := by
    obtain ⟨_, _, c', _, _, _, -, -, hf', -, -, -, hown2, -⟩ := Cond.laysFinal_spec hlay
    have e1 : c' = cf := by have := hi.symm.trans hf'; simp at this; exact this.1.symm
    rw [hdecl] at hown2
    rw [← e1]; exact Option.some.inj (hown.symm.trans hown2)
  have h6 := u_fits hfc hkC hkind (Or.inr hlay) hi (hty k hk) hn hfit
  refine W.putFinK hx hb hown (hts _ hlink) (hsame _ hi) hst hcf hin2 (by rw [q2]; exact h6) q1 q3 (by rw [hsl]; exact k2_hasslot (q4 k hk)) rfl rfl hdg fun H' e1 e2 e3 => ?_
  rw [hsl] at e1 ⊢
  exact kk H' _ ⟨_, e1, q2, q3, t_set q4 hap hk v⟩ e2 e3 (hS0.put e2 e3 hA)
/-! arrays -/
theorem wm_in {i : Int32} {t n : Nat} {f : Nat → Value} (hin : vp_in i n) : ¬ (i < 0 ∨ (arrV (G.2 t) n f).slots.size ≤ i.toNatClampNeg) := by rw [arrV_size]; exact hin
theorem wm_rd {i : Int32} {t n : Nat} {f : Nat → Value} {v : Value} (hin : vp_in i n) (hv : f i.toNatClampNeg = v) : (arrV (G.2 t) n f).slots[i.toNatClampNeg]? = some v := by
  rw [arrV_read _ _ (Nat.not_le.mp fun q => hin (Or.inr q)), hv]
theorem wm_iald (hx : p.tables.exec = Jvm.exec) (hb : c.code = cc) (hK : wm_K G s) {n : Nat} {f : Nat → Value} (hA : wm_A G a 0 n f H) {i : Int32} (hin : vp_in i n) {v : Value} (hv : f i.toNatClampNeg = v) (hdg : decode cc pc = .ok (.iaload, 1))
    (kk : W p l e R s m args below meth c H locs cells slots Q (F0 m (pc + 1) ls (v :: rest))) : W p l e R s m args below meth c H locs cells slots Q (F0 m pc ls (.int i :: .ref a :: rest)) :=
  W.iald (v := v) hx hb hA ((hK.2 0 (G.2 0, .int) rfl).1 n f) (fun q => by cases q) (wm_in hin) (wm_rd hin hv) rfl rfl hdg kk
theorem wm_zald (hx : p.tables.exec = Jvm.exec) (hb : c.code = cc) (hK : wm_K G s) {n : Nat} {f : Nat → Value} (hA : wm_A G a 1 n f H) {i : Int32} (hin : vp_in i n) {v : Value} (hv : f i.toNatClampNeg = v) (hdg : decode cc pc = .ok (.baload, 1))
    (kk : W p l e R s m args below meth c H locs cells slots Q (F0 m (pc + 1) ls (v :: rest))) : W p l e R s m args below meth c H locs cells slots Q (F0 m pc ls (.int i :: .ref a :: rest)) :=
  W.zald (v := v) hx hb hA ((hK.2 1 (G.2 1, .boolean) rfl).1 n f) (fun q => by cases q) (wm_in hin) (wm_rd hin hv) rfl rfl hdg kk
theorem wm_bald (hx : p.tables.exec = Jvm.exec) (hb : c.code = cc) (hK : wm_K G s) {n : Nat} {f : Nat → Value} (hA : wm_A G a 2 n f H) {i : Int32} (hin : vp_in i n) {v : Value} (hv : f i.toNatClampNeg = v) (hdg : decode cc pc = .ok (.baload, 1))
    (kk : W p l e R s m args below meth c H locs cells slots Q (F0 m (pc + 1) ls (v :: rest))) : W p l e R s m args below meth c H locs cells slots Q (F0 m pc ls (.int i :: .ref a :: rest)) :=
  W.bald (v := v) hx hb hA ((hK.2 2 (G.2 2, .byte) rfl).1 n f) (fun q => by cases q) (wm_in hin) (wm_rd hin hv) rfl rfl hdg kk
theorem wm_cald (hx : p.tables.exec = Jvm.exec) (hb : c.code = cc) (hK : wm_K G s) {n : Nat} {f : Nat → Value} (hA : wm_A G a 3 n f H) {i : Int32} (hin : vp_in i n) {v : Value} (hv : f i.toNatClampNeg = v) (hdg : decode cc pc = .ok (.caload, 1))
    (kk : W p l e R s m args below meth c H locs cells slots Q (F0 m (pc + 1) ls (v :: rest))) : W p l e R s m args below meth c H locs cells slots Q (F0 m pc ls (.int i :: .ref a :: rest)) :=
  W.cald (v := v) hx hb hA ((hK.2 3 (G.2 3, .char) rfl).1 n f) (fun q => by cases q) (wm_in hin) (wm_rd hin hv) rfl rfl hdg kk
theorem wm_lald (hx : p.tables.exec = Jvm.exec) (hb : c.code = cc) (hK : wm_K G s) {n : Nat} {f : Nat → Value} (hA : wm_A G a 4 n f H) {i : Int32} (hin : vp_in i n) {v : Value} (hv : f i.toNatClampNeg = v) (hdg : decode cc pc = .ok (.laload, 1))
    (kk : W p l e R s m args below meth c H locs cells slots Q (F0 m (pc + 1) ls (v :: rest))) : W p l e R s m args below meth c H locs cells slots Q (F0 m pc ls (.int i :: .ref a :: rest)) :=
  W.lald (v := v) hx hb hA ((hK.2 4 (G.2 4, .long) rfl).1 n f) (fun q => by cases q) (wm_in hin) (wm_rd hin hv) rfl rfl hdg kk
theorem wm_fald (hx : p.tables.exec = Jvm.exec) (hb : c.code = cc) (hK : wm_K G s) {n : Nat} {f : Nat → Value} (hA : wm_A G a 5 n f H) {i : Int32} (hin : vp_in i n) {v : Value} (hv : f i.toNatClampNeg = v) (hdg : decode cc pc = .ok (.faload, 1))
    (kk : W p l e R s m args below meth c H locs cells slots Q (F0 m (pc + 1) ls (v :: rest))) : W p l e R s m args below meth c H locs cells slots Q (F0 m pc ls (.int i :: .ref a :: rest)) :=
  W.fald (v := v) hx hb hA ((hK.2 5 (G.2 5, .float) rfl).1 n f) (fun q => by cases q) (wm_in hin) (wm_rd hin hv) rfl rfl hdg kk
theorem wm_dald (hx : p.tables.exec = Jvm.exec) (hb : c.code = cc) (hK : wm_K G s) {n : Nat} {f : Nat → Value} (hA : wm_A G a 6 n f H) {i : Int32} (hin : vp_in i n) {v : Value} (hv : f i.toNatClampNeg = v) (hdg : decode cc pc = .ok (.daload, 1))
    (kk : W p l e R s m args below meth c H locs cells slots Q (F0 m (pc + 1) ls (v :: rest))) : W p l e R s m args below meth c H locs cells slots Q (F0 m pc ls (.int i :: .ref a :: rest)) :=
  W.dald (v := v) hx hb hA ((hK.2 6 (G.2 6, .double) rfl).1 n f) (fun q => by cases q) (wm_in hin) (wm_rd hin hv) rfl rfl hdg kk
theorem wm_aald (hx : p.tables.exec = Jvm.exec) (hb : c.code = cc) (hK : wm_K G s) (t : Nat) {E : String} (ht : (wm_tys G)[t]? = some (G.2 t, .object E)) {n : Nat} {f : Nat → Value} (hA : wm_A G a t n f H) {i : Int32} (hin : vp_in i n) {v : Value} (hv : f i.toNatClampNeg = v) (hdg : decode cc pc = .ok (.aaload, 1))
    (kk : W p l e R s m args below meth c H locs cells slots Q (F0 m (pc + 1) ls (v :: rest))) : W p l e R s m args below meth c H locs cells slots Q (F0 m pc ls (.int i :: .ref a :: rest)) :=
  W.aald (v := v) (ty := .object E) hx hb hA ((hK.2 t _ ht).1 n f) rfl (fun q => by cases q) (wm_in hin) (wm_rd hin hv) rfl rfl hdg kk
theorem wm_st {t n j : Nat} {f : Nat → Value} {v : Value} {H1 : Heap} (e : H1[a]? = some ((arrV (G.2 t) n f).setSlot j v)) : wm_A G a t n (updV f j v) H1 := by
  show H1[a]? = _
  rw [e, arrV_store]
theorem wm_iast (hx : p.tables.exec = Jvm.exec) (hb : c.code = cc) (hK : wm_K G s) {n : Nat} {f : Nat → Value} (hA : wm_A G a 0 n f H) (hS : va_S A H0 H locs) (hAa : A a) {i x : Int32} (hin : vp_in i n) (hdg : decode cc pc = .ok (.iastore, 1))
    (kk : ∀ (H1 : Heap) (locs1 : List Loc), wm_A G a 0 n (updV f i.toNatClampNeg (.int x)) H1 → H1.size = H.size → (∀ q : Nat, q ≠ a → H1[q]? = H[q]?) → va_S A H0 H1 locs1 → W p l e R s m args below meth c H1 locs1 cells slots Q (F0 m (pc + 1) ls rest)) : W p l e R s m args below meth c H locs cells slots Q (F0 m pc ls (.int x :: .int i :: .ref a :: rest)) :=
  W.iast hx hb hA ((hK.2 0 (G.2 0, .int) rfl).1 n f) (fun q => by cases q) (wm_in hin) rfl rfl hdg fun H1 e z oq => kk H1 _ (wm_st e) z oq (hS.put z oq hAa)
theorem wm_zast (hx : p.tables.exec = Jvm.exec) (hb : c.code = cc) (hK : wm_K G s) {n : Nat} {f : Nat → Value} (hA : wm_A G a 1 n f H) (hS : va_S A H0 H locs) (hAa : A a) {i x : Int32} (hn : narrow .boolean (.int x) = .int x) (hin : vp_in i n) (hdg : decode cc pc = .ok (.bastore, 1))
    (kk : ∀ (H1 : Heap) (locs1 : List Loc), wm_A G a 1 n (updV f i.toNatClampNeg (.int x)) H1 → H1.size = H.size → (∀ q : Nat, q ≠ a → H1[q]? = H[q]?) → va_S A H0 H1 locs1 → W p l e R s m args below meth c H1 locs1 cells slots Q (F0 m (pc + 1) ls rest)) : W p l e R s m args below meth c H locs cells slots Q (F0 m pc ls (.int x :: .int i :: .ref a :: rest)) :=
  W.zast hx hb hA ((hK.2 1 (G.2 1, .boolean) rfl).1 n f) (fun q => by cases q) (wm_in hin) rfl rfl hdg fun H1 e z oq => kk H1 _ (by rw [hn] at e; exact wm_st e) z oq (hS.put z oq hAa)
theorem wm_bast (hx : p.tables.exec = Jvm.exec) (hb : c.code = cc) (hK : wm_K G s) {n : Nat} {f : Nat → Value} (hA : wm_A G a 2 n f H) (hS : va_S A H0 H locs) (hAa : A a) {i x : Int32} (hin : vp_in i n) (hdg : decode cc pc = .ok (.bastore, 1))
    (kk : ∀ (H1 : Heap) (locs1 : List Loc), wm_A G a 2 n (updV f i.toNatClampNeg (.int x.toInt8.toInt32)) H1 → H1.size = H.size → (∀ q : Nat, q ≠ a → H1[q]? = H[q]?) → va_S A H0 H1 locs1 → W p l e R s m args below meth c H1 locs1 cells slots Q (F0 m (pc + 1) ls rest)) : W p l e R s m args below meth c H locs cells slots Q (F0 m pc ls (.int x :: .int i :: .ref a :: rest)) :=
  W.bast hx hb hA ((hK.2 2 (G.2 2, .byte) rfl).1 n f) (fun q => by cases q) (wm_in hin) rfl rfl hdg fun H1 e z oq => kk H1 _ (wm_st e) z oq (hS.put z oq hAa)
theorem wm_cast (hx : p.tables.exec = Jvm.exec) (hb : c.code = cc) (hK : wm_K G s) {n : Nat} {f : Nat → Value} (hA : wm_A G a 3 n f H) (hS : va_S A H0 H locs) (hAa : A a) {i x : Int32} {y : Value} (hn : narrow .char (.int x) = y) (hin : vp_in i n) (hdg : decode cc pc = .ok (.castore, 1))
    (kk : ∀ (H1 : Heap) (locs1 : List Loc), wm_A G a 3 n (updV f i.toNatClampNeg y) H1 → H1.size = H.size → (∀ q : Nat, q ≠ a → H1[q]? = H[q]?) → va_S A H0 H1 locs1 → W p l e R s m args below meth c H1 locs1 cells slots Q (F0 m (pc + 1) ls rest)) : W p l e R s m args below meth c H locs cells slots Q (F0 m pc ls (.int x :: .int i :: .ref a :: rest)) :=
  W.cast hx hb hA ((hK.2 3 (G.2 3, .char) rfl).1 n f) (fun q => by cases q) (wm_in hin) rfl rfl hdg fun H1 e z oq => kk H1 _ (by rw [hn] at e; exact wm_st e) z oq (hS.put z oq hAa)
theorem wm_last (hx : p.tables.exec = Jvm.exec) (hb : c.code = cc) (hK : wm_K G s) {n : Nat} {f : Nat → Value} (hA : wm_A G a 4 n f H) (hS : va_S A H0 H locs) (hAa : A a) {i : Int32} {x : Int64} (hin : vp_in i n) (hdg : decode cc pc = .ok (.lastore, 1))
    (kk : ∀ (H1 : Heap) (locs1 : List Loc), wm_A G a 4 n (updV f i.toNatClampNeg (.long x)) H1 → H1.size = H.size → (∀ q : Nat, q ≠ a → H1[q]? = H[q]?) → va_S A H0 H1 locs1 → W p l e R s m args below meth c H1 locs1 cells slots Q (F0 m (pc + 1) ls rest)) : W p l e R s m args below meth c H locs cells slots Q (F0 m pc ls (.long x :: .int i :: .ref a :: rest)) :=
  W.last hx hb hA ((hK.2 4 (G.2 4, .long) rfl).1 n f) (fun q => by cases q) (wm_in hin) rfl rfl hdg fun H1 e z oq => kk H1 _ (wm_st e) z oq (hS.put z oq hAa)
theorem wm_fast (hx : p.tables.exec = Jvm.exec) (hb : c.code = cc) (hK : wm_K G s) {n : Nat} {f : Nat → Value} (hA : wm_A G a 5 n f H) (hS : va_S A H0 H locs) (hAa : A a) {i : Int32} {x : UInt32} (hin : vp_in i n) (hdg : decode cc pc = .ok (.fastore, 1))
    (kk : ∀ (H1 : Heap) (locs1 : List Loc), wm_A G a 5 n (updV f i.toNatClampNeg (.float x)) H1 → H1.size = H.size → (∀ q : Nat, q ≠ a → H1[q]? = H[q]?) → va_S A H0 H1 locs1 → W p l e R s m args below meth c H1 locs1 cells slots Q (F0 m (pc + 1) ls rest)) : W p l e R s m args below meth c H locs cells slots Q (F0 m pc ls (.float x :: .int i :: .ref a :: rest)) :=
  W.fast hx hb hA ((hK.2 5 (G.2 5, .float) rfl).1 n f) (fun q => by cases q) (wm_in hin) rfl rfl hdg fun H1 e z oq => kk H1 _ (wm_st e) z oq (hS.put z oq hAa)
theorem wm_dast (hx : p.tables.exec = Jvm.exec) (hb : c.code = cc) (hK : wm_K G s) {n : Nat} {f : Nat → Value} (hA : wm_A G a 6 n f H) (hS : va_S A H0 H locs) (hAa : A a) {i : Int32} {x : UInt64} (hin : vp_in i n) (hdg : decode cc pc = .ok (.dastore, 1))
    (kk : ∀ (H1 : Heap) (locs1 : List Loc), wm_A G a 6 n (updV f i.toNatClampNeg (.double x)) H1 → H1.size = H.size → (∀ q : Nat, q ≠ a → H1[q]? = H[q]?) → va_S A H0 H1 locs1 → W p l e R s m args below meth c H1 locs1 cells slots Q (F0 m (pc + 1) ls rest)) : W p l e R s m args below meth c H locs cells slots Q (F0 m pc ls (.double x :: .int i :: .ref a :: rest)) :=
  W.dast hx hb hA ((hK.2 6 (G.2 6, .double) rfl).1 n f) (fun q => by cases q) (wm_in hin) rfl rfl hdg fun H1 e z oq => kk H1 _ (wm_st e) z oq (hS.put z oq hAa)
theorem wm_alen (hx : p.tables.exec = Jvm.exec) (hb : c.code = cc) (hK : wm_K G s) (t : Nat) {ty : FieldType} (ht : (wm_tys G)[t]? = some (G.2 t, ty)) {n : Nat} {f : Nat → Value} (hA : wm_A G a t n f H) {v : Int32} (hv : Int32.ofNat n = v) (hdg : decode cc pc = .ok (.arraylength, 1))
    (kk : W p l e R s m args below meth c H locs cells slots Q (F0 m (pc + 1) ls (.int v :: rest))) : W p l e R s m args below meth c H locs cells slots Q (F0 m pc ls (.ref a :: rest)) := by
  subst hv
  exact W.alen (n := Int32.ofNat n) hx hb hA ((hK.2 t _ ht).1 n f) (by rw [arrV_size] <;> rfl) rfl rfl hdg kk
/-! calls: what a callee leaves -/
def wm_Q (Post : Option Value → Heap → Prop) (A : Nat → Prop) : Array Value → State → Outcome → State → Prop := fun _ st oc t => (∃ v : Option Value, oc = .returned v ∧ Post v t.heap) ∧ va_F A st t
theorem wm_call {Post : Option Value → Heap → Prop} {A1 : Nat → Prop} {av : Array Value} {mc ms : Nat} {free : Addr → Prop} {st0 : List Value} (hr : va_Run p l e R s m args below meth c H locs cells slots mc ms (F0 m pc ls st0) rest (wm_Q Post A1 av) free) (hS : va_S A H0 H locs) (hA : ∀ q, A1 q → A q) (hf : ∀ q, free q → A q)
    (kk : ∀ (v : Option Value) (H1 : Heap) (locs1 : List Loc), Post v H1 → H.size ≤ H1.size → (∀ q : Nat, q < H.size → ¬ A1 q → H1[q]? = H[q]?) → va_S A H0 H1 locs1 → W p l e R s m args below meth c H1 locs1 (cells + mc) (slots + ms) Q (F0 m (pc + 3) ls (v.toList ++ rest))) : W p l e R s m args below meth c H locs cells slots Q (F0 m pc ls st0) := by
  intro T hT X
  obtain ⟨v, st₀, t, T', L, h0, X', hL, e1, e2, ⟨⟨u, hv, hp⟩, hz, hk⟩, st⟩ := hr T hT X
  cases hv
  rw [h0] at hz hk
  obtain ⟨t2, a1, b1⟩ := kk v T'.heap (locs ++ L) (by rw [e1]; exact hp) (by rw [e1]; exact hz) (fun q h1 h2 => by rw [e1]; exact hk q h1 h2)
    ⟨Nat.le_trans hS.1 (by rw [e1]; exact hz), fun q h1 h2 => by rw [e1, hk q (Nat.lt_of_lt_of_le h1 hS.1) (fun z => h2 (hA q z))]; exact hS.2.1 q h1 h2, fun q hq => by
      rcases List.mem_append.mp hq with h | h
      · exact hS.2.2 q h
      · exact hf _ (hL q h)⟩ T' rfl X'
  exact ⟨t2, st t2 a1, b1⟩
/-! ends -/
theorem wm_iret {Post : Option Value → Heap → Prop} {free : Addr → Prop} {v : Int32} (hx : p.tables.exec = Jvm.exec) (hb : c.code = cc) (hr : meth.sig.returnType = some .int) (hlocks : meth.locks = false) (hS : va_S A s.heap H locs) (hf : ∀ q, A q → free q) (hp : Post (some (.int v)) H) (hdg : decode cc pc = .ok (.ireturn, 1)) : W p l e R s m args below meth c H locs cells slots (MQ below (wm_Q Post A) args s cells slots free) (F0 m pc ls [.int v]) :=
  W.iret (v := v) hx hb hr (fun t ht _ => ⟨⟨_, rfl, by rw [ht]; exact hp⟩, hS.F ht⟩) (fun q hq => hf _ (hS.2.2 q hq)) hdg hlocks
theorem wm_zret {Post : Option Value → Heap → Prop} {free : Addr → Prop} {v : Int32} (hx : p.tables.exec = Jvm.exec) (hb : c.code = cc) (hr : meth.sig.returnType = some .boolean) (hlocks : meth.locks = false) (hS : va_S A s.heap H locs) (hf : ∀ q, A q → free q) (hn : narrow .boolean (.int v) = .int v) (hp : Post (some (.int v)) H) (hdg : decode cc pc = .ok (.ireturn, 1)) : W p l e R s m args below meth c H locs cells slots (MQ below (wm_Q Post A) args s cells slots free) (F0 m pc ls [.int v]) :=
  W.zret (v := v) hx hb hr hn (fun t ht _ => ⟨⟨_, rfl, by rw [ht]; exact hp⟩, hS.F ht⟩) (fun q hq => hf _ (hS.2.2 q hq)) hdg hlocks
theorem wm_lret {Post : Option Value → Heap → Prop} {free : Addr → Prop} {v : Int64} (hx : p.tables.exec = Jvm.exec) (hb : c.code = cc) (hr : meth.sig.returnType = some .long) (hlocks : meth.locks = false) (hS : va_S A s.heap H locs) (hf : ∀ q, A q → free q) (hp : Post (some (.long v)) H) (hdg : decode cc pc = .ok (.lreturn, 1)) : W p l e R s m args below meth c H locs cells slots (MQ below (wm_Q Post A) args s cells slots free) (F0 m pc ls [.long v]) :=
  W.lret (v := v) hx hb hr (fun t ht _ => ⟨⟨_, rfl, by rw [ht]; exact hp⟩, hS.F ht⟩) (fun q hq => hf _ (hS.2.2 q hq)) hdg hlocks
theorem wm_dret {Post : Option Value → Heap → Prop} {free : Addr → Prop} {v : UInt64} (hx : p.tables.exec = Jvm.exec) (hb : c.code = cc) (hr : meth.sig.returnType = some .double) (hlocks : meth.locks = false) (hS : va_S A s.heap H locs) (hf : ∀ q, A q → free q) (hp : Post (some (.double v)) H) (hdg : decode cc pc = .ok (.dreturn, 1)) : W p l e R s m args below meth c H locs cells slots (MQ below (wm_Q Post A) args s cells slots free) (F0 m pc ls [.double v]) :=
  W.dret (v := v) hx hb hr (fun t ht _ => ⟨⟨_, rfl, by rw [ht]; exact hp⟩, hS.F ht⟩) (fun q hq => hf _ (hS.2.2 q hq)) hdg hlocks
theorem wm_vret {Post : Option Value → Heap → Prop} {free : Addr → Prop} (hx : p.tables.exec = Jvm.exec) (hb : c.code = cc) (hr : meth.sig.returnType = none) (hlocks : meth.locks = false) (hS : va_S A s.heap H locs) (hf : ∀ q, A q → free q) (hp : Post none H) (hdg : decode cc pc = .ok (.return_, 1)) : W p l e R s m args below meth c H locs cells slots (MQ below (wm_Q Post A) args s cells slots free) (F0 m pc ls []) :=
  W.vret hx hb hr (fun t ht _ => ⟨⟨_, rfl, by rw [ht]; exact hp⟩, hS.F ht⟩) (fun q hq => hf _ (hS.2.2 q hq)) hdg hlocks
theorem wm_aret {Post : Option Value → Heap → Prop} {free : Addr → Prop} {v : Value} {rt : FieldType} (hx : p.tables.exec = Jvm.exec) (hb : c.code = cc) (hr : meth.sig.returnType = some rt) (hrt : (∃ n, rt = .object n) ∨ ∃ t, rt = .array t) (hv : v = .null ∨ ∃ a, v = .ref a) (hlocks : meth.locks = false) (hS : va_S A s.heap H locs) (hf : ∀ q, A q → free q) (hp : Post (some v) H) (hdg : decode cc pc = .ok (.areturn, 1)) : W p l e R s m args below meth c H locs cells slots (MQ below (wm_Q Post A) args s cells slots free) (F0 m pc ls [v]) :=
  W.aret (v := v) hx hb hr hrt hv (fun t ht _ => ⟨⟨_, rfl, by rw [ht]; exact hp⟩, hS.F ht⟩) (fun q hq => hf _ (hS.2.2 q hq)) hdg hlocks
/-! a place where ways meet: an int on the stack -/
theorem wm_join {P : Int32 → Prop} {j : Nat} {g : JFrame} (F : ∀ v : Int32, P v → W p l e R s m args below meth c H locs cells slots Q (F0 m j ls (.int v :: rest))) (k : (∀ v : Int32, P v → W p l e R s m args below meth c H locs cells slots Q (F0 m j ls (.int v :: rest))) → W p l e R s m args below meth c H locs cells slots Q g) : W p l e R s m args below meth c H locs cells slots Q g := k F
end WM
/-- room by depth: so many calls below, nothing made -/
def wm_rm (d : Nat) : Room := { frames := d, cells := 0, slots := 0, locals := 60 * d }
def wm_rc (d mc ms : Nat) : Room := { frames := d, cells := mc, slots := ms, locals := 60 * d }
