/-! THINGS MADE: new, constructors -/
section WN
variable {p : Program} {l : Launch} {e : Env} {R : Room} {s : State} {m : MethodId} {args : Array Value} {below : List Frame} {meth : Method} {c : Code} {H : Heap} {locs : List Loc} {cells slots : Nat} {Q : State → Prop}
variable {cc : ByteArray} {pc : Nat} {ls : Array Slot} {rest : List Value} {G : wm_G} {A : Nat → Prop} {H0 : Heap}
theorem wm_new (hx : p.tables.exec = Jvm.exec) (hb : c.code = cc) {own C : String} {T : u_T} {N ci index : Nat} (hts : ∀ w ∈ lw_all, w.before args s = true) (hin : ∀ w ∈ u_ws C T N, w ∈ lw_all) (ty : Nat → FieldType) (hty : ∀ k, k < N → parseFieldDescriptor (T k).2.2.1 = some (ty k)) (hown : s.vm.findClass own = some m.cls) (hcl : (Cond.classLink own index C) ∈ lw_all) (hinst : (Cond.instantiable C N) ∈ lw_all) (hini : (Cond.initialized C) ∈ lw_all)
    (hK : wm_K G s) (hc : wm_cl[ci]? = some (C, T, N)) {V : Nat → Value} (hV : ∀ j, j < N → defaultValue (ty j) = V j) (hS : va_S A H0 H locs) (hcells : cells + 1 ≤ R.cells) (hslots : slots + N ≤ R.slots) (hd : decode cc pc = .ok (.new index, 3))
    (kk : ∀ H1 : Heap, wm_O G H.size ci N V H1 → H1.size = H.size + 1 → (∀ q : Nat, q < H.size → H1[q]? = H[q]?) → va_S A H0 H1 locs → W p l e R s m args below meth c H1 locs (cells + 1) (slots + N) Q (F0 m (pc + 3) ls (.ref H.size :: rest))) : W p l e R s m args below meth c H locs cells slots Q (F0 m pc ls rest) := by
  have hKn := hK.1 ci _ hc
  refine W.newcK hx hb hown (hts _ hcl) (hts _ hinst) (hts _ hini) rfl hd hcells hslots hKn.2.1 rfl fun H1 kC hkC e1 z1 o1 => ?_
  exact kk H1 ((u_born ty hts hin hKn hkC e1 hty).to hV) z1 o1 ⟨Nat.le_trans hS.1 (by omega), fun x h1 h2 => (o1 x (Nat.lt_of_lt_of_le h1 hS.1)).trans (hS.2.1 x h1 h2), hS.2.2⟩
/-- a final field of a name that other classes' fields have too: those of the name may be written with it -/
theorem wm_putFs {a : Nat} (hx : p.tables.exec = Jvm.exec) (hb : c.code = cc) {own ref C : String} {T : u_T} {N ci index : Nat} (hts : ∀ w ∈ lw_all, w.before args s = true) (hin : ∀ w ∈ u_ws C T N, w ∈ lw_all) (ty0 : Nat → FieldType) (hty : ∀ k, k < N → parseFieldDescriptor (T k).2.2.1 = some (ty0 k)) (hown : s.vm.findClass own = some m.cls) (hK : wm_K G s) (hc : wm_cl[ci]? = some (C, T, N)) {V : Nat → Value} (hO : wm_O G a ci N V H) (hS0 : va_S A H0 H locs) (hA : A a) (k : Nat) (hk : k < N) (hlink : (Cond.fieldLink own index ref (T k).2.1 (T k).2.2.1) ∈ lw_all) (hsame : ∀ x, s.fieldFound? (T k).1 (T k).2.1 (T k).2.2.1 = some x → s.fieldFound? ref (T k).2.1 (T k).2.2.1 = some x) (hfin : (T k).2.2.2 = true) (hin2 : meth.name = "<init>") (hdecl : (T k).1 = own) {v : Value} (hn : narrow (ty0 k) v = v) (hfit : fits (ty0 k) v = true)
    (hdg : decode cc pc = .ok (.putfield index, 3)) (kk : ∀ (V' : Nat → Value) (H1 : Heap) (locs1 : List Loc), V' k = v → (∀ j, j < N → (T j).2.1 ≠ (T k).2.1 → V' j = V j) → (∀ j, V' j = V j ∨ V' j = v) → wm_O G a ci N V' H1 → H1.size = H.size → (∀ q : Nat, q ≠ a → H1[q]? = H[q]?) → va_S A H0 H1 locs1 → W p l e R s m args below meth c H1 locs1 cells slots Q (F0 m (pc + 3) ls rest)) : W p l e R s m args below meth c H locs cells slots Q (F0 m pc ls (v :: .ref a :: rest)) := by
  obtain ⟨cell, q1, q2, q3, q4⟩ := hO
  obtain ⟨hS, hfc, kC, hkC, hkind⟩ := hK.1 ci _ hc
  obtain ⟨cf, kf, fi, f, hi, hsl⟩ := hS k hk
  have hlay := hts _ (hin _ (u_in_lay hk))
  unfold u_lay at hlay
  rw [if_pos hfin] at hlay
  have hst := (u_facts hfc hkC (u_lays hts hin hk) hi).1
  have hcf : m.cls = cf := by
    obtain ⟨_, _, c', _, _, _, -, -, hf', -, -, -, hown2, -⟩ := Cond.laysFinal_spec hlay
    have e1 : c' = cf := by have := hi.symm.trans hf'; simp at this; exact this.1.symm
    rw [hdecl] at hown2
    rw [← e1]; exact Option.some.inj (hown.symm.trans hown2)
  have h6 := u_fits hfc hkC hkind (Or.inr hlay) hi (hty k hk) hn hfit
  refine W.putFinK hx hb hown (hts _ hlink) (hsame _ hi) hst hcf hin2 (by rw [q2]; exact h6) q1 q3 (by rw [hsl]; exact k2_hasslot (q4 k hk)) rfl rfl hdg fun H' e1 e2 e3 => ?_
  rw [hsl] at e1 ⊢
  refine kk (fun j => if (G.1.2 ci) j = (G.1.2 ci) k then v else V j) H' _ (if_pos rfl) (fun j hj hne => if_neg ?_) (fun j => ?_) ⟨_, e1, q2, q3, fun j hj => ?_⟩ e2 e3 (hS0.put e2 e3 hA)
  · obtain ⟨_, _, _, fb, hib, eb⟩ := hS j hj
    rw [← eb, ← hsl]
    refine u_apart (u_lays hts hin hj) (u_lays hts hin hk) hib hi ?_
    rw [(State.fieldFound?_type hib (hty j hj)).1, (State.fieldFound?_type hi (hty k hk)).1]
    exact hne
  · show (if _ then v else V j) = V j ∨ (if _ then v else V j) = v
    split
    · exact Or.inr rfl
    · exact Or.inl rfl
  · show _ = some (if _ then v else V j)
    have hz : (G.1.2 ci) k < cell.slots.size := k2_hasslot (q4 k hk)
    have hc2 : (cell.setSlot ((G.1.2 ci) k) v).slots = cell.slots.setIfInBounds ((G.1.2 ci) k) v := rfl
    rw [hc2, Array.getElem?_setIfInBounds]
    by_cases z : (G.1.2 ci) j = (G.1.2 ci) k
    · rw [if_pos z, if_pos z.symm, if_pos hz]
    · rw [if_neg z, if_neg (fun q => z q.symm)]
      exact q4 j hj
end WN
