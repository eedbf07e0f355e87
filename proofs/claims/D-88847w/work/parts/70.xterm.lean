/-! THE COMPONENT's TERMS: values of steps, contracts that read alone, calls of a term -/
/-- two put together by a sign -/
def xt_two (g a b : Int32) : Int32 :=
  if g = 37 then (if b = 0 then 0 else jr_ a b) else if g = 38 then (if a = 0 then 0 else if b = 0 then 0 else 1) else if g = 42 then a * b else if g = 43 then a + b else if g = 45 then a - b
  else if g = 47 then (if b = 0 then 0 else a / b) else if g = 60 then (if b ≤ a then 0 else 1) else if g = 61 then (if a = b then 1 else 0) else if g = 62 then (if a ≤ b then 0 else 1) else if a = 0 then (if b = 0 then 0 else 1) else 1
/-- a step on a pile, the top first -/
def xt_step (X : mm_S) (st : List Int32) (s : Int32 × Int32) : List Int32 :=
  if s.1 = 1 then s.2 :: st else if s.1 = 2 then rd_ X 19 s.2 :: st else match st with
  | [] => []
  | a :: st => if s.1 = 3 then (if a = 0 then 1 else 0) :: st else if s.1 = 4 then -a :: st else match st with
    | [] => []
    | b :: st => xt_two s.1 b a :: st
def xt_ev (X : mm_S) (c : xt) (st : List Int32) : List Int32 := c.foldl (xt_step X) st
def xt_val (X : mm_S) (c : xt) : Int32 := (xt_ev X c []).headD 0
/-- how a node stands, its parts no higher than h -/
def xt_nF (G : wm_G) (o : Nat) (c : xt) (a : Nat) (v : Int32) (H : Heap) : Prop := c = [(1, v)] ∧ wm_O G a 14 3 (fun k => if k = 1 then .int v else .ref o) H
def xt_nN (G : wm_G) (o : Nat) (c : xt) (a : Nat) (n : Int32) (H : Heap) : Prop := c = [(2, n)] ∧ 0 ≤ n.toInt ∧ n.toInt < 8 ∧ wm_O G a 13 3 (fun k => if k = 1 then .int n else .ref o) H
def xt_nT (G : wm_G) (o : Nat) (D : xg) (h : Nat) (c : xt) (a : Nat) (b : Int32) (c1 : xt) (a1 : Nat) (H : Heap) : Prop := (b = 0 ∧ c = c1 ++ [(3, 0)] ∨ b = 1 ∧ c = c1 ++ [(4, 0)]) ∧ wm_O G a 12 4 (fun k => if k = 1 then .int b else if k = 2 then .ref a1 else .ref o) H ∧ xt_at G o D H h c1 a1
def xt_nB (G : wm_G) (o : Nat) (D : xg) (h : Nat) (c : xt) (a : Nat) (g : Int32) (c1 c2 : xt) (a1 a2 : Nat) (H : Heap) : Prop := g ∈ xt_sg ∧ c = c1 ++ c2 ++ [(g, 0)] ∧ wm_O G a 15 5 (fun k => if k = 1 then .int g else if k = 2 then .ref a1 else if k = 3 then .ref a2 else .ref o) H ∧ xt_at G o D H h c1 a1 ∧ xt_at G o D H h c2 a2
theorem xt_cases {G : wm_G} {o : Nat} {D : xg} {H : Heap} {h : Nat} {c : xt} {a : Nat} (q : xt_at G o D H (h + 1) c a) : (∃ v, xt_nF G o c a v H) ∨ (∃ n, xt_nN G o c a n H) ∨ (∃ b c1 a1, xt_nT G o D h c a b c1 a1 H) ∨ (∃ g c1 c2 a1 a2, xt_nB G o D h c a g c1 c2 a1 a2 H) := q.2
theorem xt_sg_ne {g : Int32} (h : g ∈ xt_sg) : g ≠ 1 ∧ g ≠ 2 ∧ g ≠ 3 ∧ g ≠ 4 := by
  unfold xt_sg at h
  simp only [List.mem_cons, List.not_mem_nil, or_false] at h
  rcases h with q | q | q | q | q | q | q | q | q | q <;> subst q <;> decide
theorem xt_ev_a (X : mm_S) (c1 c2 : xt) (st : List Int32) : xt_ev X (c1 ++ c2) st = xt_ev X c2 (xt_ev X c1 st) := List.foldl_append
theorem xt_ev_at {G : wm_G} {o : Nat} {D : xg} {H : Heap} (X : mm_S) (h : Nat) : ∀ (c : xt) (a : Nat), xt_at G o D H h c a → ∀ st : List Int32, xt_ev X c st = xt_val X c :: st := by
  induction h with
  | zero => intro c a q; exact q.elim
  | succ h ih =>
    intro c a q
    have key : ∃ v : Int32, ∀ st : List Int32, xt_ev X c st = v :: st := by
      rcases xt_cases q with ⟨v, rfl, -⟩ | ⟨n, rfl, -⟩ | ⟨b, c1, a1, hb, -, q1⟩ | ⟨g, c1, c2, a1, a2, hg, rfl, -, q1, q2⟩
      · exact ⟨v, fun st => rfl⟩
      · exact ⟨rd_ X 19 n, fun st => rfl⟩
      · rcases hb with ⟨-, rfl⟩ | ⟨-, rfl⟩
        · exact ⟨_, fun st => by rw [xt_ev_a, ih c1 a1 q1]; rfl⟩
        · exact ⟨_, fun st => by rw [xt_ev_a, ih c1 a1 q1]; rfl⟩
      · refine ⟨xt_two g (xt_val X c1) (xt_val X c2), fun st => ?_⟩
        rw [xt_ev_a, xt_ev_a, ih c1 a1 q1, ih c2 a2 q2]
        obtain ⟨n1, n2, n3, n4⟩ := xt_sg_ne hg
        show xt_step X _ _ = _
        unfold xt_step
        simp only [if_neg n1, if_neg n2, if_neg n3, if_neg n4]
    obtain ⟨v, hv⟩ := key
    intro st
    have e : xt_val X c = v := by unfold xt_val; rw [hv]; rfl
    rw [hv, e]
theorem xt_val_T {G : wm_G} {o : Nat} {D : xg} {H : Heap} (X : mm_S) {h : Nat} {c : xt} {a : Nat} {b : Int32} {c1 : xt} {a1 : Nat} (q : xt_nT G o D h c a b c1 a1 H) : xt_val X c = if b = 0 then (if xt_val X c1 = 0 then 1 else 0) else -(xt_val X c1) := by
  obtain ⟨hb, -, q1⟩ := q
  rcases hb with ⟨e, rfl⟩ | ⟨e, rfl⟩
  · rw [if_pos e]
    unfold xt_val
    rw [xt_ev_a, xt_ev_at X h c1 a1 q1]
    rfl
  · rw [if_neg (by rw [e]; decide)]
    unfold xt_val
    rw [xt_ev_a, xt_ev_at X h c1 a1 q1]
    rfl
theorem xt_val_B {G : wm_G} {o : Nat} {D : xg} {H : Heap} (X : mm_S) {h : Nat} {c : xt} {a : Nat} {g : Int32} {c1 c2 : xt} {a1 a2 : Nat} (q : xt_nB G o D h c a g c1 c2 a1 a2 H) : xt_val X c = xt_two g (xt_val X c1) (xt_val X c2) := by
  obtain ⟨hg, rfl, -, q1, q2⟩ := q
  obtain ⟨n1, n2, n3, n4⟩ := xt_sg_ne hg
  have e : xt_ev X (c1 ++ c2 ++ [(g, 0)]) [] = [xt_two g (xt_val X c1) (xt_val X c2)] := by
    rw [xt_ev_a, xt_ev_a, xt_ev_at X h c1 a1 q1, xt_ev_at X h c2 a2 q2]
    show xt_step X _ _ = _
    unfold xt_step
    simp only [if_neg n1, if_neg n2, if_neg n3, if_neg n4]
  show (xt_ev X (c1 ++ c2 ++ [(g, 0)]) []).headD 0 = _
  rw [e]
  rfl
/-- a contract that reads alone -/
def xr_Met (l : Launch) (G : wm_G) (o d0 : Nat) (y : MethodName) (ws : List Cond) (d : Nat) (X : mm_S) (E : mm_E) (D : xg) (P : Heap → Prop) (as : List Value) (r : Option Value) : Prop :=
  Met l y ws (wm_rm d) (va_Pc as (fun U => wm_K G U ∧ xn_T U ∧ xx_W G o d0 X E D U.heap ∧ P U.heap)) (pp_Q r) 0 0 (fun _ => False)
theorem xr_start {l : Launch} {G : wm_G} {o d0 : Nat} {y : MethodName} {own : String} {cc : ByteArray} {maxL : Nat} {ret : Option FieldType} {d : Nat} {X : mm_S} {E : mm_E} {D : xg} {P : Heap → Prop} {as : List Value} {r : Option Value} (hy : plainName y.cls = true) (hlen : (lg_sl as).length ≤ maxL) (hOw : y.cls = own)
    (body : ∀ (p : Program) (e : Env) (s : State) (m : MethodId) (below : List Frame) (meth : Method) (c : Code), p.tables.exec = Jvm.exec → c.code = cc → c.maxLocals = maxL → meth.sig.returnType = ret → meth.locks = false → (∀ w ∈ lw_all, w.before as.toArray s = true) → s.vm.findClass own = some m.cls → wm_K G s → xn_T s → xx_W G o d0 X E D s.heap → P s.heap → ∀ ls : Array Slot, lv_has ls maxL (lv_args 0 as) →
      W p l e (wm_rm d) s m as.toArray below meth c s.heap [] 0 0 (MQ below (pp_Q r) as.toArray s 0 0 (fun _ => False)) (F0 m 0 ls [])) : xr_Met l G o d0 y (ws_ y cc maxL ret) d X E D P as r := by
  refine Met.ofW (cc := cc) (maxL := maxL) (ret := ret) hy rfl ?_
  intro p e s m args below meth c s₁ B hml hv
  obtain ⟨rfl, hK, hN, hW, hP⟩ := hv
  have hts := atoms_spec (ws := ws_ y cc maxL ret) B.pre
  have hts : ∀ w ∈ lw_all, w.before _ s = true := fun w h => hts w (List.mem_cons_of_mem _ h)
  have hown : s.vm.findClass own = some m.cls := by rw [← hOw]; exact findClass_of_methodNamed B.named
  have hl := lv_entry as hlen
  rw [lg_entry_eq]
  exact body p e s m below meth c B.exec B.bytes hml B.returns B.notSynchronized hts hown hK hN hW hP _ hl
section XT
variable {p : Program} {l : Launch} {e : Env} {R : Room} {s : State} {m : MethodId} {args : Array Value} {below : List Frame} {meth : Method} {c : Code} {H : Heap} {locs : List Loc} {cells slots : Nat} {Q : State → Prop}
variable {cc : ByteArray} {pc : Nat} {ls : Array Slot} {rest : List Value} {G : wm_G} {o d0 : Nat} {H0 : Heap} {X : mm_S} {E : mm_E} {D : xg}
variable {nL n maxL d index : Nat} {y : MethodName} {bytes : ByteArray} {ret : Option FieldType} {own C : String} {rc : Nat} {st0 : List Value} {P : Heap → Prop}
/-- a term's call, by its kind -/
theorem xr_calli {v0 : Int32} (F : CallFix p m c cc nL s args lw_all own) (hK : wm_K G s) (hN : xn_T s) (hW : xx_W G o d0 X E D H) (hP : P H) (hM : xr_Met l G o d0 y (ws_ y bytes maxL ret) d X E D P [.ref rc] (some (.int v0))) (hg : GoodIn lw_all (va_wsU own index C "ThirtyThreeBelow$Term" ⟨"ThirtyThreeBelow$Term", "value", "()I"⟩ y (ws_ y bytes maxL ret))) (hr : xr_ s H C rc) (hR : d + 1 ≤ R.frames ∧ 8 + (maxL + 11) + 60 * d ≤ R.locals) (hsz : ls.size = nL) (hst : st0 = .ref rc :: rest) (hrest : (rest.map fun v => v.category).sum ≤ 8) (hd : decode cc pc = .ok (.invokevirtual index, 3)) (hroom : cells ≤ R.cells ∧ slots ≤ R.slots)
    (kk : ∀ v : Int32, v = v0 → W p l e R s m args below meth c H locs cells slots Q (F0 m (pc + 3) ls (.int v :: rest))) : W p l e R s m args below meth c H locs cells slots Q (F0 m pc ls st0) := by
  have hr := va_runU (l := l) (H := H) (locs := locs) (cells := cells) (slots := slots) (g := F0 m pc ls st0) (p := p) (e := e) (below := below) (meth := meth) (rest := rest) (As := []) F hM (va_cwA 0 F.2.2.2.2 hg rfl rfl rfl (hN.de q1158) ⟨by decide, by decide, by decide +kernel⟩ hR)
    ⟨fun _ _ g mk q => ⟨q.1, q.2.1.calling g mk _, q.2.2.1, q.2.2.2⟩, hr, fun _ hU hW2 => ⟨rfl, hK.moved hW2.alike, hN.moved hW2, by rw [hU]; exact hW, by rw [hU]; exact hP⟩⟩ rfl rfl hsz hst (lv_room hrest) hd hroom
  intro T hT Z
  obtain ⟨v, st₀, t, T', L, h0, Z', hL, e1, -, ⟨hv, hh⟩, st⟩ := hr T hT Z
  cases hv
  obtain ⟨t2, a1, b1⟩ := kk v0 rfl T' (by rw [e1, hh, h0]) (Stand.forget Z' (fun q h => (hL q h).elim))
  exact ⟨t2, st t2 a1, b1⟩
end XT
def xt_tm : MethodName := ⟨"ThirtyThreeBelow$Term", "value", "()I"⟩
/-- a term no higher than h is called -/
def xt_Call (l : Launch) (h : Nat) : Prop := ∀ {p : Program} {e : Env} {R : Room} {s : State} {m : MethodId} {args : Array Value} {below : List Frame} {meth : Method} {c : Code} {H : Heap} {locs : List Loc} {cells slots : Nat} {Q : State → Prop} {cc : ByteArray} {pc : Nat} {ls : Array Slot} {rest : List Value} {G : wm_G} {o d0 : Nat} {X : mm_S} {E : mm_E} {D : xg} {nL index : Nat} {own : String} {a : Nat} {t : xt},
  CallFix p m c cc nL s args lw_all own → wm_K G s → xn_T s → xx_W G o d0 X E D H → xt_at G o D H h t a → Cond.methodLink own index xt_tm ∈ lw_all → h + 1 ≤ R.frames ∧ 30 + 60 * h ≤ R.locals → ls.size = nL → (rest.map fun v => v.category).sum ≤ 8 → decode cc pc = .ok (.invokevirtual index, 3) → cells ≤ R.cells ∧ slots ≤ R.slots →
  (∀ v : Int32, v = xt_val X t → W p l e R s m args below meth c H locs cells slots Q (F0 m (pc + 3) ls (.int v :: rest))) → W p l e R s m args below meth c H locs cells slots Q (F0 m pc ls (.ref a :: rest))
