/-! WORDS OF THE TABLES that don't ride in the lists; calls that land in an interface's default method -/
set_option maxRecDepth 100000
def xn_ld : List Cond := [(Cond.landsInDefault "ThirtyThreeBelow$Body" ({ cls := "ThirtyThreeBelow$Body", name := "bores", desc := "(I)I" } : MethodName) ({ cls := "ThirtyThreeBelow$Bores", name := "bores", desc := "(I)I" } : MethodName)), (Cond.landsInDefault "ThirtyThreeBelow$Man" ({ cls := "ThirtyThreeBelow$Body", name := "bores", desc := "(I)I" } : MethodName) ({ cls := "ThirtyThreeBelow$Bores", name := "bores", desc := "(I)I" } : MethodName)), (Cond.landsInDefault "ThirtyThreeBelow$Body" ({ cls := "ThirtyThreeBelow$Body", name := "tells", desc := "(I)I" } : MethodName) ({ cls := "ThirtyThreeBelow$Tells", name := "tells", desc := "(I)I" } : MethodName)), (Cond.landsInDefault "ThirtyThreeBelow$Hole" ({ cls := "ThirtyThreeBelow$Body", name := "tells", desc := "(I)I" } : MethodName) ({ cls := "ThirtyThreeBelow$Tells", name := "tells", desc := "(I)I" } : MethodName)), (Cond.landsInDefault "ThirtyThreeBelow$Hole" ({ cls := "ThirtyThreeBelow$Hole", name := "tells", desc := "(I)I" } : MethodName) ({ cls := "ThirtyThreeBelow$Tells", name := "tells", desc := "(I)I" } : MethodName)), (Cond.landsInDefault "ThirtyThreeBelow$Man" ({ cls := "ThirtyThreeBelow$Body", name := "tells", desc := "(I)I" } : MethodName) ({ cls := "ThirtyThreeBelow$Tells", name := "tells", desc := "(I)I" } : MethodName)), (Cond.landsInDefault "ThirtyThreeBelow$Shelter" ({ cls := "ThirtyThreeBelow$Body", name := "tells", desc := "(I)I" } : MethodName) ({ cls := "ThirtyThreeBelow$Tells", name := "tells", desc := "(I)I" } : MethodName)), (Cond.landsInDefault "ThirtyThreeBelow$Tube" ({ cls := "ThirtyThreeBelow$Body", name := "tells", desc := "(I)I" } : MethodName) ({ cls := "ThirtyThreeBelow$Tells", name := "tells", desc := "(I)I" } : MethodName)), (Cond.landsInDefault "ThirtyThreeBelow$Way" ({ cls := "ThirtyThreeBelow$Body", name := "tells", desc := "(I)I" } : MethodName) ({ cls := "ThirtyThreeBelow$Tells", name := "tells", desc := "(I)I" } : MethodName))]
def xn_nl : List Cond := [(Cond.not (.castable "ThirtyThreeBelow$Body" "ThirtyThreeBelow$Hole")), (Cond.not (.castable "ThirtyThreeBelow$Body" "ThirtyThreeBelow$Tube")), (Cond.not (.castable "ThirtyThreeBelow$Body" "ThirtyThreeBelow$Shaft")), (Cond.not (.castable "ThirtyThreeBelow$Body" "ThirtyThreeBelow$Man")), (Cond.not (.castable "ThirtyThreeBelow$Way" "ThirtyThreeBelow$Hole")), (Cond.not (.castable "ThirtyThreeBelow$Way" "ThirtyThreeBelow$Tube")), (Cond.not (.castable "ThirtyThreeBelow$Way" "ThirtyThreeBelow$Shaft")), (Cond.not (.castable "ThirtyThreeBelow$Way" "ThirtyThreeBelow$Man")), (Cond.not (.castable "ThirtyThreeBelow$Hole" "ThirtyThreeBelow$Tube")), (Cond.not (.castable "ThirtyThreeBelow$Hole" "ThirtyThreeBelow$Shaft")), (Cond.not (.castable "ThirtyThreeBelow$Hole" "ThirtyThreeBelow$Man")), (Cond.not (.castable "ThirtyThreeBelow$Tube" "ThirtyThreeBelow$Shaft")), (Cond.not (.castable "ThirtyThreeBelow$Tube" "ThirtyThreeBelow$Man")), (Cond.not (.castable "ThirtyThreeBelow$Shaft" "ThirtyThreeBelow$Tube")), (Cond.not (.castable "ThirtyThreeBelow$Shaft" "ThirtyThreeBelow$Man")), (Cond.not (.castable "ThirtyThreeBelow$Liner" "ThirtyThreeBelow$Tube")), (Cond.not (.castable "ThirtyThreeBelow$Liner" "ThirtyThreeBelow$Man")), (Cond.not (.castable "ThirtyThreeBelow$Shelter" "ThirtyThreeBelow$Hole")), (Cond.not (.castable "ThirtyThreeBelow$Shelter" "ThirtyThreeBelow$Tube")), (Cond.not (.castable "ThirtyThreeBelow$Shelter" "ThirtyThreeBelow$Shaft")), (Cond.not (.castable "ThirtyThreeBelow$Shelter" "ThirtyThreeBelow$Man")), (Cond.not (.castable "ThirtyThreeBelow$Man" "ThirtyThreeBelow$Hole")), (Cond.not (.castable "ThirtyThreeBelow$Man" "ThirtyThreeBelow$Tube")), (Cond.not (.castable "ThirtyThreeBelow$Man" "ThirtyThreeBelow$Shaft")), (Cond.not (.castable "ThirtyThreeBelow$Body" "[B")), (Cond.not (.castable "ThirtyThreeBelow$Body" "[C")), (Cond.not (.castable "ThirtyThreeBelow$Body" "[I")), (Cond.not (.castable "ThirtyThreeBelow$Body" "[F")), (Cond.not (.castable "ThirtyThreeBelow$Body" "[D")), (Cond.not (.castable "ThirtyThreeBelow$Way" "[B")), (Cond.not (.castable "ThirtyThreeBelow$Way" "[C")), (Cond.not (.castable "ThirtyThreeBelow$Way" "[I")), (Cond.not (.castable "ThirtyThreeBelow$Way" "[F")), (Cond.not (.castable "ThirtyThreeBelow$Way" "[D")), (Cond.not (.castable "ThirtyThreeBelow$Hole" "[B")), (Cond.not (.castable "ThirtyThreeBelow$Hole" "[C")), (Cond.not (.castable "ThirtyThreeBelow$Hole" "[I")), (Cond.not (.castable "ThirtyThreeBelow$Hole" "[F")), (Cond.not (.castable "ThirtyThreeBelow$Hole" "[D")), (Cond.not (.castable "ThirtyThreeBelow$Tube" "[B")), (Cond.not (.castable "ThirtyThreeBelow$Tube" "[C")), (Cond.not (.castable "ThirtyThreeBelow$Tube" "[I")), (Cond.not (.castable "ThirtyThreeBelow$Tube" "[F")), (Cond.not (.castable "ThirtyThreeBelow$Tube" "[D")), (Cond.not (.castable "ThirtyThreeBelow$Shaft" "[B")), (Cond.not (.castable "ThirtyThreeBelow$Shaft" "[C")), (Cond.not (.castable "ThirtyThreeBelow$Shaft" "[I")), (Cond.not (.castable "ThirtyThreeBelow$Shaft" "[F")), (Cond.not (.castable "ThirtyThreeBelow$Shaft" "[D")), (Cond.not (.castable "ThirtyThreeBelow$Liner" "[B")), (Cond.not (.castable "ThirtyThreeBelow$Liner" "[C")), (Cond.not (.castable "ThirtyThreeBelow$Liner" "[I")), (Cond.not (.castable "ThirtyThreeBelow$Liner" "[F")), (Cond.not (.castable "ThirtyThreeBelow$Liner" "[D")), (Cond.not (.castable "ThirtyThreeBelow$Shelter" "[B")), (Cond.not (.castable "ThirtyThreeBelow$Shelter" "[C")), (Cond.not (.castable "ThirtyThreeBelow$Shelter" "[I")), (Cond.not (.castable "ThirtyThreeBelow$Shelter" "[F")), (Cond.not (.castable "ThirtyThreeBelow$Shelter" "[D")), (Cond.not (.castable "ThirtyThreeBelow$Man" "[B")), (Cond.not (.castable "ThirtyThreeBelow$Man" "[C")), (Cond.not (.castable "ThirtyThreeBelow$Man" "[I")), (Cond.not (.castable "ThirtyThreeBelow$Man" "[F")), (Cond.not (.castable "ThirtyThreeBelow$Man" "[D")), (Cond.not (.castable "[B" "[C")), (Cond.not (.castable "[B" "[I")), (Cond.not (.castable "[B" "[F")), (Cond.not (.castable "[B" "[D")), (Cond.not (.castable "[B" "ThirtyThreeBelow$Body")), (Cond.not (.castable "[C" "[B")), (Cond.not (.castable "[C" "[I")), (Cond.not (.castable "[C" "[F")), (Cond.not (.castable "[C" "[D")), (Cond.not (.castable "[C" "ThirtyThreeBelow$Body")), (Cond.not (.castable "[I" "[B")), (Cond.not (.castable "[I" "[C")), (Cond.not (.castable "[I" "[F")), (Cond.not (.castable "[I" "[D")), (Cond.not (.castable "[I" "ThirtyThreeBelow$Body")), (Cond.not (.castable "[F" "[B")), (Cond.not (.castable "[F" "[C")), (Cond.not (.castable "[F" "[I")), (Cond.not (.castable "[F" "[D")), (Cond.not (.castable "[F" "ThirtyThreeBelow$Body")), (Cond.not (.castable "[D" "[B")), (Cond.not (.castable "[D" "[C")), (Cond.not (.castable "[D" "[I")), (Cond.not (.castable "[D" "[F")), (Cond.not (.castable "[D" "ThirtyThreeBelow$Body"))]
def xn_T (U : State) : Prop := ∃ (a0 : Array Value) (s0 : State), s0.WarmedH U.vm ∧ (∀ w ∈ lw_tbl, w.before a0 s0 = true) ∧ (∀ w ∈ defaultWords_1, w.before a0 s0 = true) ∧ (∀ w ∈ xn_ld, w.before a0 s0 = true) ∧ (∀ w ∈ xn_nl, w.before a0 s0 = true)
theorem xn_T.moved {u U : State} (h : xn_T u) (hW : u.WarmedH U.vm) : xn_T U := by
  obtain ⟨a0, s0, h1, h2⟩ := h
  exact ⟨a0, s0, State.WarmedH.trans h1 hW, h2⟩
theorem xn_T.calling {U : State} (g : JFrame) (mk : MethodId) (a : Array Value) (h : xn_T U) : xn_T (U.calling g mk a) := h
theorem xn_T.nf {U : State} (h : xn_T U) {a : String} {i : Nat} {b n d hh : String} (hw : (Cond.fieldLinkNest a i b n d hh) ∈ lw_tbl) : va_Nw (.fieldLinkNest a i b n d hh) U := by
  obtain ⟨a0, s0, h1, h2, -⟩ := h
  exact va_Nw.warmF h1 (va_Nw.of rfl (h2 _ hw))
theorem xn_T.nm {U : State} (h : xn_T U) {a : String} {i : Nat} {x : MethodName} {hh : String} (hw : (Cond.methodLinkNest a i x hh) ∈ lw_tbl) : va_Nw (.methodLinkNest a i x hh) U := by
  obtain ⟨a0, s0, h1, h2, -⟩ := h
  exact va_Nw.warmM h1 (va_Nw.of rfl (h2 _ hw))
theorem xn_T.ca {U : State} (h : xn_T U) {C T : String} (hw : (Cond.castable C T) ∈ lw_tbl) : va_Nw (.castable C T) U := by
  obtain ⟨a0, s0, h1, h2, -⟩ := h
  exact va_Nw.warmC h1 (va_Nw.of rfl (h2 _ hw))
theorem xn_T.de {U : State} (h : xn_T U) {x : MethodName} (hw : (Cond.declares x) ∈ lw_tbl) : va_Nw (.declares x) U := by
  obtain ⟨a0, s0, h1, h2, -⟩ := h
  exact va_Nw.warmD h1 (va_Nw.of rfl (h2 _ hw))
theorem xn_T.fw {U : State} (h : xn_T U) {C : String} {x y : MethodName} (hx : x.cls ≠ "java/lang/invoke/MethodHandle" ∧ x.cls ≠ "java/lang/invoke/VarHandle") (w1 : (Cond.declares x) ∈ lw_tbl) (w2 : (Cond.interfaceMethod x.cls x.cls x.name x.desc) ∈ lw_tbl) (w3 : (Cond.publicMethod y) ∈ lw_tbl) (w4 : (Cond.unhidden C x.name x.desc) ∈ lw_tbl) (w5 : (Cond.castable C x.cls) ∈ lw_tbl) : va_Fw C x y U := by
  obtain ⟨a0, s0, h1, h2, -⟩ := h
  exact va_Fw.moved hx h1.alike (va_Fw.of (h2 _ w1) (h2 _ w2) (h2 _ w3) (h2 _ w4) (h2 _ w5))
theorem xn_T.nc {U : State} (h : xn_T U) {C T : String} (hw : (Cond.not (.castable C T)) ∈ xn_nl) : va_Nc C T U := by
  obtain ⟨a0, s0, h1, -, -, -, h2⟩ := h
  exact va_Nc.moved h1.alike (va_Nc.of (h2 _ hw))
theorem xn_T.ml {U : State} (h : xn_T U) {own : String} {i : Nat} {x : MethodName} (hw : (Cond.methodLink own i x) ∈ defaultWords_1) (args : Array Value) : (Cond.methodLink own i x).before args U = true := by
  obtain ⟨a0, s0, h1, -, h2, -⟩ := h
  exact word_at h1 (Or.inl (by first | rfl | simp [Cond.onTables, Cond.keeps, Cond.steady])) (h2 _ hw)
theorem xn_T.sm {U : State} (h : xn_T U) {a b c d : String} (hw : (Cond.sameMethod a b c d) ∈ defaultWords_1) (args : Array Value) : (Cond.sameMethod a b c d).before args U = true := by
  obtain ⟨a0, s0, h1, -, h2, -⟩ := h
  exact word_at h1 (Or.inl (by first | rfl | simp [Cond.onTables, Cond.keeps, Cond.steady])) (h2 _ hw)
theorem xn_T.ld {U : State} (h : xn_T U) {C : String} {x y : MethodName} (hw : (Cond.landsInDefault C x y) ∈ xn_ld) (args : Array Value) : (Cond.landsInDefault C x y).before args U = true := by
  obtain ⟨a0, s0, h1, -, -, h2, -⟩ := h
  have e := Cond.landsInDefault_setVm (args := a0) (args' := a0) (s := s0) (vm' := U.vm) h1.alike (cls := C) (x := x) (y := y) (State.methodFound?_setVm h1.alike x.cls x.name x.desc)
  have e2 : (Cond.landsInDefault C x y).before args U = (Cond.landsInDefault C x y).before a0 (s0.setVm U.vm) := by
    simp only [Cond.before, Cond.holds, Cond.value, State.methodFound?, State.methodNamed?, State.vm_setVm]
  exact e2.trans (e.trans (h2 _ hw))
/-! a road up the superclasses is no longer than there are classes -/
theorem xs_short : ∀ (N : Nat) (L : List Nat), L.Nodup → (∀ x ∈ L, x < N) → L.length ≤ N := by
  intro N
  induction N with
  | zero =>
    intro L _ h
    cases L with
    | nil => exact Nat.le_refl _
    | cons x L => exact absurd (h x List.mem_cons_self) (Nat.not_lt_zero _)
  | succ N ih =>
    intro L hn h
    by_cases q : N ∈ L
    · have e := List.length_erase_of_mem q
      have h1 := ih (L.erase N) (hn.erase N) (fun x hx => by
        have h2 := h x (List.mem_of_mem_erase hx)
        have h3 : x ≠ N := fun z => by rw [z] at hx; exact hn.not_mem_erase hx
        omega)
      have : 0 < L.length := List.length_pos_of_mem q
      omega
    · have h1 := ih L hn (fun x hx => by
        have h2 := h x hx
        have h3 : x ≠ N := fun z => q (z ▸ hx)
        omega)
      omega
/-- a road from c up to the first class that declares the name -/
def xs_road (vm : Vm) (name desc : String) (m : MethodId) : List ClassId → ClassId → Prop
  | [], _ => False
  | x :: L, c => x = c ∧ ∃ k, vm.classes[c]? = some k ∧ ((∃ i, k.findMethod name desc = some i ∧ m = ⟨c, i⟩ ∧ L = []) ∨ (k.findMethod name desc = none ∧ ∃ q, k.super = some q ∧ xs_road vm name desc m L q))
theorem xs_r1 {vm : Vm} {name desc : String} : ∀ (n : Nat) (c : ClassId) (m : MethodId), lookupInSuperclasses vm name desc n c = some m → ∃ L, xs_road vm name desc m L c := by
  intro n
  induction n with
  | zero => intro c m h; simp [lookupInSuperclasses] at h
  | succ n ih =>
    intro c m h
    unfold lookupInSuperclasses at h
    cases hk : vm.classes[c]? with
    | none => simp [hk] at h
    | some k =>
      simp only [hk, Option.bind_eq_bind, Option.bind_some] at h
      cases hf : k.findMethod name desc with
      | some i =>
        simp only [hf, Option.some.injEq] at h
        exact ⟨[c], rfl, k, hk, Or.inl ⟨i, hf, h.symm, rfl⟩⟩
      | none =>
        simp only [hf] at h
        cases hs : k.super with
        | none => simp [hs] at h
        | some q =>
          simp only [hs, Option.bind_some] at h
          obtain ⟨L, hL⟩ := ih q m h
          exact ⟨c :: L, rfl, k, hk, Or.inr ⟨hf, q, hs, hL⟩⟩
theorem xs_r5 {vm : Vm} {name desc : String} {m : MethodId} : ∀ (L : List ClassId) (c : ClassId) (n : Nat), xs_road vm name desc m L c → L.length ≤ n → lookupInSuperclasses vm name desc n c = some m := by
  intro L
  induction L with
  | nil => intro c n h _; exact h.elim
  | cons x L ih =>
    intro c n h hn
    obtain ⟨rfl, k, hk, h⟩ := h
    cases n with
    | zero => simp at hn
    | succ n =>
      unfold lookupInSuperclasses
      rcases h with ⟨i, hf, rfl, rfl⟩ | ⟨hf, q, hs, hL⟩
      · simp [hk, hf]
      · have := ih q n hL (by simp at hn; omega)
        simp [hk, hf, hs, this]
theorem xs_r3 {vm : Vm} {name desc : String} {m : MethodId} : ∀ (L : List ClassId) (q c : ClassId), xs_road vm name desc m L q → L.Nodup → c ∈ L → ∃ L', xs_road vm name desc m L' c ∧ L'.Nodup := by
  intro L
  induction L with
  | nil => intro q c h; exact h.elim
  | cons x L ih =>
    intro q c h hn hc
    rcases List.mem_cons.mp hc with e | hc
    · have e2 := h.1
      subst e
      subst e2
      exact ⟨_, h, hn⟩
    · obtain ⟨-, k, -, h⟩ := h
      rcases h with ⟨i, -, -, rfl⟩ | ⟨-, q2, -, hL⟩
      · cases hc
      · exact ih q2 c hL (List.nodup_cons.mp hn).2 hc
theorem xs_r2 {vm : Vm} {name desc : String} {m : MethodId} : ∀ (L : List ClassId) (c : ClassId), xs_road vm name desc m L c → ∃ L', xs_road vm name desc m L' c ∧ L'.Nodup := by
  intro L
  induction L with
  | nil => intro c h; exact h.elim
  | cons x L ih =>
    intro c h
    obtain ⟨rfl, k, hk, h⟩ := h
    rcases h with ⟨i, hf, e, rfl⟩ | ⟨hf, q, hs, hL⟩
    · exact ⟨[x], ⟨rfl, k, hk, Or.inl ⟨i, hf, e, rfl⟩⟩, by simp⟩
    · obtain ⟨L', h1, h2⟩ := ih q hL
      by_cases hx : x ∈ L'
      · exact xs_r3 L' q x h1 h2 hx
      · exact ⟨x :: L', ⟨rfl, k, hk, Or.inr ⟨hf, q, hs, h1⟩⟩, List.nodup_cons.mpr ⟨hx, h2⟩⟩
theorem xs_r4 {vm : Vm} {name desc : String} {m : MethodId} : ∀ (L : List ClassId) (c : ClassId), xs_road vm name desc m L c → ∀ x ∈ L, x < vm.classes.size := by
  intro L
  induction L with
  | nil => intro c h; exact h.elim
  | cons x L ih =>
    intro c h y hy
    obtain ⟨rfl, k, hk, h⟩ := h
    rcases List.mem_cons.mp hy with rfl | hy
    · exact (Array.getElem?_eq_some_iff.mp hk).1
    · rcases h with ⟨i, -, -, rfl⟩ | ⟨-, q, -, hL⟩
      · cases hy
      · exact ih q hL y hy
theorem xs_more {vm : Vm} {name desc : String} {n : Nat} {c : ClassId} {m : MethodId} (h : lookupInSuperclasses vm name desc n c = some m) : lookupInSuperclasses vm name desc (vm.classes.size + 1) c = some m := by
  obtain ⟨L, hL⟩ := xs_r1 n c m h
  obtain ⟨L', h1, h2⟩ := xs_r2 L c hL
  have := xs_short vm.classes.size L' h2 (xs_r4 L' c h1)
  exact xs_r5 L' c _ h1 (by omega)
theorem xs_own {vm : Vm} {name desc : String} : ∀ (n : Nat) (c : ClassId) (y : MethodId), y ∈ (ownMethod vm name desc c).toList ++ (vm.superclassesAux n c).filterMap (ownMethod vm name desc) → ∃ k m, lookupInSuperclasses vm name desc k c = some m := by
  have own : ∀ (c : ClassId) (y : MethodId), y ∈ (ownMethod vm name desc c).toList → ∃ k m, lookupInSuperclasses vm name desc k c = some m := by
    intro c y h
    cases hk : vm.classes[c]? with
    | none => simp [ownMethod, hk] at h
    | some k =>
      cases hf : k.findMethod name desc with
      | none => simp [ownMethod, hk, hf] at h
      | some i => exact ⟨1, ⟨c, i⟩, by simp [lookupInSuperclasses, hk, hf]⟩
  intro n
  induction n with
  | zero =>
    intro c y h
    rcases List.mem_append.mp h with h | h
    · exact own c y h
    · simp [Vm.superclassesAux] at h
  | succ n ih =>
    intro c y h
    rcases List.mem_append.mp h with h | h
    · exact own c y h
    · cases hk : vm.classes[c]? with
      | none => simp [Vm.superclassesAux, hk] at h
      | some k =>
        cases hs : k.super with
        | none => simp [Vm.superclassesAux, hk, hs] at h
        | some q =>
          have haux : vm.superclassesAux (n + 1) c = q :: vm.superclassesAux n q := by simp [Vm.superclassesAux, hk, hs]
          rw [haux, List.filterMap_cons] at h
          have h2 : y ∈ (ownMethod vm name desc q).toList ++ (vm.superclassesAux n q).filterMap (ownMethod vm name desc) := by
            cases ho : ownMethod vm name desc q with
            | none => rw [ho] at h; simpa using h
            | some z => rw [ho] at h; simpa using h
          obtain ⟨k2, m, hm⟩ := ih q y h2
          cases hf : k.findMethod name desc with
          | some i => exact ⟨1, ⟨c, i⟩, by simp [lookupInSuperclasses, hk, hf]⟩
          | none => exact ⟨k2 + 1, m, by simp [lookupInSuperclasses, hk, hf, hs, hm]⟩
theorem xs_sel {vm : Vm} {mR : MethodId} {name desc : String} : ∀ (n : Nat) (c : ClassId) (z : MethodId), selectInSuperclasses vm mR name desc n c = some z → ∃ k m, lookupInSuperclasses vm name desc k c = some m := by
  intro n
  induction n with
  | zero => intro c z h; simp [selectInSuperclasses] at h
  | succ n ih =>
    intro c z h
    unfold selectInSuperclasses at h
    cases hk : vm.classes[c]? with
    | none => simp [hk] at h
    | some k =>
      cases hf : k.findMethod name desc with
      | some i => exact ⟨1, ⟨c, i⟩, by simp [lookupInSuperclasses, hk, hf]⟩
      | none =>
        cases hs : k.super with
        | none => simp [hk, hf, hs] at h
        | some q =>
          have h2 : selectInSuperclasses vm mR name desc n q = some z := by simpa [hk, hf, hs] using h
          obtain ⟨k2, m, hm⟩ := ih q z h2
          exact ⟨k2 + 1, m, by simp [lookupInSuperclasses, hk, hf, hs, hm]⟩
/-- where a call on an object of C itself lands in a default, super.m of a class right below C runs it -/
theorem xs_special {args : Array Value} {s : State} {C : String} {x : MethodName} {cn : ClassId} {ck : Class} {r0 : MethodId} {r : Method} {y : MethodName} (hcn : s.vm.findClass C = some cn) (hck : s.vm.classes[cn]? = some ck) (hni : ck.isInterface = false) (hup : s.vm.lookupUp cn x.name x.desc = some r0) (hrm : s.vm.method? r0 = some r) (hst : r.isStatic = false) (hrn : r.name = x.name) (hrd : r.desc = x.desc)
    (hf : s.methodFound? x.cls x.name x.desc = some r0) (hy : s.methodNamed? y = some r0) (h : (Cond.landsInDefault C x y).before args s = true) : lookupSpecial s.vm cn x.name x.desc = .method r0 := by
  simp only [Cond.before, Cond.holds, Cond.value, hcn, hf, hy, hrm, Option.map_some, beq_iff_eq, Option.some.injEq, hrn, hrd] at h
  cases hl : lookupInSuperclasses s.vm x.name x.desc (s.vm.classes.size + 1) cn with
  | some z =>
    have e : z = r0 := by simpa [Vm.lookupUp, hl] using hup
    subst e
    exact lookupSpecial_of_superclasses hck hni hl hrm hst
  | none =>
    have hno : ∀ k m, lookupInSuperclasses s.vm x.name x.desc k cn ≠ some m := fun k m q => by rw [xs_more q] at hl; cases hl
    have hlist : ((s.vm.classes[cn]?.bind (·.findMethod x.name x.desc)).map fun i => (⟨cn, i⟩ : MethodId)).toList ++ superclassMethods s.vm cn x.name x.desc = [] := by
      apply List.eq_nil_iff_forall_not_mem.mpr
      intro y hy
      obtain ⟨k, m, hm⟩ := xs_own (vm := s.vm) (name := x.name) (desc := x.desc) (s.vm.classes.size + 1) cn y hy
      exact hno k m hm
    have hsel : selectInSuperclasses s.vm r0 x.name x.desc (s.vm.classes.size + 1) cn = none := by
      cases hz : selectInSuperclasses s.vm r0 x.name x.desc (s.vm.classes.size + 1) cn with
      | none => rfl
      | some z =>
        obtain ⟨k, m, hm⟩ := xs_sel _ _ _ hz
        exact absurd hm (hno k m)
    have hfilter : (superclassMethods s.vm cn x.name x.desc).filter (fun m => !(s.vm.classes[cn]?).any (·.isInterface) || (s.vm.method? m).any fun x => hasFlag x.accessFlags Acc.public_) = superclassMethods s.vm cn x.name x.desc := by
      apply List.filter_eq_self.mpr
      intro a _
      simp [hck, hni]
    have h2 : lookupSpecial s.vm cn x.name x.desc = match (maximallySpecific s.vm cn x.name x.desc).filter fun m => (s.vm.method? m).any (!·.isAbstract) with
      | [m] => .method m
      | [] => .none
      | _ => .several := by
      unfold lookupSpecial
      simp only [hfilter, hlist]
      rfl
    rw [h2]
    split at h
    · rename_i m' hs
      simp only [Bool.and_eq_true, decide_eq_true_eq, Bool.not_eq_true', Option.any_eq_true] at h
      obtain ⟨⟨⟨⟨rfl, mk, hmk, hi⟩, hpr⟩, -⟩, -⟩ := h
      unfold selectMethod at hs
      simp only [hrm, hrn, hrd, hpr, hsel, hmk, Option.any_some, hi, Bool.false_eq_true, if_false, Bool.not_true, Bool.and_false] at hs
      split at hs
      · cases hs
      · exact hs
    · cases h
section XLD
variable {p : Program} {l : Launch} {e : Env} {R : Room} {s : State} {m : MethodId} {args : Array Value} {below : List Frame} {meth : Method} {c : Code} {H : Heap} {locs : List Loc} {cells slots : Nat}
variable {y : MethodName} {bytes cc : ByteArray} {maxL nL mc ms n index : Nat} {ret : Option FieldType} {ws ws' : List Cond} {rm : Room} {Pc : Array Value → State → Prop} {Qc : Array Value → State → Outcome → State → Prop} {free : Addr → Prop} {Ts : List Cond} {own C owner : String} {x : MethodName} {b : Addr} {As rest : List Value} {g : JFrame}
/-- the words of a callee that is known: its code, its class -/
abbrev xl_B (R : Room) (s : State) (args : Array Value) (y : MethodName) (bytes : ByteArray) (maxL : Nat) (ret : Option FieldType) (ws : List Cond) (rm : Room) (mc ms : Nat) : Prop :=
  (rm.cells = mc ∧ rm.slots = ms ∧ rm.frames + 1 ≤ R.frames ∧ 8 + (maxL + 11) + rm.locals ≤ R.locals ∧ (∀ w ∈ ws, ∀ (a' : Array Value) (U : State), s.WarmedH U.vm → w.before a' U = true) ∧ Cond.code y bytes maxL ret ∈ ws) ∧ (Cond.code y bytes maxL ret).before args s = true ∧ (Cond.initialized y.cls).before args s = true ∧ (Cond.instanceMethod y).before args s = true
theorem xl_b (ht : ∀ w ∈ Ts, w.before args s = true) (hG : GoodIn Ts ws) (hw : ws = Cond.code y bytes maxL ret :: ws') (hrc : rm.cells = mc) (hrs : rm.slots = ms) (hini : Cond.initialized y.cls ∈ Ts) (hinst : Cond.instanceMethod y ∈ Ts) (hR : rm.frames + 1 ≤ R.frames ∧ 8 + (maxL + 11) + rm.locals ≤ R.locals) : xl_B R s args y bytes maxL ret ws rm mc ms := by
  have hc : Cond.code y bytes maxL ret ∈ ws := by rw [hw]; exact List.mem_cons_self
  exact ⟨⟨hrc, hrs, hR.1, hR.2, pay_in ht hG, hc⟩, ht _ (hG _ hc).1, ht _ hini, ht _ hinst⟩
/-- invokevirtual of a name that its class has from an interface's default; the receiver's class has a method of its own -/
theorem va_runVC (S : CallFix p m c cc nL s args Ts own) (hM : Met l y ws rm Pc Qc mc ms free) (cw : xl_B R s args y bytes maxL ret ws rm mc ms) (hlink : (Cond.methodLink own index x).before args s = true) (hsame : (Cond.sameMethod x.cls owner x.name x.desc).before args s = true) (hd0 : va_Decl s ⟨owner, x.name, x.desc⟩) (howner : owner ≠ "java/lang/invoke/MethodHandle" ∧ owner ≠ "java/lang/invoke/VarHandle")
    (hsel : (Cond.selects C ⟨owner, x.name, x.desc⟩ y).before args s = true) (hlen : (parseMethodDescriptor x.desc).map (fun d => d.parameters.length) = some n) (hp : PreV s H C b Pc As)
    (hg : g.method = m) (hn : As.length = n) (hsize : g.locals.size = nL) (hstack : g.stack = As.reverse ++ .ref b :: rest) (hW : 2 * g.monitorRoom + (rest.map fun v => v.category).sum ≤ 8) (hdg : decode cc g.pc = .ok (.invokevirtual index, 3)) (hf : cells + mc ≤ R.cells ∧ slots + ms ≤ R.slots) :
    va_Run p l e R s m args below meth c H locs cells slots mc ms g rest (Qc (Value.ref b :: As).toArray) (free) := by
  obtain ⟨⟨hrc, hrs, hfr, hlo, hws, hcw⟩, hcode, hini, hinst⟩ := cw
  have hK : Back l R p e below s args y 3 8 (PreOf R mc ms Pc) (PostOf Qc mc ms free) := back_of (bytes := bytes) (maxL := maxL) (ret := ret) hM hp.1 hrc hrs hfr hlo hws hcw (fun a' U hW => word_at hW (Or.inl (by first | rfl | simp [Cond.onTables, Cond.keeps, Cond.steady])) hini)
  obtain ⟨hx, hb, hml, ho, -⟩ := S
  obtain ⟨-, ⟨cellB, hcB, hoB, hclB⟩, hPc⟩ := hp
  intro T hT X
  obtain ⟨r0, r, hnn, hrm, hstR, hsigR⟩ := hd0
  obtain ⟨cn, ck, r1, hcn, hck, hni, hfd, hn1⟩ := Cond.sameMethod_found hsame
  cases hnn.symm.trans hn1
  obtain ⟨mk, methM, hnamed, hmethM, -, habM⟩ := Cond.instanceMethod_spec hinst
  obtain ⟨c2, r2, m2, q1, q2, q3, q4, kP, hkP, hkPi⟩ := Cond.selects_spec hsel
  cases hclB.symm.trans q1
  cases (State.methodFound?_of_named hnn howner).symm.trans q2
  cases hnamed.symm.trans q3
  have hselP : selectMethod e.platform s.vm cellB.cls r0 = .method mk := by rw [Launch.admits_selectMethod X.admits]; exact q4
  have hpar : As.length = r.sig.parameters.length := by
    rw [hsigR] at hlen
    exact hn.trans (Option.some.inj hlen).symm
  obtain ⟨vm₁, X₁, hstep₁⟩ := X.invokevirtualUp hx ho hlink hsame howner hnn hrm hstR (a := b) (cell := cellB) (by rw [hT]; exact hcB)
    (fun z h => by rw [h] at hoB; cases hoB) hselP hmethM habM hkP hkPi (g := g) hg (argsL := As) (rest := rest) hpar hstack (by rw [hb]; exact hdg)
  obtain ⟨v, B, X', ⟨g', mk', t, L, e1, e2, hq, h1, hL, h2, h3⟩, hsteps⟩ := hK m meth c ⟨T.setVm vm₁, locs, cells, slots⟩ { g with stack := rest } (.invokevirtual index) mk (Value.ref b :: As).toArray X₁ hg (hsize.trans hml.symm) (by rw [hb]; exact hdg) hW (X₁.named hnamed) ⟨hf.1, hf.2, hPc (T.setVm vm₁) hT X₁.warmed⟩
  obtain ⟨U', l2, c2', s2⟩ := B
  dsimp only [Pt.U, Pt.locs, Pt.cells, Pt.slots] at X' e1 e2 h1 h2 h3 hsteps
  subst h1; subst h2; subst h3
  exact ⟨v, (T.setVm vm₁).calling g' mk' (Value.ref b :: As).toArray, t, U', L, hT, X', hL, e1, e2, hq, fun target h => hstep₁ _ fun acts => by rw [doInvoke_state]; exact hsteps.trans h⟩
/-- .. and the receiver's class has none of its own: the default -/
theorem va_runVD (S : CallFix p m c cc nL s args Ts own) (hM : Met l y ws rm Pc Qc mc ms free) (cw : xl_B R s args y bytes maxL ret ws rm mc ms) (hlink : (Cond.methodLink own index x).before args s = true) (hsame : (Cond.sameMethod x.cls owner x.name x.desc).before args s = true) (hdecl : (Cond.declares ⟨owner, x.name, x.desc⟩).before args s = true) (howner : owner ≠ "java/lang/invoke/MethodHandle" ∧ owner ≠ "java/lang/invoke/VarHandle")
    (hsel : (Cond.landsInDefault C x y).before args s = true) (hlen : (parseMethodDescriptor x.desc).map (fun d => d.parameters.length) = some n) (hp : PreV s H C b Pc As)
    (hg : g.method = m) (hn : As.length = n) (hsize : g.locals.size = nL) (hstack : g.stack = As.reverse ++ .ref b :: rest) (hW : 2 * g.monitorRoom + (rest.map fun v => v.category).sum ≤ 8) (hdg : decode cc g.pc = .ok (.invokevirtual index, 3)) (hf : cells + mc ≤ R.cells ∧ slots + ms ≤ R.slots) :
    va_Run p l e R s m args below meth c H locs cells slots mc ms g rest (Qc (Value.ref b :: As).toArray) (free) := by
  obtain ⟨⟨hrc, hrs, hfr, hlo, hws, hcw⟩, hcode, hini, hinst⟩ := cw
  have hK : Back l R p e below s args y 3 8 (PreOf R mc ms Pc) (PostOf Qc mc ms free) := back_of (bytes := bytes) (maxL := maxL) (ret := ret) hM hp.1 hrc hrs hfr hlo hws hcw (fun a' U hW => word_at hW (Or.inl (by first | rfl | simp [Cond.onTables, Cond.keeps, Cond.steady])) hini)
  obtain ⟨hx, hb, hml, ho, -⟩ := S
  obtain ⟨-, ⟨cellB, hcB, hoB, hclB⟩, hPc⟩ := hp
  intro T hT X
  have hl2 : ∀ sig, parseMethodDescriptor x.desc = some sig → As.length = sig.parameters.length := fun sig h => by
    rw [h] at hlen
    exact hn.trans (Option.some.inj hlen).symm
  obtain ⟨v, vm₁, ⟨U', l2, c2, s2⟩, hW₁, X', ⟨g', mk, t, L, e1, e2, hq, h1, hL, h2, h3⟩, st⟩ := X.virtualBackUpD hx ho hlink hsame hdecl howner hsel hinst hK (b := b) hclB ⟨cellB, by rw [hT]; exact hcB, rfl, hoB⟩ hg (hsize.trans hml.symm) (s₀ := T.setTop g) (Steps.refl _) (argsL := As) (rest := rest) hl2 hstack hW (by rw [hb]; exact hdg)
    (fun vm₁ hW₁ => ⟨hf.1, hf.2, hPc (T.setVm vm₁) hT hW₁⟩)
  dsimp only [Pt.U, Pt.locs, Pt.cells, Pt.slots] at X' e1 e2 h1 h2 h3 st
  subst h1; subst h2; subst h3
  exact ⟨v, (T.setVm vm₁).calling g' mk (Value.ref b :: As).toArray, t, U', L, hT, X', hL, e1, e2, hq, fun target h => st.trans h⟩
/-- super.m where the superclass has m from an interface's default -/
theorem va_runSD (S : CallFix p m c cc nL s args Ts own) (hM : Met l y ws rm Pc Qc mc ms free) (cw : xl_B R s args y bytes maxL ret ws rm mc ms) (hlink : (Cond.methodLink own index x).before args s = true) (hsame : (Cond.sameMethod x.cls y.cls x.name x.desc).before args s = true) (hyn : y.name = x.name ∧ y.desc = x.desc) (hno : x.name ≠ "<init>") (hsup : (Cond.superclass own x.cls).before args s = true)
    (hsel : (Cond.landsInDefault x.cls x y).before args s = true) (hlen : (parseMethodDescriptor x.desc).map (fun d => d.parameters.length) = some n) {cC : ClassId} (hat : ClassAt s C cC) (hp : PreV s H C b Pc As)
    (hg : g.method = m) (hn : As.length = n) (hsize : g.locals.size = nL) (hstack : g.stack = As.reverse ++ .ref b :: rest) (hW : 2 * g.monitorRoom + (rest.map fun v => v.category).sum ≤ 8) (hdg : decode cc g.pc = .ok (.invokespecial index, 3)) (hf : cells + mc ≤ R.cells ∧ slots + ms ≤ R.slots) :
    va_Run p l e R s m args below meth c H locs cells slots mc ms g rest (Qc (Value.ref b :: As).toArray) (free) := by
  obtain ⟨⟨hrc, hrs, hfr, hlo, hws, hcw⟩, hcode, hini, hinst⟩ := cw
  have hK : Back l R p e below s args y 3 8 (PreOf R mc ms Pc) (PostOf Qc mc ms free) := back_of (bytes := bytes) (maxL := maxL) (ret := ret) hM hp.1 hrc hrs hfr hlo hws hcw (fun a' U hW => word_at hW (Or.inl (by first | rfl | simp [Cond.onTables, Cond.keeps, Cond.steady])) hini)
  obtain ⟨hx, hb, hml, ho, -⟩ := S
  obtain ⟨-, ⟨cellB, hcB, hoB, hclB⟩, hPc⟩ := hp
  obtain ⟨hfc, kB, hkB, -⟩ := hat
  cases hfc.symm.trans hclB
  intro T hT X
  obtain ⟨mk, methM, hnamed, hmethM, hstM, habM⟩ := Cond.instanceMethod_spec hinst
  obtain ⟨methM', cM, hmethM', -, -, -, -, -, -, hsigM⟩ := Cond.code_spec hnamed hcode
  cases hmethM.symm.trans hmethM'
  obtain ⟨hyn1, hyn2⟩ := hyn
  have hn0 : s.methodNamed? ⟨y.cls, x.name, x.desc⟩ = some mk := by rw [← hyn1, ← hyn2]; exact hnamed
  obtain ⟨ps, dk, kp, hps, hdk, hkp, hsuper, -, -, hnid⟩ := Cond.superclass_spec ho hsup
  have hpl : e.platform.magicAccessors = ({} : Platform).magicAccessors := by rw [X.admits.platform]
  obtain ⟨cn, ck, r1, hcn, hck, hni, hfd, hn1⟩ := Cond.sameMethod_found hsame
  cases hn0.symm.trans hn1
  cases hps.symm.trans hcn
  obtain ⟨ci, hl, hright⟩ := Cond.methodLink_specUp ho hcn hck hni hfd hlink e.platform hpl (by rw [X.admits.platform])
  obtain ⟨kr, hkr, -⟩ := className_of_methodNamed hn0
  obtain ⟨hrn, hrd⟩ := name_of_methodNamed hn0 hmethM
  obtain ⟨dk₀, cfile, nt, _, _, ck₀, _, _, hd₀, hcf, hcp, -, -, -, hc₀, -, hpoly, -⟩ := hl.here
  cases hdk.symm.trans hd₀
  cases hck.symm.trans hc₀
  have hup : s.vm.lookupUp ps x.name x.desc = some mk := ((State.methodFound?_class hcn hck hni hpoly mk).mp hfd).1
  have hfound0 : lookupSpecial s.vm ps x.name x.desc = .method mk := xs_special (C := x.cls) hcn hck hni hup hmethM hstM hrn hrd hfd hnamed hsel
  have hpar : As.length = methM.sig.parameters.length := by
    rw [← hyn2, hsigM] at hlen
    exact hn.trans (Option.some.inj hlen).symm
  subst hg
  obtain ⟨vm', hW', st⟩ := Steps.invokeSuperColdArgs (tb := p.tables) (e := e) (s₀ := s) (U := T) (f := g) (args := As) (rest := rest) (a := b) (cell := cellB) (m := mk) X.here hx (by rw [hb]; exact hdg) X.warmed hl hright hdk hcf hcp hmethM hck
    (by rw [hrn]; simp [hno]) hstM (by rw [hrn, hrd, hsuper]; simpa using hfound0) hnid hkr habM hpar hstack (by rw [hT]; exact hcB) (fun z h => by rw [h] at hoB; cases hoB) hkB
  have X₁ := X.noted hW'
  obtain ⟨v, B, X', ⟨g', mk', t, L, e1, e2, hq, h1, hL, h2, h3⟩, hsteps⟩ := hK g.method meth c ⟨T.setVm vm', locs, cells, slots⟩ { g with stack := rest } (.invokespecial index) mk (Value.ref b :: As).toArray X₁ rfl (hsize.trans hml.symm) (by rw [hb]; exact hdg) hW (X₁.named hnamed) ⟨hf.1, hf.2, hPc (T.setVm vm') hT X₁.warmed⟩
  obtain ⟨U', l2, c2', s2⟩ := B
  dsimp only [Pt.U, Pt.locs, Pt.cells, Pt.slots] at X' e1 e2 h1 h2 h3 hsteps
  subst h1; subst h2; subst h3
  exact ⟨v, (T.setVm vm').calling g' mk' (Value.ref b :: As).toArray, t, U', L, hT, X', hL, e1, e2, hq, fun target h => st target (by rw [doInvoke_state]; exact hsteps.trans h)⟩
end XLD
