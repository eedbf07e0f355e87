/-! ROWS ON SHELVES: 2 (calls with answers of any kind; floats; functions) -/
theorem xk_yBody {G : wm_G} {s : State} (hK : wm_K G s) (hN : xn_T s) : ∀ q, q < 8 → xl_As (xk_C q) RX6 s
  | 0, _ => (xl_As.self (xk_fc hK 0 (by decide)).choose_spec)
  | 1, _ => (xl_As.of (hN.ca q2449))
  | 2, _ => (xl_As.of (hN.ca q2443))
  | 3, _ => (xl_As.of (hN.ca q2448))
  | 4, _ => (xl_As.of (hN.ca q2446))
  | 5, _ => (xl_As.of (hN.ca q2444))
  | 6, _ => (xl_As.of (hN.ca q2447))
  | 7, _ => (xl_As.of (hN.ca q2445))
section XR2
variable {p : Program} {l : Launch} {e : Env} {R : Room} {s : State} {m : MethodId} {args : Array Value} {below : List Frame} {meth : Method} {c : Code} {H : Heap} {locs : List Loc} {cells slots : Nat} {Q : State → Prop}
variable {cc : ByteArray} {pc : Nat} {ls : Array Slot} {rest st0 : List Value} {G : wm_G} {o d0 : Nat} {H0 : Heap} {X : mm_S} {E : mm_E} {D : xg} {nL : Nat}
variable {n maxL d index : Nat} {y : MethodName} {bytes : ByteArray} {ret : Option FieldType} {own : String} {As : List Value}
theorem pp_callv {v0 : Value} (F : CallFix p m c cc nL s args lw_all own) (hM : pp_Met l y (ws_ y bytes maxL ret) d As (some v0)) (hg : GoodIn lw_all (va_wsS own index y (ws_ y bytes maxL ret))) (hy : y.cls ≠ "java/lang/invoke/MethodHandle" ∧ y.cls ≠ "java/lang/invoke/VarHandle" ∧ (parseMethodDescriptor y.desc).map (fun d => d.parameters.length) = some n) (hn : As.length = n) (hR : d + 1 ≤ R.frames ∧ 8 + (maxL + 11) + 60 * d ≤ R.locals) (hsz : ls.size = nL) (hst : st0 = As.reverse ++ rest) (hrest : (rest.map fun v => v.category).sum ≤ 8) (hd : decode cc pc = .ok (.invokestatic index, 3)) (hroom : cells ≤ R.cells ∧ slots ≤ R.slots)
    (kk : W p l e R s m args below meth c H locs cells slots Q (F0 m (pc + 3) ls (v0 :: rest))) : W p l e R s m args below meth c H locs cells slots Q (F0 m pc ls st0) := by
  have hr := va_runS (l := l) (H := H) (locs := locs) (cells := cells) (slots := slots) (g := F0 m pc ls st0) (p := p) (e := e) (below := below) (meth := meth) (rest := rest) F hM (va_cwS n F.2.2.2.2 hg rfl rfl rfl hy hR) ⟨fun _ _ _ _ q => q, fun _ _ _ => ⟨rfl, trivial⟩⟩ rfl hn hsz hst (lv_room hrest) hd hroom
  intro T hT Z
  obtain ⟨v, st₀, t, T', L, h0, Z', hL, e1, -, ⟨hv, hh⟩, st⟩ := hr T hT Z
  cases hv
  obtain ⟨t2, a1, b1⟩ := kk T' (by rw [e1, hh, h0]) (Stand.forget Z' (fun q h => (hL q h).elim))
  exact ⟨t2, st t2 a1, b1⟩
theorem pp_lret {v : Int64} {r : Option Value} (hx : p.tables.exec = Jvm.exec) (hb : c.code = cc) (hr : meth.sig.returnType = some .long) (hlocks : meth.locks = false) (he : some (.long v) = r) (hdg : decode cc pc = .ok (.lreturn, 1)) : W p l e R s m args below meth c s.heap [] cells slots (MQ below (pp_Q r) args s cells slots (fun _ => False)) (F0 m pc ls [.long v]) :=
  W.lret (v := v) hx hb hr (fun t ht _ => ⟨by rw [he], ht⟩) (fun q hq => by cases hq) hdg hlocks
theorem pp_dret {v : UInt64} {r : Option Value} (hx : p.tables.exec = Jvm.exec) (hb : c.code = cc) (hr : meth.sig.returnType = some .double) (hlocks : meth.locks = false) (he : some (.double v) = r) (hdg : decode cc pc = .ok (.dreturn, 1)) : W p l e R s m args below meth c s.heap [] cells slots (MQ below (pp_Q r) args s cells slots (fun _ => False)) (F0 m pc ls [.double v]) :=
  W.dret (v := v) hx hb hr (fun t ht _ => ⟨by rw [he], ht⟩) (fun q hq => by cases hq) hdg hlocks
theorem xl_ldcwf (hx : p.tables.exec = Jvm.exec) (hb : c.code = cc) {v : UInt32} (hown : s.vm.findClass own = some m.cls) (hconst : (Jvm.Cond.constantFloat own index v).before args s = true) (hdg : decode cc pc = .ok (.ldc_w index, 3)) (kk : W p l e R s m args below meth c H locs cells slots Q (F0 m (pc + 3) ls (.float v :: rest))) : W p l e R s m args below meth c H locs cells slots Q (F0 m pc ls rest) := by
  obtain ⟨k, cf, hk, hcf, hcp⟩ := Cond.constantFloat_spec hown hconst
  intro T hT Z
  obtain ⟨k', hk', he⟩ := Z.warmed.alike.2.2 _ _ hk
  obtain ⟨t, a, b⟩ := kk T hT Z
  refine ⟨t, ?_, b⟩
  jvm_step Z.here [hx, hb, hdg, ldc_w.wp_float (s := T) (f := F0 m pc ls rest) Z.here.top hk' (by rw [he]; exact hcf) hcp]
  exact a
/-- what a shelf holds is there or not -/
theorem xr_ifnull {v : Int32} {k : Nat} (h6 : -6 ≤ v.toInt) (hx : p.tables.exec = Jvm.exec) (hb : c.code = cc) {off : Int} {tgt : Nat} (hdg : decode cc pc = .ok (.ifnull off, 3)) (ht : (pc : Int) + off = (tgt : Int)) (k1 : v = -1 → W p l e R s m args below meth c H locs cells slots Q (F0 m tgt ls rest)) (k2 : ¬ v = -1 → W p l e R s m args below meth c H locs cells slots Q (F0 m (pc + 3) ls rest)) : W p l e R s m args below meth c H locs cells slots Q (F0 m pc ls (va_rf (xx_so D v k) :: rest)) := by
  by_cases q : v = -1
  · rw [q, xr_so_n]
    exact lv_ifnullN hx hb hdg ht (k1 q)
  · have : ∃ a, xx_so D v k = some a := by
      unfold xx_so
      rw [if_neg q]
      split <;> exact ⟨_, rfl⟩
    obtain ⟨a, ha⟩ := this
    rw [ha]
    exact lv_ifnull hx hb hdg (k2 q)
theorem xr_ifnonnull {v : Int32} {k : Nat} (h6 : -6 ≤ v.toInt) (hx : p.tables.exec = Jvm.exec) (hb : c.code = cc) {off : Int} {tgt : Nat} (hdg : decode cc pc = .ok (.ifnonnull off, 3)) (ht : (pc : Int) + off = (tgt : Int)) (k1 : ¬ v = -1 → W p l e R s m args below meth c H locs cells slots Q (F0 m tgt ls rest)) (k2 : v = -1 → W p l e R s m args below meth c H locs cells slots Q (F0 m (pc + 3) ls rest)) : W p l e R s m args below meth c H locs cells slots Q (F0 m pc ls (va_rf (xx_so D v k) :: rest)) := by
  by_cases q : v = -1
  · rw [q, xr_so_n]
    exact lv_ifnonnullN hx hb hdg (k2 q)
  · have : ∃ a, xx_so D v k = some a := by
      unfold xx_so
      rw [if_neg q]
      split <;> exact ⟨_, rfl⟩
    obtain ⟨a, ha⟩ := this
    rw [ha]
    exact lv_ifnonnull hx hb hdg ht (k1 q)
/-- is it a body -/
theorem xr_instB {i : Int32} (hx : p.tables.exec = Jvm.exec) (hb : c.code = cc) (hts : ∀ w ∈ lw_all, w.before args s = true) (hown : s.vm.findClass RX0 = some m.cls) (hK : wm_K G s) (hN : xn_T s) (hW : xx_W G o d0 X E D H) (hin : vp_in i 6) (h6 : -6 ≤ (rd_ X 58 i).toInt) (hne : ¬ rd_ X 58 i = -1) (hq : (Cond.classLink RX0 index RX6) ∈ lw_all) (hd : decode cc pc = .ok (.instanceof index, 3)) (kk : W p l e R s m args below meth c H locs cells slots Q (F0 m (pc + 3) ls (.int (if rd_ X 58 i < 0 then 0 else 1) :: rest))) : W p l e R s m args below meth c H locs cells slots Q (F0 m pc ls (va_rf (xx_so D (rd_ X 58 i) i.toNatClampNeg) :: rest)) := by
  rcases xr_t h6 with q | q | ⟨t, ht, q⟩
  · exact absurd q hne
  · have hi := xr_bod hW hin q
    rw [if_neg (fun z => by have := ww_l0 z; omega)] at kk
    rw [xr_so_b q]
    obtain ⟨cell, h1, h2, h3⟩ := xb_recv hK hW hi
    have hca : xl_As (xk_C (xq X (rd_ X 58 i))) RX6 s := xk_yBody hK hN _ (xq_lt hW hi)
    obtain ⟨c0, t0, f1, f2, f3⟩ := hca
    cases h3.symm.trans f1
    intro T hT Z
    obtain ⟨vm', Z', st⟩ := Z.instanceofYes hx hown (hts _ hq) (by rw [hT]; exact h1) h2 f2 f3 (g := F0 m pc ls (.ref (xb_ D (rd_ X 58 i)) :: rest)) rfl rfl (by rw [hb]; exact hd)
    obtain ⟨t, a1, b1⟩ := kk (T.setVm vm') hT Z'
    exact ⟨t, st t a1, b1⟩
  · have s2 := (xr_st_of ht).2
    rw [if_pos (by rw [q]; exact ww_lt' (by rw [ww_z0]; omega))] at kk
    obtain ⟨r1, -⟩ := xr_row hW hin ht q
    rw [xr_so_r (by rw [q]; exact s2)]
    exact va_instNo hx hb hown (hts _ hq) (xr_ny hN t ht) (xr_cell hK ht r1) hd kk
theorem xr_castB {i : Int32} (hx : p.tables.exec = Jvm.exec) (hb : c.code = cc) (hts : ∀ w ∈ lw_all, w.before args s = true) (hown : s.vm.findClass RX0 = some m.cls) (hK : wm_K G s) (hN : xn_T s) (hW : xx_W G o d0 X E D H) (hin : vp_in i 6) (hi : xb_in X (rd_ X 58 i)) (hq : (Cond.classLink RX0 index RX6) ∈ lw_all) (hd : decode cc pc = .ok (.checkcast index, 3)) (kk : W p l e R s m args below meth c H locs cells slots Q (F0 m (pc + 3) ls (va_rf (xx_o D (rd_ X 58 i)) :: rest))) : W p l e R s m args below meth c H locs cells slots Q (F0 m pc ls (va_rf (xx_so D (rd_ X 58 i) i.toNatClampNeg) :: rest)) := by
  rw [xr_so_b hi.1]
  rw [xx_o_pos hi.1] at kk
  exact xb_castY hx hb hown hK hW hi (hts _ hq) (xk_yBody hK hN _ (xq_lt hW hi)) hd kk
end XR2
/-- an int by bytes, by halves -/
theorem xr_i8 (x : Int32) : x.toInt8.toInt32.toInt8.toInt32 = x.toInt8.toInt32 := by simp
theorem xr_i16 (x : Int32) : narrow .char (.int ((x.toUInt32 % 65536).toInt32)) = .int ((x.toUInt32 % 65536).toInt32) := by
  show Value.int _ = _
  congr 1
  apply Int32.toBitVec.inj
  simp
  apply BitVec.eq_of_toNat_eq
  simp only [BitVec.toNat_umod]
  exact Nat.mod_mod _ _
theorem xr_64 (x : Int32) : x.toInt64.toInt32 = x := by simp
/-- what is kept of a number by its sort -/
def xr_pv (t : Int32) (v : Int64) : Int64 := if t = 0 then v.toInt32.toInt8.toInt32.toInt64 else if t = 1 then (v.toInt32.toUInt32 % 65536).toInt32.toInt64 else if t = 2 then v.toInt32.toInt64 else v
def xr_whole (v : UInt64) : Int64 := if Op.cmpValue (FP.dcmp v v) .l = 0 then FP.d2l v else 9223372036854775807
def xr_wide (f : UInt32) : UInt64 := if Op.cmpValue (FP.fcmp f f) .l = 0 then FP.f2d f else 9221120237041090560
/-- a number as an element tells it -/
def xr_el (t : Int32) (e : Int64) (z : Int32) : Int64 := if t = 0 then e.toInt32.toInt64 else if t = 1 then e.toInt32.toInt64 else if t = 2 then e.toInt32.toInt64 else if t = 3 then xr_whole (xr_wide (if z = 0 then FP.l2f e else 0x7fc00000)) else xr_whole (if z = 0 then FP.l2d e else 0x7ff8000000000000)
/-- the numbers of rows of reals are small -/
def xv_E (X : mm_S) (E : mm_E) : Prop := ∀ i j : Int32, 0 ≤ i.toInt → i.toInt < 6 → 0 ≤ j.toInt → j.toInt < 60 → 3 ≤ (xr_st (rd_ X 58 i)).toInt → -9999 ≤ (re_ E 0 (60 * i + j)).toInt ∧ (re_ E 0 (60 * i + j)).toInt ≤ 9999
def xf_refusal (X : mm_S) (s i : Int32) : Int32 := if ff_isShelf s = 0 then -1 else if rd_ X 58 s = -1 then -11 else if xr_st (rd_ X 58 s) = -1 then -12 else if ff_in i 0 (rd_ X 100 s - 1) = 0 then -13 else 0
def xf_isOfReals (X : mm_S) (s : Int32) : Int32 := if ff_isShelf s = 0 then 0 else if xr_st (rd_ X 58 s) ≤ 2 then 0 else 1
def xf_putP (X : mm_S) (E : mm_E) (s i : Int32) (v : Int64) : Int32 × mm_S × mm_E := if xf_refusal X s i = 0 then (1, wr_ X 101 (60 * s + i) 0, we_ E 0 (60 * s + i) (xr_pv (xr_st (rd_ X 58 s)) v)) else (xf_refusal X s i, X, E)
def xf_put (X : mm_S) (E : mm_E) (s i : Int32) (v : Int64) : Int32 × mm_S × mm_E := if xf_isOfReals X s = 0 then xf_putP X E s i v else if xf_within v (-9999) 9999 = 0 then (-1, X, E) else xf_putP X E s i v
def xf_blank (X : mm_S) (E : mm_E) (s i : Int32) : Int32 × mm_S × mm_E :=
  if xf_refusal X s i = -1 then (xf_refusal X s i, X, E) else if xf_refusal X s i = -11 then (xf_refusal X s i, X, E) else if xf_refusal X s i = -12 then (xf_refusal X s i, X, E) else if xf_isOfReals X s = 0 then (-12, X, E) else if xf_refusal X s i = 0 then (1, wr_ X 101 (60 * s + i) 1, we_ E 0 (60 * s + i) (re_ E 0 (60 * s + i))) else (xf_refusal X s i, X, E)
def xf_element (X : mm_S) (E : mm_E) (s i : Int32) : Int64 := if xf_refusal X s i = 0 then xr_el (xr_st (rd_ X 58 s)) (re_ E 0 (60 * s + i)) (rd_ X 101 (60 * s + i)) else -9223372036854775808
def xf_taken (X : mm_S) (s k : Int32) : Int32 := if ff_isShelf s = 0 then -1 else if ff_in k 0 7 = 0 then -1 else if rd_ X 58 s = -1 then -11 else if rd_ X 58 s < 0 then -12 else if xa_und (xq X (rd_ X 58 s)) k = 0 then -12 else rd_ X 60 (rd_ X 58 s)
theorem xf_ref_t {X : mm_S} {s i : Int32} (hK : xv_K X) (hz : ∀ q : Int32, 0 ≤ q.toInt → q.toInt < 6 → 0 ≤ (rd_ X 100 q).toInt ∧ (rd_ X 100 q).toInt ≤ 60) (h : xf_refusal X s i = 0) : (0 ≤ s.toInt ∧ s.toInt ≤ 5) ∧ (0 ≤ (xr_st (rd_ X 58 s)).toInt ∧ (xr_st (rd_ X 58 s)).toInt ≤ 4) ∧ 0 ≤ i.toInt ∧ i.toInt < (rd_ X 100 s).toInt := by
  unfold xf_refusal at h
  split at h
  · exact absurd h (by decide)
  · rename_i h1
    have hs := ff_isShelf_t h1
    split at h
    · exact absurd h (by decide)
    · split at h
      · exact absurd h (by decide)
      · rename_i h3
        split at h
        · exact absurd h (by decide)
        · rename_i h4
          have t := ff_in_t h4
          have z := hz s hs.1 (by omega)
          rw [ww_sub1 (by omega), ww_z0] at t
          rcases xr_st_t (hK s hs.1 (by omega)) with q | q
          · exact absurd q h3
          · exact ⟨⟨hs.1, by omega⟩, ⟨q.1, q.2.1⟩, t.1, by omega⟩
theorem xx_siz {G : wm_G} {o d0 : Nat} {X : mm_S} {E : mm_E} {D : xg} {H : Heap} (hW : xx_W G o d0 X E D H) : ∀ q : Int32, 0 ≤ q.toInt → q.toInt < 6 → 0 ≤ (rd_ X 100 q).toInt ∧ (rd_ X 100 q).toInt ≤ 60 := fun q q0 q1 => hW.siz q.toNatClampNeg (by rw [ww_cl]; omega)
