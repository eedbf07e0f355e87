/-! COPYING ROWS -/
set_option maxRecDepth 100000
section XCP
variable {G : wm_G} {o d0 : Nat} {X : mm_S} {E : mm_E} {D : xg} {H H1 : Heap}
theorem xx_W.rputs {X' : mm_S} {E' : mm_E} (w : xx_W G o d0 X E D H) (hX : ∀ k : Nat, k ≠ 101 → X' k = X k) {s : Nat} (h6 : s < 6) (hz : (X 58 s).toInt < -1) (hE : ∀ b : Nat, b < 60 * s ∨ 60 * s + 60 ≤ b → E' 0 b = E 0 b ∧ X' 101 b = X 101 b) (hA : wm_A G (xg_r D s) (xx_rt (-2 - (X 58 s).toInt).toNat) (X 100 s).toInt.toNat (fun y => xx_el (-2 - (X 58 s).toInt).toNat (E' 0 (60 * s + y)) (X' 101 (60 * s + y))) H1) (hs : H1.size = H.size) (hq : ∀ q : Nat, q ≠ (xg_r D s) → H1[q]? = H[q]?) : xx_W G o d0 X' E' D H1 := by
  have hd : xg_d D ((xg_r D s)) = (3, s) := ((w.row s h6 hz).2)
  have hk : xx_arr 101 = none := by decide
  have hr : True := trivial
  exact ⟨xk_main w (hq _ (xx_ne (w.dfx 0 (by omega)) hd (xx_tn (fun h => by omega)))) (fun k2 q1 q2 q3 => congrFun (hX _ (by first | omega | (intro h; subst h; exact absurd q2 (by decide)))) 0) (xg_le.rf X D),
    xk_arr w (fun k2 j2 t2 n2 h2 => hq _ (xx_ne (w.dfx j2 (by have := (xx_arrj h2).1; omega)) hd (xx_tn (fun h => by have := (xx_arrj h2).1; omega)))) (fun k2 h2 => hX _ (fun h => by first | exact h2 (by rw [h]; first | exact hk | decide) | (have := (xx_arrj hk2).2; omega))),
    xk_bod w (hq _ (xx_ne (w.dfx 3 (by omega)) hd (xx_tn (fun h => by omega)))) (congrFun (hX _ (by first | omega | (intro h; subst h; first | exact absurd hr (by decide) | exact absurd hk (by decide)))) 0) (xg_le.rf X D),
    xk_wrk w (hq _ (xx_ne (w.dfx 6 (by omega)) hd (xx_tn (fun h => by omega)))) (hX _ (by first | omega | (intro h; subst h; first | exact absurd hr (by decide) | exact absurd hk (by decide)))) (xg_le.rf X D),
    xk_shv w (hq _ (xx_ne (w.dfx 40 (by omega)) hd (xx_tn (fun h => by omega)))) (hX _ (by first | omega | (intro h; subst h; first | exact absurd hr (by decide) | exact absurd hk (by decide)))) (xg_le.rf X D),
    xk_trn w (hq _ (xx_ne (w.dfx 8 (by omega)) hd (xx_tn (fun h => by omega)))),
    xk_flt w (hq _ (xx_ne (w.dfx 17 (by omega)) hd (xx_tn (fun h => by omega)))),
    xk_rdr w (hq _ (xx_ne (w.dfx 16 (by omega)) hd (xx_tn (fun h => by omega)))) (congrFun (hX _ (by first | omega | (intro h; subst h; first | exact absurd hr (by decide) | exact absurd hk (by decide)))) 0) (congrFun (hX _ (by first | omega | (intro h; subst h; first | exact absurd hr (by decide) | exact absurd hk (by decide)))) 0),
    xk_txa w (hq _ (xx_ne (w.dfx 18 (by omega)) hd (xx_tn (fun h => by omega)))),
    xk_txt w (fun i hi => (hq _ (xx_ne (w.dfx (41 + 3 * i) (by omega)) hd (xx_tn (fun h => by omega))))) (fun k2 h1 h2 => (hX _ (by first | omega | (intro h; subst h; first | exact absurd hr (by decide) | exact absurd hk (by decide))))),
    xk_tst w (fun i hi => ⟨(hq _ (xx_ne (w.dfx (42 + 3 * i) (by omega)) hd (xx_tn (fun h => by omega)))), (hq _ (xx_ne (w.dfx (43 + 3 * i) (by omega)) hd (xx_tn (fun h => by omega))))⟩) (fun q z => hq q (xx_ne z hd (xx_tn (fun h => by omega)))) (hX _ (by first | omega | (intro h; subst h; first | exact absurd hr (by decide) | exact absurd hk (by decide)))) (xg_le.rf X D),
    xk_bdy w (fun b2 hb => hq _ (xx_ne (w.dby b2 0 hb (Or.inl rfl)) hd (xx_tn (fun h => by omega)))) (fun k2 h1 h2 => hX _ (by have := h2.1; have := h2.2; omega)) (congrFun (hX _ (by first | omega | (intro h; subst h; first | exact absurd hr (by decide) | exact absurd hk (by decide)))) 0) (xg_le.rf X D),
    xk_knd w (hX _ (by first | omega | (intro h; subst h; first | exact absurd hr (by decide) | exact absurd hk (by decide)))) (congrFun (hX _ (by first | omega | (intro h; subst h; first | exact absurd hr (by decide) | exact absurd hk (by decide)))) 0),
    xk_har w (fun b2 j2 hb q1 q2 hj => hq _ (xx_ne (w.dby b2 (1 + j2) hb (Or.inr ⟨q1, q2, by omega⟩)) hd (xx_tn (fun h => by omega)))) (fun k2 h1 h2 => hX _ (by have := h2.1; have := h2.2; omega)) (congrFun (hX _ (by first | omega | (intro h; subst h; first | exact absurd hr (by decide) | exact absurd hk (by decide)))) 0) (xg_le.rf X D),
    fun s2 h2 hz2 => by
      have e58 : X' 58 = X 58 := hX 58 (by decide)
      have e100 : X' 100 = X 100 := hX 100 (by decide)
      rw [e58] at hz2 ⊢
      rw [e100]
      have hb := w.siz s2 h2
      obtain ⟨r1, r2⟩ := w.row s2 h2 hz2
      refine ⟨?_, r2⟩
      by_cases t : s2 = s
      · subst t
        exact hA
      · refine (r1.kept (hq _ (xx_ne r2 hd (xx_tn (fun h => by omega))))).to fun y hy => ?_
        have hy2 : y < (X 100 s2).toInt.toNat := hy
        obtain ⟨q1, q2⟩ := hE (60 * s2 + y) (by omega)
        rw [q1, q2],
    w.dfx,
    xk_dby w (hX _ (by first | omega | (intro h; subst h; first | exact absurd hr (by decide) | exact absurd hk (by decide)))) (congrFun (hX _ (by first | omega | (intro h; subst h; first | exact absurd hr (by decide) | exact absurd hk (by decide)))) 0) (xg_le.rf X D),
    fun q hz => w.dnw q (by rw [← hs]; exact hz),
    w.din,
    ⟨w.lim.1, by rw [hs]; exact w.lim.2⟩,
    xk_rng w (congrFun (hX _ (by first | omega | (intro h; subst h; first | exact absurd hr (by decide) | exact absurd hk (by decide)))) 0) (congrFun (hX _ (by first | omega | (intro h; subst h; first | exact absurd hr (by decide) | exact absurd hk (by decide)))) 0) (hX _ (by first | omega | (intro h; subst h; first | exact absurd hr (by decide) | exact absurd hk (by decide)))) (hX _ (by first | omega | (intro h; subst h; first | exact absurd hr (by decide) | exact absurd hk (by decide)))),
    xk_cap w (congrFun (hX _ (by first | omega | (intro h; subst h; first | exact absurd hr (by decide) | exact absurd hk (by decide)))) 0) (hX _ (by first | omega | (intro h; subst h; first | exact absurd hr (by decide) | exact absurd hk (by decide)))),
    xk_siz w (hX _ (by first | omega | (intro h; subst h; first | exact absurd hr (by decide) | exact absurd hk (by decide))))⟩
end XCP
section XCQ
variable {p : Program} {l : Launch} {e : Env} {R : Room} {s : State} {m : MethodId} {args : Array Value} {below : List Frame} {meth : Method} {c : Code} {H : Heap} {locs : List Loc} {cells slots : Nat} {Q : State → Prop}
variable {cc : ByteArray} {pc : Nat} {ls : Array Slot} {rest st0 : List Value} {G : wm_G} {o d0 : Nat} {H0 : Heap} {X : mm_S} {E : mm_E} {D : xg} {nL : Nat} {a : Nat} {A : Nat → Prop}
theorem wm_copy (hexec : p.tables.exec = Jvm.exec) (hb : c.code = cc) (hml : c.maxLocals = ls.size) {own : String} {index : Nat} (hown : s.vm.findClass own = some m.cls) (hlink : (Cond.methodLink own index arraycopyName).before args s = true) (hnat : (Cond.native arraycopyName).before args s = true) (hstat : (Cond.static arraycopyName).before args s = true) (hini : (Cond.initialized "java/lang/System").before args s = true)
    (hK : wm_K G s) {a0 t n0 n1 : Nat} {ty : FieldType} (ht : (wm_tys G)[t]? = some (G.2 t, ty)) {f g : Nat → Value} (hA0 : wm_A G a0 t n0 f H) (hA1 : wm_A G a t n1 g H) (hS : va_S A H0 H locs) (hAa : A a) (hprim : refKind ty = false)
    {sp dp n : Int32} (h1 : ¬ sp < 0) (h2 : ¬ dp < 0) (h3 : ¬ n < 0) (h4 : sp.toNatClampNeg + n.toNatClampNeg ≤ n0) (h5 : dp.toNatClampNeg + n.toNatClampNeg ≤ n1) (hfit : ∀ i, i < n.toNatClampNeg → fits ty (f (sp.toNatClampNeg + i)) = true)
    (hframes : 1 ≤ R.frames) (hlocals : (rest.map fun v => v.category).sum + (nativeFrameWords "java/lang/System" "arraycopy" 5 + 11) ≤ R.locals) (hdg : decode cc pc = .ok (.invokestatic index, 3))
    (kk : ∀ (H1 : Heap) (locs1 : List Loc), wm_A G a t n1 (va_cpy f g sp.toNatClampNeg dp.toNatClampNeg n.toNatClampNeg) H1 → H1.size = H.size → (∀ q : Nat, q ≠ a → H1[q]? = H[q]?) → va_S A H0 H1 locs1 → W p l e R s m args below meth c H1 locs1 cells slots Q (F0 m (pc + 3) ls rest)) : W p l e R s m args below meth c H locs cells slots Q (F0 m pc ls (.int n :: .int dp :: .ref a :: .int sp :: .ref a0 :: rest)) := by
  have nn : ∀ z : Int32, ¬ z < 0 → z.toInt = (z.toNatClampNeg : Int) := by
    intro z hz
    have hz0 := ww_nlt hz
    rw [ww_z0] at hz0
    rw [ww_cl]
    omega
  intro T hT Z
  have hc0 : H[a0]? = some (arrV (G.2 t) n0 f) := hA0
  have hc1 : H[a]? = some (arrV (G.2 t) n1 g) := hA1
  obtain ⟨-, k0, hk0, cm0, hkk0⟩ := (hK.2 t _ ht).1 n0 f
  obtain ⟨-, k1, hk1, cm1, hkk1⟩ := (hK.2 t _ ht).1 n1 g
  obtain ⟨vm', Z', step⟩ := Z.arraycopy hexec hown hlink hnat hstat hini (src := a0) (dst := a) (cs := arrV (G.2 t) n0 f) (cd := arrV (G.2 t) n1 g) (srcPos := sp) (destPos := dp) (n := n) (by rw [hT]; exact hc0) (by rw [hT]; exact hc1)
    (fun _ h => by cases h) (fun _ h => by cases h) (fun h => by cases h) (fun h => by cases h) hk0 hk1 hkk0 hkk1 (by simp [hprim]) h1 h2 h3
    (by rw [nn sp h1, nn n h3, arrV_size]; omega)
    (by rw [nn dp h2, nn n h3, arrV_size]; omega)
    (fun vm₁ _ i hi => by
      have e : (arrV (G.2 t) n0 f).slots.getD (sp.toNatClampNeg + i) .null = f (sp.toNatClampNeg + i) := by
        rw [Array.getD_eq_getD_getElem?, arrV_read _ _ (by omega)]
        rfl
      have hf := hfit i hi
      refine ⟨?_, ?_⟩
      · rw [e]
        exact hf
      · rw [e]
        revert hf
        cases f (sp.toNatClampNeg + i) with
        | ref q => intro hf; cases ty <;> first | (simp [fits] at hf; done) | (simp [refKind] at hprim; done)
        | _ => intro _; trivial)
    (g := F0 m pc ls (.int n :: .int dp :: .ref a :: .int sp :: .ref a0 :: rest)) rfl (by rw [hml]) (rest := rest) rfl (by rw [hb]; exact hdg) hframes (by show 2 * 0 + _ + _ ≤ _; omega)
  have e1 : copied (arrV (G.2 t) n0 f) (arrV (G.2 t) n1 g) sp dp n = arrV (G.2 t) n1 (va_cpy f g sp.toNatClampNeg dp.toNatClampNeg n.toNatClampNeg) := va_copied (fun z => z) (G.2 t) (G.2 t) f g h4
  rw [e1] at Z' step
  have hl : a < H.size := (Array.getElem?_eq_some_iff.mp hc1).1
  have hheap : ((T.setVm vm').setCell a (arrV (G.2 t) n1 (va_cpy f g sp.toNatClampNeg dp.toNatClampNeg n.toNatClampNeg))).heap = H.setIfInBounds a (arrV (G.2 t) n1 (va_cpy f g sp.toNatClampNeg dp.toNatClampNeg n.toNatClampNeg)) := by rw [← hT]; rfl
  have oq : ∀ q : Nat, q ≠ a → (H.setIfInBounds a (arrV (G.2 t) n1 (va_cpy f g sp.toNatClampNeg dp.toNatClampNeg n.toNatClampNeg)))[q]? = H[q]? := fun q hq => by simp [Array.getElem?_setIfInBounds, Ne.symm hq]
  obtain ⟨t2, a1, b1⟩ := kk _ _ (show (H.setIfInBounds a _)[a]? = some _ by simp [Array.getElem?_setIfInBounds, hl]) (by simp) oq ⟨by simp; exact hS.1, fun q g1 g2 => by
      rw [oq q (fun e => g2 (by rw [e]; exact hAa))]
      exact hS.2.1 q g1 g2, fun q hq => by
      rcases List.mem_append.mp hq with h | h
      · exact hS.2.2 q h
      · obtain ⟨z, -, hz⟩ := List.mem_map.mp h
        rw [← hz]
        exact hAa⟩ _ hheap Z'
  exact ⟨t2, step t2 a1, b1⟩
/-- the stores behind a shift: so many of a row's go to another place -/
def xf_shX (X : mm_S) (s i u j n : Nat) : mm_S := fun k b => if k = 101 ∧ 60 * u + j ≤ b ∧ b < 60 * u + j + n then X 101 (60 * s + i + (b - (60 * u + j))) else X k b
def xf_shE (E : mm_E) (s i u j n : Nat) : mm_E := fun k b => if k = 0 ∧ 60 * u + j ≤ b ∧ b < 60 * u + j + n then E 0 (60 * s + i + (b - (60 * u + j))) else E k b
/-- what may stand in rows of bytes, of halves -/
def xv_F (X : mm_S) (E : mm_E) : Prop := ∀ i : Int32, 0 ≤ i.toInt → i.toInt < 6 → ∀ j : Nat, j < (rd_ X 100 i).toInt.toNat → (xr_st (rd_ X 58 i) = 0 → fits .byte (.int (E 0 (60 * i.toNatClampNeg + j)).toInt32) = true) ∧ (xr_st (rd_ X 58 i) = 1 → fits .char (.int (E 0 (60 * i.toNatClampNeg + j)).toInt32) = true)
theorem xr_fits (hF : xv_F X E) {i : Int32} (i0 : 0 ≤ i.toInt) (i1 : i.toInt < 6) {t : Nat} (ht : t < 5) (hst : xr_st (rd_ X 58 i) = Int32.ofNat t) {j : Nat} (hj : j < (rd_ X 100 i).toInt.toNat) : fits (xr_T t) (xr_f X E t i j) = true := by
  have h := hF i i0 i1 j hj
  have : t = 0 ∨ t = 1 ∨ t = 2 ∨ t = 3 ∨ t = 4 := by omega
  rcases this with z | z | z | z | z <;> subst z
  · exact h.1 hst
  · exact h.2 hst
  · rfl
  · rfl
  · rfl
theorem xr_copy (hx : p.tables.exec = Jvm.exec) (hb : c.code = cc) (hml : c.maxLocals = ls.size) (hts : ∀ w ∈ lw_all, w.before args s = true) (hown : s.vm.findClass RX0 = some m.cls) (hK : wm_K G s) (hW : xx_W G o d0 X E D H) (hS : va_S (xx_F o d0) H0 H locs) (hF : xv_F X E) {si ui i j n : Int32} (hs : vp_in si 6) (hu : vp_in ui 6) (h6 : -6 ≤ (rd_ X 58 si).toInt) (h6u : -6 ≤ (rd_ X 58 ui).toInt) (hno : ¬ xr_st (rd_ X 58 si) = -1) (hsame : xr_st (rd_ X 58 si) = xr_st (rd_ X 58 ui))
    (i0 : 0 ≤ i.toInt) (j0 : 0 ≤ j.toInt) (n0 : 0 ≤ n.toInt) (hi : i.toInt + n.toInt ≤ (rd_ X 100 si).toInt) (hj : j.toInt + n.toInt ≤ (rd_ X 100 ui).toInt) {index : Nat} (hq : Cond.methodLink RX0 index arraycopyName ∈ lw_all) (hq2 : Cond.native arraycopyName ∈ lw_all) (hq3 : Cond.static arraycopyName ∈ lw_all) (hq4 : Cond.initialized "java/lang/System" ∈ lw_all)
    (hframes : 1 ≤ R.frames) (hlocals : (rest.map fun v => v.category).sum + (nativeFrameWords "java/lang/System" "arraycopy" 5 + 11) ≤ R.locals) (hd : decode cc pc = .ok (.invokestatic index, 3))
    (kk : ∀ (X1 : mm_S) (E1 : mm_E) (H1 : Heap) (locs1 : List Loc), X1 = xf_shX X si.toNatClampNeg i.toNatClampNeg ui.toNatClampNeg j.toNatClampNeg n.toNatClampNeg → E1 = xf_shE E si.toNatClampNeg i.toNatClampNeg ui.toNatClampNeg j.toNatClampNeg n.toNatClampNeg → xx_W G o d0 X1 E1 D H1 → va_S (xx_F o d0) H0 H1 locs1 → W p l e R s m args below meth c H1 locs1 cells slots Q (F0 m (pc + 3) ls rest)) : W p l e R s m args below meth c H locs cells slots Q (F0 m pc ls (.int n :: .int j :: va_rf (xx_so D (rd_ X 58 ui) ui.toNatClampNeg) :: .int i :: va_rf (xx_so D (rd_ X 58 si) si.toNatClampNeg) :: rest)) := by
  obtain ⟨t, ht, et⟩ : ∃ t : Nat, t < 5 ∧ xr_st (rd_ X 58 si) = Int32.ofNat t := by
    rcases xr_t h6 with q | q | ⟨t, ht, q⟩
    · exact absurd (by rw [q]; decide) hno
    · exact absurd (xr_st_b q) hno
    · exact ⟨t, ht, by rw [q]; exact (xr_st_of ht).1⟩
  have qs := xr_is_row h6 ht et
  have qu := xr_is_row h6u ht (by rw [← hsame]; exact et)
  obtain ⟨r1, r2⟩ := xr_row hW hs ht qs
  obtain ⟨u1, u2⟩ := xr_row hW hu ht qu
  have s2 := (xr_st_of ht).2
  have hs6 : si.toNatClampNeg < 6 := Nat.not_le.mp fun q => hs (Or.inr q)
  have hu6 : ui.toNatClampNeg < 6 := Nat.not_le.mp fun q => hu (Or.inr q)
  have zs := hW.siz _ hs6
  have zu := hW.siz _ hu6
  have es : rd_ X 100 si = X 100 si.toNatClampNeg := rfl
  have eu : rd_ X 100 ui = X 100 ui.toNatClampNeg := rfl
  rw [es] at hi
  rw [eu] at hj
  have ci := ww_cl i
  have cj := ww_cl j
  have cn := ww_cl n
  have cu := ww_cl ui
  have cs := ww_cl si
  have hs0 := ww_nlt (show ¬ si < 0 from fun q => hs (Or.inl q))
  rw [ww_z0] at hs0
  rw [xr_so_r (v := rd_ X 58 ui) (i := ui) (by rw [qu]; exact s2), xr_so_r (v := rd_ X 58 si) (i := si) (by rw [qs]; exact s2)]
  have nl : ∀ z : Int32, 0 ≤ z.toInt → ¬ z < 0 := fun z h => ww_nlt' (by rw [ww_00]; exact h)
  refine wm_copy hx hb hml hown (hts _ hq) (hts _ hq2) (hts _ hq3) (hts _ hq4) hK (xr_ty G t ht) r1 u1 hS (hW.din _ (by rw [u2]; intro z; cases z)) (by
    have : t = 0 ∨ t = 1 ∨ t = 2 ∨ t = 3 ∨ t = 4 := by omega
    rcases this with z | z | z | z | z <;> subst z <;> rfl) (nl i i0) (nl j j0) (nl n n0) (by omega) (by omega) (fun q hq => xr_fits hF hs0 (by omega) ht et (by rw [es]; omega)) hframes hlocals hd fun H1 locs1 hA hz oq hS1 => kk _ _ H1 locs1 rfl rfl ?_ hS1
  have ev : (-2 - (X 58 ui.toNatClampNeg).toInt).toNat = t := by
    have e : X 58 ui.toNatClampNeg = -2 - Int32.ofNat t := qu
    have : t = 0 ∨ t = 1 ∨ t = 2 ∨ t = 3 ∨ t = 4 := by omega
    rcases this with z | z | z | z | z <;> subst z <;> rw [e] <;> decide
  refine hW.rputs (fun k hk => ?_) hu6 (by rw [show X 58 ui.toNatClampNeg = -2 - Int32.ofNat t from qu]; exact s2) (fun b hb => ?_) ?_ hz oq
  · funext b
    unfold xf_shX
    rw [if_neg (fun q => hk q.1)]
  · unfold xf_shX xf_shE
    exact ⟨if_neg (by omega), if_neg (by omega)⟩
  · rw [ev]
    refine hA.to fun y hy => ?_
    have hy2 : y < (X 100 ui.toNatClampNeg).toInt.toNat := hy
    unfold va_cpy xf_shX xf_shE xr_f
    by_cases q : j.toNatClampNeg ≤ y ∧ y < j.toNatClampNeg + n.toNatClampNeg
    · rw [if_pos q, if_pos (by omega), if_pos (by omega)]
      have e1 : 60 * si.toNatClampNeg + (i.toNatClampNeg + (y - j.toNatClampNeg)) = 60 * si.toNatClampNeg + i.toNatClampNeg + (60 * ui.toNatClampNeg + y - (60 * ui.toNatClampNeg + j.toNatClampNeg)) := by omega
      rw [e1]
    · rw [if_neg q, if_neg (by omega), if_neg (by omega)]
end XCQ
def xf_shift (X : mm_S) (E : mm_E) (s i u j n : Int32) : Int32 × mm_S × mm_E :=
  if ff_isShelf s = 0 then (-1, X, E) else if ff_isShelf u = 0 then (-1, X, E) else if rd_ X 58 s = -1 then (-11, X, E) else if rd_ X 58 u = -1 then (-11, X, E) else if xr_st (rd_ X 58 s) = -1 then (-12, X, E) else if xr_st (rd_ X 58 s) = xr_st (rd_ X 58 u) then
  (if n < 0 then (-13, X, E) else if i < 0 then (-13, X, E) else if j < 0 then (-13, X, E) else if rd_ X 100 s - n < i then (-13, X, E) else if j ≤ rd_ X 100 u - n then (n, xf_shX X s.toNatClampNeg i.toNatClampNeg u.toNatClampNeg j.toNatClampNeg n.toNatClampNeg, xf_shE E s.toNatClampNeg i.toNatClampNeg u.toNatClampNeg j.toNatClampNeg n.toNatClampNeg) else (-13, X, E)) else (-12, X, E)
