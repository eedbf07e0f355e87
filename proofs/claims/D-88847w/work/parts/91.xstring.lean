/-! THE NAMES' TEXT: where a sign stands in it -/
set_option maxRecDepth 100000
def xs_by : List Int32 := [104, 100, 115, 107, 105, 110, 102, 116]
/-- the text at its cell, its signs in another -/
def xs_P (z aK aV : Nat) (U : State) (H : Heap) : Prop := va_Z "java/lang/String" "COMPACT_STRINGS" "Z" (.int 1) (fun q => z ≤ q) U H ∧ vk_S 1 [8] [xs_by] (fun _ => aK) (fun _ => aV) (fun q => z ≤ q) U H
theorem xs_P.moved {z aK aV : Nat} {u U : State} {H : Heap} (hvm : u.vm.Alike U.vm) (h : xs_P z aK aV u H) : xs_P z aK aV U H := ⟨h.1.moved hvm, h.2.moved hvm⟩
theorem xs_P.kept {z aK aV : Nat} {U : State} {H H1 : Heap} (h : xs_P z aK aV U H) (hq : ∀ a : Nat, a < H.size → ¬ z ≤ a → H1[a]? = H[a]?) : xs_P z aK aV U H1 := ⟨h.1.kept hq, h.2.kept hq⟩
def xs_Met (l : Launch) (y : MethodName) (ws : List Cond) (d : Nat) (z aK aV : Nat) (as : List Value) (r : Option Value) : Prop :=
  Met l y ws (wm_rm d) (va_Pc as (fun U => xs_P z aK aV U U.heap)) (pp_Q r) 0 0 (fun _ => False)
theorem xs_start {l : Launch} {y : MethodName} {own : String} {cc : ByteArray} {maxL : Nat} {ret : Option FieldType} {d z aK aV : Nat} {as : List Value} {r : Option Value} (hy : plainFor y = true) (hlen : (lg_sl as).length ≤ maxL) (hOw : y.cls = own)
    (body : ∀ (p : Program) (e : Env) (s : State) (m : MethodId) (below : List Frame) (meth : Method) (c : Code), p.tables.exec = Jvm.exec → c.code = cc → c.maxLocals = maxL → meth.sig.returnType = ret → meth.locks = false → (∀ w ∈ lw_all, w.before as.toArray s = true) → s.vm.findClass own = some m.cls → xs_P z aK aV s s.heap → ∀ ls : Array Slot, lv_has ls maxL (lv_args 0 as) →
      W p l e (wm_rm d) s m as.toArray below meth c s.heap [] 0 0 (MQ below (pp_Q r) as.toArray s 0 0 (fun _ => False)) (F0 m 0 ls [])) : xs_Met l y (ws_ y cc maxL ret) d z aK aV as r := by
  refine va_MetF (cc := cc) (maxL := maxL) (ret := ret) hy rfl ?_
  intro p e s m args below meth c s₁ B hml hv
  obtain ⟨rfl, hP⟩ := hv
  have hts := atoms_spec (ws := ws_ y cc maxL ret) B.pre
  have hts : ∀ w ∈ lw_all, w.before _ s = true := fun w h => hts w (List.mem_cons_of_mem _ h)
  have hown : s.vm.findClass own = some m.cls := by rw [← hOw]; exact findClass_of_methodNamed B.named
  have hl := lv_entry as hlen
  rw [lg_entry_eq]
  exact body p e s m below meth c B.exec B.bytes hml B.returns B.notSynchronized hts hown hP _ hl
section XST
variable {p : Program} {l : Launch} {e : Env} {R : Room} {s : State} {m : MethodId} {args : Array Value} {below : List Frame} {meth : Method} {c : Code} {H : Heap} {locs : List Loc} {cells slots : Nat} {Q : State → Prop}
variable {cc : ByteArray} {pc : Nat} {ls : Array Slot} {rest : List Value} {z aK aV : Nat}
variable {nL n maxL d index : Nat} {y : MethodName} {bytes : ByteArray} {ret : Option FieldType} {own C : String} {rc : Nat} {As st0 : List Value}
theorem xs_recv (hP : xs_P z aK aV s H) : xr_ s H "java/lang/String" aK := by
  obtain ⟨cell, h1, h2, h3, -⟩ := (hP.2.1 0 (by decide)).1
  exact ⟨cell, h1, h2, h3⟩
theorem xs_callV {v0 : Int32} (F : CallFix p m c cc nL s args lw_all own) (hP : xs_P z aK aV s H) (hM : xs_Met l y (ws_ y bytes maxL ret) d z aK aV (.ref rc :: As) (some (.int v0))) (hg : GoodIn lw_all (wsV own index C y (ws_ y bytes maxL ret))) (hr : xr_ s H C rc) (hy : y.cls = C ∧ xw_y y n) (hn : As.length = n) (hR : d + 1 ≤ R.frames ∧ 8 + (maxL + 11) + 60 * d ≤ R.locals) (hsz : ls.size = nL) (hst : st0 = As.reverse ++ .ref rc :: rest) (hrest : (rest.map fun v => v.category).sum ≤ 8) (hd : decode cc pc = .ok (.invokevirtual index, 3)) (hroom : cells ≤ R.cells ∧ slots ≤ R.slots)
    (kk : ∀ v : Int32, v = v0 → W p l e R s m args below meth c H locs cells slots Q (F0 m (pc + 3) ls (.int v :: rest))) : W p l e R s m args below meth c H locs cells slots Q (F0 m pc ls st0) := by
  have hr := va_runV (l := l) (H := H) (locs := locs) (cells := cells) (slots := slots) (g := F0 m pc ls st0) (p := p) (e := e) (below := below) (meth := meth) (rest := rest) F hM (cwV n F.2.2.2.2 hg rfl rfl rfl hy hR)
    ⟨fun _ U g mk q => ⟨q.1, q.2.moved (U := U.calling g mk _) (Vm.Alike.refl U.vm)⟩, hr, fun U2 hU hW2 => ⟨rfl, by show xs_P z aK aV U2 U2.heap; rw [hU]; exact hP.moved hW2.alike⟩⟩ rfl hn hsz hst (lv_room hrest) hd hroom
  intro T hT Z
  obtain ⟨v, st₀, t, T', L, h0, Z', hL, e1, -, ⟨hv, hh⟩, st⟩ := hr T hT Z
  cases hv
  obtain ⟨t2, a1, b1⟩ := kk v0 rfl T' (by rw [e1, hh, h0]) (Stand.forget Z' (fun q h => (hL q h).elim))
  exact ⟨t2, st t2 a1, b1⟩
theorem xs_callS {v0 : Int32} (F : CallFix p m c cc nL s args lw_all own) (hP : xs_P z aK aV s H) (hM : xs_Met l y (ws_ y bytes maxL ret) d z aK aV As (some (.int v0))) (hg : GoodIn lw_all (va_wsS own index y (ws_ y bytes maxL ret))) (hy : xw_y y n) (hn : As.length = n) (hR : d + 1 ≤ R.frames ∧ 8 + (maxL + 11) + 60 * d ≤ R.locals) (hsz : ls.size = nL) (hst : st0 = As.reverse ++ rest) (hrest : (rest.map fun v => v.category).sum ≤ 8) (hd : decode cc pc = .ok (.invokestatic index, 3)) (hroom : cells ≤ R.cells ∧ slots ≤ R.slots)
    (kk : ∀ v : Int32, v = v0 → W p l e R s m args below meth c H locs cells slots Q (F0 m (pc + 3) ls (.int v :: rest))) : W p l e R s m args below meth c H locs cells slots Q (F0 m pc ls st0) := by
  have hr := va_runS (l := l) (H := H) (locs := locs) (cells := cells) (slots := slots) (g := F0 m pc ls st0) (p := p) (e := e) (below := below) (meth := meth) (rest := rest) F hM (va_cwS n F.2.2.2.2 hg rfl rfl rfl hy hR)
    ⟨fun _ U g mk q => ⟨q.1, q.2.moved (U := U.calling g mk _) (Vm.Alike.refl U.vm)⟩, fun U2 hU hW2 => ⟨rfl, by show xs_P z aK aV U2 U2.heap; rw [hU]; exact hP.moved hW2.alike⟩⟩ rfl hn hsz hst (lv_room hrest) hd hroom
  intro T hT Z
  obtain ⟨v, st₀, t, T', L, h0, Z', hL, e1, -, ⟨hv, hh⟩, st⟩ := hr T hT Z
  cases hv
  obtain ⟨t2, a1, b1⟩ := kk v0 rfl T' (by rw [e1, hh, h0]) (Stand.forget Z' (fun q h => (hL q h).elim))
  exact ⟨t2, st t2 a1, b1⟩
theorem xs_tret {ty : FieldType} {v : Int32} {r : Option Value} (hx : p.tables.exec = Jvm.exec) (hb : c.code = cc) (hr : meth.sig.returnType = some ty) (hlocks : meth.locks = false) (hn : narrow ty (.int v) = .int v) (he : some (.int v) = r) (hdg : decode cc pc = .ok (.ireturn, 1)) : W p l e R s m args below meth c s.heap [] cells slots (MQ below (pp_Q r) args s cells slots (fun _ => False)) (F0 m pc ls [.int v]) :=
  W.zret (v := v) hx hb hr hn (fun t ht _ => ⟨by rw [he], ht⟩) (fun _ h => absurd h List.not_mem_nil) hdg hlocks
end XST

set_option maxHeartbeats 4000000 in
theorem xc_isLatin1 (lQ : Launch) (z aK aV : Nat) : xs_Met lQ yJ4_isLatin1 (ws_ yJ4_isLatin1 cJ4_isLatin1 1 (some .boolean)) 0 z aK aV [.ref aK] (some (.int 1)) := by
  refine xs_start (own := RJ4) (by decide) (Nat.le_of_ble_eq_true rfl) rfl (fun pQ eQ sQ mQ belowQ methQ cQ hx hb hml hr hlocks hts hown hP ls hl => ?_)
  have hl : lv_has ls 1 [(0, .ref aK)] := hl
  refine va_gets hx hb hP.1 va_S.rf hown (hts _ q999) (fun _ h => h) dJ4_isLatin1_0 ?_
  refine lv_if_eq (tgt := 17) hx hb dJ4_isLatin1_3 (by decide) (fun c3 => absurd c3 (by decide)) (fun _ => ?_)
  refine lv_aload_n hx hb dJ4_isLatin1_6 rfl (lv_at hl 0 rfl) ?_
  refine vk_getf hx hb (hP.2.1 0 (by decide)).2.1 va_S.rf hown (hts _ q2487) (fun _ h => h) dJ4_isLatin1_7 ?_
  refine lv_if_ne (tgt := 17) hx hb dJ4_isLatin1_10 (by decide) (fun c => absurd rfl c) (fun _ => ?_)
  refine lv_iconst (v := 1) hx hb dJ4_isLatin1_13 (by decide) ?_
  refine lv_goto (tgt := 18) hx hb dJ4_isLatin1_14 (by decide) ?_
  exact xs_tret hx hb hr hlocks rfl rfl dJ4_isLatin1_18

set_option maxHeartbeats 4000000 in
theorem xc_coder (lQ : Launch) (z aK aV : Nat) : xs_Met lQ yJ4_coder (ws_ yJ4_coder cJ4_coder 1 (some .byte)) 0 z aK aV [.ref aK] (some (.int 0)) := by
  refine xs_start (own := RJ4) (by decide) (Nat.le_of_ble_eq_true rfl) rfl (fun pQ eQ sQ mQ belowQ methQ cQ hx hb hml hr hlocks hts hown hP ls hl => ?_)
  have hl : lv_has ls 1 [(0, .ref aK)] := hl
  refine va_gets hx hb hP.1 va_S.rf hown (hts _ q999) (fun _ h => h) dJ4_coder_0 ?_
  refine lv_if_eq (tgt := 13) hx hb dJ4_coder_3 (by decide) (fun c3 => absurd c3 (by decide)) (fun _ => ?_)
  refine lv_aload_n hx hb dJ4_coder_6 rfl (lv_at hl 0 rfl) ?_
  refine vk_getf hx hb (hP.2.1 0 (by decide)).2.1 va_S.rf hown (hts _ q2487) (fun _ h => h) dJ4_coder_7 ?_
  refine lv_goto (tgt := 14) hx hb dJ4_coder_10 (by decide) ?_
  exact xs_tret hx hb hr hlocks rfl rfl dJ4_coder_14

set_option maxHeartbeats 4000000 in
theorem xc_length (lQ : Launch) (z aK aV : Nat) : xs_Met lQ yJ4_length (ws_ yJ4_length cJ4_length 1 (some .int)) 1 z aK aV [.ref aK] (some (.int 8)) := by
  refine xs_start (own := RJ4) (by decide) (Nat.le_of_ble_eq_true rfl) rfl (fun pQ eQ sQ mQ belowQ methQ cQ hx hb hml hr hlocks hts hown hP ls hl => ?_)
  have hl : lv_has ls 1 [(0, .ref aK)] := hl
  refine lv_aload_n hx hb dJ4_length_0 rfl (lv_at hl 0 rfl) ?_
  refine vk_getf hx hb (hP.2.1 0 (by decide)).2.2.1 va_S.rf hown (hts _ q2488) (fun _ h => h) dJ4_length_1 ?_
  refine va_tlen (v := 8) hx hb (hP.2.1 0 (by decide)).2.2.2 va_S.rf rfl dJ4_length_4 ?_
  refine lv_aload_n hx hb dJ4_length_5 rfl (lv_at hl 0 rfl) ?_
  refine xs_callV (As := []) (rest := [.int 8]) (n := 0) ⟨hx, hb, hml, hown, hts⟩ hP (xc_coder lQ z aK aV) (lw_V q1005 q1006 q1007 q104 q1008) (xs_recv hP) (by decide +kernel) rfl ⟨Nat.le_of_ble_eq_true rfl, Nat.le_of_ble_eq_true rfl⟩ hl.1 rfl (Nat.le_of_ble_eq_true rfl) dJ4_length_6 ⟨Nat.le_of_ble_eq_true rfl, Nat.le_of_ble_eq_true rfl⟩ (fun v6 e6 => ?_)
  refine nv_ishr hx hb dJ4_length_9 (fun v9 e9 => ?_)
  refine pp_iret hx hb hr hlocks ?_ dJ4_length_10
  rw [e9, e6]
  decide

def xs_can (ch : Int32) : Int32 := if ch < 0 then 0 else if 255 < ch then 0 else 1
set_option maxHeartbeats 4000000 in
theorem xc_canEncode (lQ : Launch) (ch : Int32) : pp_Met lQ yJ5_canEncode (ws_ yJ5_canEncode cJ5_canEncode 1 (some .boolean)) 0 [.int ch] (some (.int (xs_can ch))) := by
  refine pp_startF (own := RJ5) (by decide) (Nat.le_of_ble_eq_true rfl) rfl (fun pQ eQ sQ mQ belowQ methQ cQ hx hb hml hr hlocks hts hown ls hl => ?_)
  have hl : lv_has ls 1 [(0, .int ch)] := hl
  refine lv_iload_n hx hb dJ5_canEncode_0 rfl (lv_at hl 0 rfl) ?_
  refine lv_if_lt (tgt := 15) hx hb dJ5_canEncode_1 (by decide) (fun c1 => ?_) (fun c1 => ?_)
  · refine lv_iconst (v := 0) hx hb dJ5_canEncode_15 (by decide) ?_
    refine pp_zret hx hb hr hlocks rfl ?_ dJ5_canEncode_16
    rw [xs_can, if_pos c1]
  · refine lv_iload_n hx hb dJ5_canEncode_4 rfl (lv_at hl 0 rfl) ?_
    refine lv_sipush (v := 255) hx hb dJ5_canEncode_5 (by decide) ?_
    refine lv_icmp_gt (tgt := 15) hx hb dJ5_canEncode_8 (by decide) (fun c8 => ?_) (fun c8 => ?_)
    · refine lv_iconst (v := 0) hx hb dJ5_canEncode_15 (by decide) ?_
      refine pp_zret hx hb hr hlocks rfl ?_ dJ5_canEncode_16
      rw [xs_can, if_neg c1, if_pos c8]
    · refine lv_iconst (v := 1) hx hb dJ5_canEncode_11 (by decide) ?_
      refine lv_goto (tgt := 16) hx hb dJ5_canEncode_12 (by decide) ?_
      refine pp_zret hx hb hr hlocks rfl ?_ dJ5_canEncode_16
      rw [xs_can, if_neg c1, if_neg c8]
theorem xs_b8 {x b : Int32} (x0 : 0 ≤ x.toInt) (x1 : x.toInt ≤ 255) (b0 : 0 ≤ b.toInt) (b1 : b.toInt ≤ 127) : b = x.toInt8.toInt32 ↔ x = b := by
  have e : (x.toInt8.toInt32).toInt = x.toInt.bmod (2 ^ 8) := by rw [Int8.toInt_toInt32, Int32.toInt_toInt8]
  constructor
  · intro h
    apply ww_eq
    have h2 : b.toInt = x.toInt.bmod (2 ^ 8) := by rw [← e, ← h]
    rw [Int.bmod_def] at h2
    split at h2 <;> omega
  · intro h
    apply ww_eq
    rw [e, h, Int.bmod_def]
    split <;> omega

set_option maxHeartbeats 4000000 in
theorem xc_indexOfChar (lQ : Launch) (z aK aV : Nat) (ch : Int32) (h0 : 0 ≤ ch.toInt) (h1 : ch.toInt ≤ 255) : xs_Met lQ yJ5_indexOfChar (ws_ yJ5_indexOfChar cJ5_indexOfChar 6 (some .int)) 0 z aK aV [.ref aV, .int ch, .int 0, .int 8] (some (.int (ff_nameOf ch))) := by
  refine xs_start (own := RJ5) (by decide) (Nat.le_of_ble_eq_true rfl) rfl (fun pQ eQ sQ mQ belowQ methQ cQ hx hb hml hr hlocks hts hown hP ls hl => ?_)
  have hl : lv_has ls 6 [(0, .ref aV), (1, .int ch), (2, .int 0), (3, .int 8)] := hl
  refine lv_iload_n hx hb dJ5_indexOfChar_0 rfl (lv_at hl 1 rfl) ?_
  refine nv_i2b hx hb dJ5_indexOfChar_1 (fun v1 e1 => ?_)
  refine lv_istore (lv' := [(4, .int v1), (0, .ref aV), (1, .int ch), (2, .int 0), (3, .int 8)]) hx hb dJ5_indexOfChar_2 hl (by decide) rfl (fun ls hl => ?_)
  refine lv_iload_n hx hb dJ5_indexOfChar_4 rfl (lv_at hl 3 rfl) ?_
  refine lv_istore (lv' := [(5, .int 0), (4, .int v1), (0, .ref aV), (1, .int ch), (2, .int 0), (3, .int 8)]) hx hb dJ5_indexOfChar_5 hl (by decide) rfl (fun ls hl => ?_)
  refine lv_iload hx hb dJ5_indexOfChar_7 (lv_at hl 0 rfl) ?_
  refine lv_iload_n hx hb dJ5_indexOfChar_9 rfl (lv_at hl 5 rfl) ?_
  refine lv_icmp_ge (tgt := 31) hx hb dJ5_indexOfChar_10 (by decide) (fun c => absurd c (by decide)) (fun _ => ?_)
  refine lv_aload_n hx hb dJ5_indexOfChar_13 rfl (lv_at hl 2 rfl) ?_
  refine lv_iload hx hb dJ5_indexOfChar_14 (lv_at hl 0 rfl) ?_
  refine va_tb (v := .int 104) hx hb (hP.2.1 0 (by decide)).2.2.2 va_S.rf (ww_in (by decide) (by decide)) rfl dJ5_indexOfChar_16 ?_
  refine lv_iload hx hb dJ5_indexOfChar_17 (lv_at hl 1 rfl) ?_
  refine lv_icmp_ne (tgt := 25) hx hb dJ5_indexOfChar_19 (by decide) (fun c0 => ?_) (fun c0 => ?_)
  rotate_left
  · have n : ch = 104 := (xs_b8 h0 h1 (by decide) (by decide)).mp (by rw [← e1]; exact c0)
    refine lv_iload hx hb dJ5_indexOfChar_22 (lv_at hl 0 rfl) ?_
    refine pp_iret hx hb hr hlocks ?_ dJ5_indexOfChar_24
    rw [n]
    decide
  have n0 : ¬ ch = 104 := fun z => c0 (by rw [e1]; exact (xs_b8 h0 h1 (by decide) (by decide)).mpr z)
  refine lv_iinc (v := 1) (lv' := [(5, .int 1), (4, .int v1), (0, .ref aV), (1, .int ch), (2, .int 0), (3, .int 8)]) hx hb dJ5_indexOfChar_25 hl (k := 0) rfl (by decide) (by decide) rfl (fun ls hl => ?_)
  refine lv_goto (tgt := 7) hx hb dJ5_indexOfChar_28 (by decide) ?_
  refine lv_iload hx hb dJ5_indexOfChar_7 (lv_at hl 0 rfl) ?_
  refine lv_iload_n hx hb dJ5_indexOfChar_9 rfl (lv_at hl 5 rfl) ?_
  refine lv_icmp_ge (tgt := 31) hx hb dJ5_indexOfChar_10 (by decide) (fun c => absurd c (by decide)) (fun _ => ?_)
  refine lv_aload_n hx hb dJ5_indexOfChar_13 rfl (lv_at hl 2 rfl) ?_
  refine lv_iload hx hb dJ5_indexOfChar_14 (lv_at hl 0 rfl) ?_
  refine va_tb (v := .int 100) hx hb (hP.2.1 0 (by decide)).2.2.2 va_S.rf (ww_in (by decide) (by decide)) rfl dJ5_indexOfChar_16 ?_
  refine lv_iload hx hb dJ5_indexOfChar_17 (lv_at hl 1 rfl) ?_
  refine lv_icmp_ne (tgt := 25) hx hb dJ5_indexOfChar_19 (by decide) (fun c1 => ?_) (fun c1 => ?_)
  rotate_left
  · have n : ch = 100 := (xs_b8 h0 h1 (by decide) (by decide)).mp (by rw [← e1]; exact c1)
    refine lv_iload hx hb dJ5_indexOfChar_22 (lv_at hl 0 rfl) ?_
    refine pp_iret hx hb hr hlocks ?_ dJ5_indexOfChar_24
    rw [n]
    decide
  have n1 : ¬ ch = 100 := fun z => c1 (by rw [e1]; exact (xs_b8 h0 h1 (by decide) (by decide)).mpr z)
  refine lv_iinc (v := 2) (lv' := [(5, .int 2), (4, .int v1), (0, .ref aV), (1, .int ch), (2, .int 0), (3, .int 8)]) hx hb dJ5_indexOfChar_25 hl (k := 0) rfl (by decide) (by decide) rfl (fun ls hl => ?_)
  refine lv_goto (tgt := 7) hx hb dJ5_indexOfChar_28 (by decide) ?_
  refine lv_iload hx hb dJ5_indexOfChar_7 (lv_at hl 0 rfl) ?_
  refine lv_iload_n hx hb dJ5_indexOfChar_9 rfl (lv_at hl 5 rfl) ?_
  refine lv_icmp_ge (tgt := 31) hx hb dJ5_indexOfChar_10 (by decide) (fun c => absurd c (by decide)) (fun _ => ?_)
  refine lv_aload_n hx hb dJ5_indexOfChar_13 rfl (lv_at hl 2 rfl) ?_
  refine lv_iload hx hb dJ5_indexOfChar_14 (lv_at hl 0 rfl) ?_
  refine va_tb (v := .int 115) hx hb (hP.2.1 0 (by decide)).2.2.2 va_S.rf (ww_in (by decide) (by decide)) rfl dJ5_indexOfChar_16 ?_
  refine lv_iload hx hb dJ5_indexOfChar_17 (lv_at hl 1 rfl) ?_
  refine lv_icmp_ne (tgt := 25) hx hb dJ5_indexOfChar_19 (by decide) (fun c2 => ?_) (fun c2 => ?_)
  rotate_left
  · have n : ch = 115 := (xs_b8 h0 h1 (by decide) (by decide)).mp (by rw [← e1]; exact c2)
    refine lv_iload hx hb dJ5_indexOfChar_22 (lv_at hl 0 rfl) ?_
    refine pp_iret hx hb hr hlocks ?_ dJ5_indexOfChar_24
    rw [n]
    decide
  have n2 : ¬ ch = 115 := fun z => c2 (by rw [e1]; exact (xs_b8 h0 h1 (by decide) (by decide)).mpr z)
  refine lv_iinc (v := 3) (lv' := [(5, .int 3), (4, .int v1), (0, .ref aV), (1, .int ch), (2, .int 0), (3, .int 8)]) hx hb dJ5_indexOfChar_25 hl (k := 0) rfl (by decide) (by decide) rfl (fun ls hl => ?_)
  refine lv_goto (tgt := 7) hx hb dJ5_indexOfChar_28 (by decide) ?_
  refine lv_iload hx hb dJ5_indexOfChar_7 (lv_at hl 0 rfl) ?_
  refine lv_iload_n hx hb dJ5_indexOfChar_9 rfl (lv_at hl 5 rfl) ?_
  refine lv_icmp_ge (tgt := 31) hx hb dJ5_indexOfChar_10 (by decide) (fun c => absurd c (by decide)) (fun _ => ?_)
  refine lv_aload_n hx hb dJ5_indexOfChar_13 rfl (lv_at hl 2 rfl) ?_
  refine lv_iload hx hb dJ5_indexOfChar_14 (lv_at hl 0 rfl) ?_
  refine va_tb (v := .int 107) hx hb (hP.2.1 0 (by decide)).2.2.2 va_S.rf (ww_in (by decide) (by decide)) rfl dJ5_indexOfChar_16 ?_
  refine lv_iload hx hb dJ5_indexOfChar_17 (lv_at hl 1 rfl) ?_
  refine lv_icmp_ne (tgt := 25) hx hb dJ5_indexOfChar_19 (by decide) (fun c3 => ?_) (fun c3 => ?_)
  rotate_left
  · have n : ch = 107 := (xs_b8 h0 h1 (by decide) (by decide)).mp (by rw [← e1]; exact c3)
    refine lv_iload hx hb dJ5_indexOfChar_22 (lv_at hl 0 rfl) ?_
    refine pp_iret hx hb hr hlocks ?_ dJ5_indexOfChar_24
    rw [n]
    decide
  have n3 : ¬ ch = 107 := fun z => c3 (by rw [e1]; exact (xs_b8 h0 h1 (by decide) (by decide)).mpr z)
  refine lv_iinc (v := 4) (lv' := [(5, .int 4), (4, .int v1), (0, .ref aV), (1, .int ch), (2, .int 0), (3, .int 8)]) hx hb dJ5_indexOfChar_25 hl (k := 0) rfl (by decide) (by decide) rfl (fun ls hl => ?_)
  refine lv_goto (tgt := 7) hx hb dJ5_indexOfChar_28 (by decide) ?_
  refine lv_iload hx hb dJ5_indexOfChar_7 (lv_at hl 0 rfl) ?_
  refine lv_iload_n hx hb dJ5_indexOfChar_9 rfl (lv_at hl 5 rfl) ?_
  refine lv_icmp_ge (tgt := 31) hx hb dJ5_indexOfChar_10 (by decide) (fun c => absurd c (by decide)) (fun _ => ?_)
  refine lv_aload_n hx hb dJ5_indexOfChar_13 rfl (lv_at hl 2 rfl) ?_
  refine lv_iload hx hb dJ5_indexOfChar_14 (lv_at hl 0 rfl) ?_
  refine va_tb (v := .int 105) hx hb (hP.2.1 0 (by decide)).2.2.2 va_S.rf (ww_in (by decide) (by decide)) rfl dJ5_indexOfChar_16 ?_
  refine lv_iload hx hb dJ5_indexOfChar_17 (lv_at hl 1 rfl) ?_
  refine lv_icmp_ne (tgt := 25) hx hb dJ5_indexOfChar_19 (by decide) (fun c4 => ?_) (fun c4 => ?_)
  rotate_left
  · have n : ch = 105 := (xs_b8 h0 h1 (by decide) (by decide)).mp (by rw [← e1]; exact c4)
    refine lv_iload hx hb dJ5_indexOfChar_22 (lv_at hl 0 rfl) ?_
    refine pp_iret hx hb hr hlocks ?_ dJ5_indexOfChar_24
    rw [n]
    decide
  have n4 : ¬ ch = 105 := fun z => c4 (by rw [e1]; exact (xs_b8 h0 h1 (by decide) (by decide)).mpr z)
  refine lv_iinc (v := 5) (lv' := [(5, .int 5), (4, .int v1), (0, .ref aV), (1, .int ch), (2, .int 0), (3, .int 8)]) hx hb dJ5_indexOfChar_25 hl (k := 0) rfl (by decide) (by decide) rfl (fun ls hl => ?_)
  refine lv_goto (tgt := 7) hx hb dJ5_indexOfChar_28 (by decide) ?_
  refine lv_iload hx hb dJ5_indexOfChar_7 (lv_at hl 0 rfl) ?_
  refine lv_iload_n hx hb dJ5_indexOfChar_9 rfl (lv_at hl 5 rfl) ?_
  refine lv_icmp_ge (tgt := 31) hx hb dJ5_indexOfChar_10 (by decide) (fun c => absurd c (by decide)) (fun _ => ?_)
  refine lv_aload_n hx hb dJ5_indexOfChar_13 rfl (lv_at hl 2 rfl) ?_
  refine lv_iload hx hb dJ5_indexOfChar_14 (lv_at hl 0 rfl) ?_
  refine va_tb (v := .int 110) hx hb (hP.2.1 0 (by decide)).2.2.2 va_S.rf (ww_in (by decide) (by decide)) rfl dJ5_indexOfChar_16 ?_
  refine lv_iload hx hb dJ5_indexOfChar_17 (lv_at hl 1 rfl) ?_
  refine lv_icmp_ne (tgt := 25) hx hb dJ5_indexOfChar_19 (by decide) (fun c5 => ?_) (fun c5 => ?_)
  rotate_left
  · have n : ch = 110 := (xs_b8 h0 h1 (by decide) (by decide)).mp (by rw [← e1]; exact c5)
    refine lv_iload hx hb dJ5_indexOfChar_22 (lv_at hl 0 rfl) ?_
    refine pp_iret hx hb hr hlocks ?_ dJ5_indexOfChar_24
    rw [n]
    decide
  have n5 : ¬ ch = 110 := fun z => c5 (by rw [e1]; exact (xs_b8 h0 h1 (by decide) (by decide)).mpr z)
  refine lv_iinc (v := 6) (lv' := [(5, .int 6), (4, .int v1), (0, .ref aV), (1, .int ch), (2, .int 0), (3, .int 8)]) hx hb dJ5_indexOfChar_25 hl (k := 0) rfl (by decide) (by decide) rfl (fun ls hl => ?_)
  refine lv_goto (tgt := 7) hx hb dJ5_indexOfChar_28 (by decide) ?_
  refine lv_iload hx hb dJ5_indexOfChar_7 (lv_at hl 0 rfl) ?_
  refine lv_iload_n hx hb dJ5_indexOfChar_9 rfl (lv_at hl 5 rfl) ?_
  refine lv_icmp_ge (tgt := 31) hx hb dJ5_indexOfChar_10 (by decide) (fun c => absurd c (by decide)) (fun _ => ?_)
  refine lv_aload_n hx hb dJ5_indexOfChar_13 rfl (lv_at hl 2 rfl) ?_
  refine lv_iload hx hb dJ5_indexOfChar_14 (lv_at hl 0 rfl) ?_
  refine va_tb (v := .int 102) hx hb (hP.2.1 0 (by decide)).2.2.2 va_S.rf (ww_in (by decide) (by decide)) rfl dJ5_indexOfChar_16 ?_
  refine lv_iload hx hb dJ5_indexOfChar_17 (lv_at hl 1 rfl) ?_
  refine lv_icmp_ne (tgt := 25) hx hb dJ5_indexOfChar_19 (by decide) (fun c6 => ?_) (fun c6 => ?_)
  rotate_left
  · have n : ch = 102 := (xs_b8 h0 h1 (by decide) (by decide)).mp (by rw [← e1]; exact c6)
    refine lv_iload hx hb dJ5_indexOfChar_22 (lv_at hl 0 rfl) ?_
    refine pp_iret hx hb hr hlocks ?_ dJ5_indexOfChar_24
    rw [n]
    decide
  have n6 : ¬ ch = 102 := fun z => c6 (by rw [e1]; exact (xs_b8 h0 h1 (by decide) (by decide)).mpr z)
  refine lv_iinc (v := 7) (lv' := [(5, .int 7), (4, .int v1), (0, .ref aV), (1, .int ch), (2, .int 0), (3, .int 8)]) hx hb dJ5_indexOfChar_25 hl (k := 0) rfl (by decide) (by decide) rfl (fun ls hl => ?_)
  refine lv_goto (tgt := 7) hx hb dJ5_indexOfChar_28 (by decide) ?_
  refine lv_iload hx hb dJ5_indexOfChar_7 (lv_at hl 0 rfl) ?_
  refine lv_iload_n hx hb dJ5_indexOfChar_9 rfl (lv_at hl 5 rfl) ?_
  refine lv_icmp_ge (tgt := 31) hx hb dJ5_indexOfChar_10 (by decide) (fun c => absurd c (by decide)) (fun _ => ?_)
  refine lv_aload_n hx hb dJ5_indexOfChar_13 rfl (lv_at hl 2 rfl) ?_
  refine lv_iload hx hb dJ5_indexOfChar_14 (lv_at hl 0 rfl) ?_
  refine va_tb (v := .int 116) hx hb (hP.2.1 0 (by decide)).2.2.2 va_S.rf (ww_in (by decide) (by decide)) rfl dJ5_indexOfChar_16 ?_
  refine lv_iload hx hb dJ5_indexOfChar_17 (lv_at hl 1 rfl) ?_
  refine lv_icmp_ne (tgt := 25) hx hb dJ5_indexOfChar_19 (by decide) (fun c7 => ?_) (fun c7 => ?_)
  rotate_left
  · have n : ch = 116 := (xs_b8 h0 h1 (by decide) (by decide)).mp (by rw [← e1]; exact c7)
    refine lv_iload hx hb dJ5_indexOfChar_22 (lv_at hl 0 rfl) ?_
    refine pp_iret hx hb hr hlocks ?_ dJ5_indexOfChar_24
    rw [n]
    decide
  have n7 : ¬ ch = 116 := fun z => c7 (by rw [e1]; exact (xs_b8 h0 h1 (by decide) (by decide)).mpr z)
  refine lv_iinc (v := 8) (lv' := [(5, .int 8), (4, .int v1), (0, .ref aV), (1, .int ch), (2, .int 0), (3, .int 8)]) hx hb dJ5_indexOfChar_25 hl (k := 0) rfl (by decide) (by decide) rfl (fun ls hl => ?_)
  refine lv_goto (tgt := 7) hx hb dJ5_indexOfChar_28 (by decide) ?_
  refine lv_iload hx hb dJ5_indexOfChar_7 (lv_at hl 0 rfl) ?_
  refine lv_iload_n hx hb dJ5_indexOfChar_9 rfl (lv_at hl 5 rfl) ?_
  refine lv_icmp_ge (tgt := 31) hx hb dJ5_indexOfChar_10 (by decide) (fun _ => ?_) (fun c => absurd (by decide) c)
  refine lv_iconst (v := (-1)) hx hb dJ5_indexOfChar_31 (by decide) ?_
  refine pp_iret hx hb hr hlocks ?_ dJ5_indexOfChar_32
  unfold ff_nameOf
  rw [if_neg n1]
  rw [if_neg n6]
  rw [if_neg n0]
  rw [if_neg n4]
  rw [if_neg n3]
  rw [if_neg n5]
  rw [if_neg n2]
  rw [if_neg n7]
set_option maxHeartbeats 4000000 in
theorem xc_indexOfB (lQ : Launch) (z aK aV : Nat) (ch : Int32) : xs_Met lQ yJ5_indexOf (ws_ yJ5_indexOf cJ5_indexOf 4 (some .int)) 1 z aK aV [.ref aV, .int ch, .int 0, .int 8] (some (.int (ff_nameOf ch))) := by
  refine xs_start (own := RJ5) (by decide) (Nat.le_of_ble_eq_true rfl) rfl (fun pQ eQ sQ mQ belowQ methQ cQ hx hb hml hr hlocks hts hown hP ls hl => ?_)
  have hl : lv_has ls 4 [(0, .ref aV), (1, .int ch), (2, .int 0), (3, .int 8)] := hl
  refine lv_iload_n hx hb dJ5_indexOf_0 rfl (lv_at hl 1 rfl) ?_
  refine pp_calli (As := [.int ch]) (rest := []) (n := 1) ⟨hx, hb, hml, hown, hts⟩ (xc_canEncode lQ ch) (lw_S q1012 q1013 q105 q1014) (by decide +kernel) rfl ⟨Nat.le_of_ble_eq_true rfl, Nat.le_of_ble_eq_true rfl⟩ hl.1 rfl (Nat.le_of_ble_eq_true rfl) dJ5_indexOf_1 ⟨Nat.le_of_ble_eq_true rfl, Nat.le_of_ble_eq_true rfl⟩ (fun v1 e1 => ?_)
  refine lv_if_ne (tgt := 9) hx hb dJ5_indexOf_4 (by decide) (fun c4 => ?_) (fun c4 => ?_)
  rotate_left
  · refine lv_iconst (v := (-1)) hx hb dJ5_indexOf_7 (by decide) ?_
    refine pp_iret hx hb hr hlocks ?_ dJ5_indexOf_8
    rw [e1] at c4
    have hn : ch.toInt < 0 ∨ 255 < ch.toInt := by
      unfold xs_can at c4
      split at c4
      · rename_i y; exact Or.inl (ww_l0 y)
      · split at c4
        · rename_i y; exact Or.inr (ww_lt y)
        · exact absurd c4 (by decide)
    have ne : ∀ b : Int32, 0 ≤ b.toInt → b.toInt ≤ 255 → ¬ ch = b := fun b b0 b1 z => by rw [z] at hn; omega
    unfold ff_nameOf
    rw [if_neg (ne 100 (by decide) (by decide))]
    rw [if_neg (ne 102 (by decide) (by decide))]
    rw [if_neg (ne 104 (by decide) (by decide))]
    rw [if_neg (ne 105 (by decide) (by decide))]
    rw [if_neg (ne 107 (by decide) (by decide))]
    rw [if_neg (ne 110 (by decide) (by decide))]
    rw [if_neg (ne 115 (by decide) (by decide))]
    rw [if_neg (ne 116 (by decide) (by decide))]
  have hc : 0 ≤ ch.toInt ∧ ch.toInt ≤ 255 := by
    rw [e1] at c4
    unfold xs_can at c4
    split at c4
    · exact absurd rfl c4
    · split at c4
      · exact absurd rfl c4
      · rename_i y1 y2; exact ⟨ww_nl0 y1, ww_nlt y2⟩
  refine lv_iload_n hx hb dJ5_indexOf_9 rfl (lv_at hl 2 rfl) ?_
  refine lv_iconst (v := 0) hx hb dJ5_indexOf_10 (by decide) ?_
  refine pp_calli (As := [.int 0, .int 0]) (rest := []) (n := 2) ⟨hx, hb, hml, hown, hts⟩ (xc_max lQ 0 0) (lw_S q1015 q867 q101 q868) (by decide +kernel) rfl ⟨Nat.le_of_ble_eq_true rfl, Nat.le_of_ble_eq_true rfl⟩ hl.1 rfl (Nat.le_of_ble_eq_true rfl) dJ5_indexOf_11 ⟨Nat.le_of_ble_eq_true rfl, Nat.le_of_ble_eq_true rfl⟩ (fun v11 e11 => ?_)
  have e11 : v11 = 0 := by rw [e11]; decide
  subst e11
  refine lv_istore_n (i := 2) (lv' := [(2, .int 0), (0, .ref aV), (1, .int ch), (3, .int 8)]) hx hb dJ5_indexOf_14 rfl hl (by decide) rfl (fun ls hl => ?_)
  refine lv_iload_n hx hb dJ5_indexOf_15 rfl (lv_at hl 3 rfl) ?_
  refine lv_aload_n hx hb dJ5_indexOf_16 rfl (lv_at hl 1 rfl) ?_
  refine va_tlen (v := 8) hx hb (hP.2.1 0 (by decide)).2.2.2 va_S.rf rfl dJ5_indexOf_17 ?_
  refine pp_calli (As := [.int 8, .int 8]) (rest := []) (n := 2) ⟨hx, hb, hml, hown, hts⟩ (xc_min lQ 8 8) (lw_S q1016 q864 q101 q865) (by decide +kernel) rfl ⟨Nat.le_of_ble_eq_true rfl, Nat.le_of_ble_eq_true rfl⟩ hl.1 rfl (Nat.le_of_ble_eq_true rfl) dJ5_indexOf_18 ⟨Nat.le_of_ble_eq_true rfl, Nat.le_of_ble_eq_true rfl⟩ (fun v18 e18 => ?_)
  have e18 : v18 = 8 := by rw [e18]; decide
  subst e18
  refine lv_istore_n (i := 3) (lv' := [(3, .int 8), (2, .int 0), (0, .ref aV), (1, .int ch)]) hx hb dJ5_indexOf_21 rfl hl (by decide) rfl (fun ls hl => ?_)
  refine lv_iload_n hx hb dJ5_indexOf_22 rfl (lv_at hl 1 rfl) ?_
  refine lv_iload_n hx hb dJ5_indexOf_23 rfl (lv_at hl 0 rfl) ?_
  refine lv_icmp_lt (tgt := 29) hx hb dJ5_indexOf_24 (by decide) (fun _ => ?_) (fun c => absurd (by decide) c)
  refine lv_aload_n hx hb dJ5_indexOf_29 rfl (lv_at hl 2 rfl) ?_
  refine lv_iload_n hx hb dJ5_indexOf_30 rfl (lv_at hl 3 rfl) ?_
  refine lv_iload_n hx hb dJ5_indexOf_31 rfl (lv_at hl 1 rfl) ?_
  refine lv_iload_n hx hb dJ5_indexOf_32 rfl (lv_at hl 0 rfl) ?_
  refine xs_callS (As := [.ref aV, .int ch, .int 0, .int 8]) (rest := []) (n := 4) ⟨hx, hb, hml, hown, hts⟩ hP (xc_indexOfChar lQ z aK aV ch hc.1 hc.2) (lw_S q1017 q1018 q105 q1019) (by decide +kernel) rfl ⟨Nat.le_of_ble_eq_true rfl, Nat.le_of_ble_eq_true rfl⟩ hl.1 rfl (Nat.le_of_ble_eq_true rfl) dJ5_indexOf_33 ⟨Nat.le_of_ble_eq_true rfl, Nat.le_of_ble_eq_true rfl⟩ (fun v33 e33 => ?_)
  exact pp_iret hx hb hr hlocks (by rw [e33]) dJ5_indexOf_36
set_option maxHeartbeats 4000000 in
theorem xc_indexOf2 (lQ : Launch) (z aK aV : Nat) (ch : Int32) : xs_Met lQ yJ4_indexOf_2 (ws_ yJ4_indexOf_2 cJ4_indexOf_2 3 (some .int)) 2 z aK aV [.ref aK, .int ch, .int 0] (some (.int (ff_nameOf ch))) := by
  refine xs_start (own := RJ4) (by decide) (Nat.le_of_ble_eq_true rfl) rfl (fun pQ eQ sQ mQ belowQ methQ cQ hx hb hml hr hlocks hts hown hP ls hl => ?_)
  have hl : lv_has ls 3 [(0, .ref aK), (1, .int ch), (2, .int 0)] := hl
  refine lv_aload_n hx hb dJ4_indexOf_2_0 rfl (lv_at hl 0 rfl) ?_
  refine xs_callV (As := []) (rest := []) (n := 0) ⟨hx, hb, hml, hown, hts⟩ hP (xc_isLatin1 lQ z aK aV) (lw_V q995 q996 q997 q104 q998) (xs_recv hP) (by decide +kernel) rfl ⟨Nat.le_of_ble_eq_true rfl, Nat.le_of_ble_eq_true rfl⟩ hl.1 rfl (Nat.le_of_ble_eq_true rfl) dJ4_indexOf_2_1 ⟨Nat.le_of_ble_eq_true rfl, Nat.le_of_ble_eq_true rfl⟩ (fun v1 e1 => ?_)
  refine lv_if_eq (tgt := 23) hx hb dJ4_indexOf_2_4 (by decide) (fun c => absurd (e1.symm.trans c) (by decide)) (fun _ => ?_)
  refine lv_aload_n hx hb dJ4_indexOf_2_7 rfl (lv_at hl 0 rfl) ?_
  refine vk_getf hx hb (hP.2.1 0 (by decide)).2.2.1 va_S.rf hown (hts _ q2488) (fun _ h => h) dJ4_indexOf_2_8 ?_
  refine lv_iload_n hx hb dJ4_indexOf_2_11 rfl (lv_at hl 1 rfl) ?_
  refine lv_iload_n hx hb dJ4_indexOf_2_12 rfl (lv_at hl 2 rfl) ?_
  refine lv_aload_n hx hb dJ4_indexOf_2_13 rfl (lv_at hl 0 rfl) ?_
  refine xs_callV (As := []) (rest := [.int 0, .int ch, .ref aV]) (n := 0) ⟨hx, hb, hml, hown, hts⟩ hP (xc_length lQ z aK aV) (lw_V q1001 q1002 q1003 q104 q1004) (xs_recv hP) (by decide +kernel) rfl ⟨Nat.le_of_ble_eq_true rfl, Nat.le_of_ble_eq_true rfl⟩ hl.1 rfl (Nat.le_of_ble_eq_true rfl) dJ4_indexOf_2_14 ⟨Nat.le_of_ble_eq_true rfl, Nat.le_of_ble_eq_true rfl⟩ (fun v14 e14 => ?_)
  subst e14
  refine xs_callS (As := [.ref aV, .int ch, .int 0, .int 8]) (rest := []) (n := 4) ⟨hx, hb, hml, hown, hts⟩ hP (xc_indexOfB lQ z aK aV ch) (lw_S q1009 q1010 q105 q1011) (by decide +kernel) rfl ⟨Nat.le_of_ble_eq_true rfl, Nat.le_of_ble_eq_true rfl⟩ hl.1 rfl (Nat.le_of_ble_eq_true rfl) dJ4_indexOf_2_17 ⟨Nat.le_of_ble_eq_true rfl, Nat.le_of_ble_eq_true rfl⟩ (fun v17 e17 => ?_)
  refine lv_goto (tgt := 36) hx hb dJ4_indexOf_2_20 (by decide) ?_
  exact pp_iret hx hb hr hlocks (by rw [e17]) dJ4_indexOf_2_36
set_option maxHeartbeats 4000000 in
theorem xc_indexOf (lQ : Launch) (z aK aV : Nat) (ch : Int32) : xs_Met lQ yJ4_indexOf (ws_ yJ4_indexOf cJ4_indexOf 2 (some .int)) 3 z aK aV [.ref aK, .int ch] (some (.int (ff_nameOf ch))) := by
  refine xs_start (own := RJ4) (by decide) (Nat.le_of_ble_eq_true rfl) rfl (fun pQ eQ sQ mQ belowQ methQ cQ hx hb hml hr hlocks hts hown hP ls hl => ?_)
  have hl : lv_has ls 2 [(0, .ref aK), (1, .int ch)] := hl
  refine lv_aload_n hx hb dJ4_indexOf_0 rfl (lv_at hl 0 rfl) ?_
  refine lv_iload_n hx hb dJ4_indexOf_1 rfl (lv_at hl 1 rfl) ?_
  refine lv_iconst (v := 0) hx hb dJ4_indexOf_2 (by decide) ?_
  refine xs_callV (As := [.int ch, .int 0]) (rest := []) (n := 2) ⟨hx, hb, hml, hown, hts⟩ hP (xc_indexOf2 lQ z aK aV ch) (lw_V q991 q992 q993 q104 q994) (xs_recv hP) (by decide +kernel) rfl ⟨Nat.le_of_ble_eq_true rfl, Nat.le_of_ble_eq_true rfl⟩ hl.1 rfl (Nat.le_of_ble_eq_true rfl) dJ4_indexOf_3 ⟨Nat.le_of_ble_eq_true rfl, Nat.le_of_ble_eq_true rfl⟩ (fun v3 e3 => ?_)
  exact pp_iret hx hb hr hlocks (by rw [e3]) dJ4_indexOf_6
