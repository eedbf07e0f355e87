/-! PLAIN LAWS: acts, aims -/
set_option maxRecDepth 100000
def aj (b κ : Int32) (c : Int) (f g : mm_S → Int32 × mm_S) : Prop := ∀ X S : mm_S, RC X S → rd_ S 5 b = κ → (S 87 0).toInt + c ≤ 1000 → (f X).1 = (g S).1 ∧ rr_ [6, 7] [87, 88] X S (f X).2 (g S).2 ∧ ((g S).2 87 0).toInt ≤ (S 87 0).toInt + c
section RAC
variable {X S : mm_S} {b κ : Int32} {c : Int} {f g : mm_S → Int32 × mm_S}
theorem rs_ran (h : RC X S) (hl : (S 87 0).toInt + 1 ≤ 1000) (t : Int32) : rr_ [6, 7] [87, 88] X S (xa_beg X t) (ff_ran S t) ∧ ((ff_ran S t) 87 0).toInt ≤ (S 87 0).toInt + 1 := by
  have p : 0 ≤ (S 87 0).toInt := h.itr
  have e1 : (fd_ S 87 + 1).toInt = (S 87 0).toInt + 1 := ww_a1 (p := fd_ S 87) (by show (S 87 0).toInt < _; omega) p
  unfold xa_beg ff_ran
  rw [fd_wn (show (7 : Nat) ≠ 6 by decide), fd_wn (show (87 : Nat) ≠ 88 by decide), h.f7]
  by_cases z : 24 ≤ fd_ S 87
  · rw [if_pos z, if_pos z]
    refine ⟨rr_.mk ((fr_.rf X).fw (by decide)) ((fr_.rf S).fw (by decide)) h 19807040628593105996150210560 (by decide +kernel) ⟨?_, ?_, ?_, trivial⟩, by rw [fw_at, e1]; omega⟩
    · dsimp only [rc_p]; exact mm_up_p h.p7
    · dsimp only [rc_p]
      rw [fw_k (k := 7) (k2 := 6) (by decide), fw_k (k := 87) (k2 := 88) (by decide)]; exact h.p6
    · dsimp only [rc_itr]; rw [fw_at, e1]; omega
  · rw [if_neg z, if_neg z]
    refine ⟨rr_.mk (((fr_.rf X).wr (by decide)).fw (by decide)) (((fr_.rf S).wr (by decide)).fw (by decide)) h 19807040628593105996150210560 (by decide +kernel) ⟨?_, ?_, ?_, trivial⟩, by rw [fw_at, e1]; omega⟩
    · dsimp only [rc_p]; exact mm_up_p (by rw [wr_k (k := 6) (k2 := 7) (by decide), wr_k (k := 88) (k2 := 87) (by decide)]; exact h.p7)
    · dsimp only [rc_p]
      rw [fw_k (k := 7) (k2 := 6) (by decide), fw_k (k := 87) (k2 := 88) (by decide)]; exact mm_up_p h.p6
    · dsimp only [rc_itr]; rw [fw_at, e1]; omega
theorem aj.ran (hf : aj b κ c f g) (hc : 0 ≤ c) (t : Int32) : aj b κ (c + 1) (fun X => f (xa_beg X t)) (fun S => g (ff_ran S t)) := by
  intro X S h hk hl
  obtain ⟨r, r2⟩ := rs_ran h (by omega) t
  obtain ⟨g1, g2, g3⟩ := hf _ _ r.2.2 ((rd_of (r.2.1 5 (by decide)) b).trans hk) (by omega)
  exact ⟨g1, r.tr g2, by show ((g (ff_ran S t)).2 87 0).toInt ≤ _; omega⟩
theorem aj.map (hf : aj b κ c f g) (u : Int32 → Int32) : aj b κ c (fun X => (u (f X).1, (f X).2)) (fun S => (u (g S).1, (g S).2)) := by
  intro X S h hk hl
  obtain ⟨g1, g2, g3⟩ := hf X S h hk hl
  exact ⟨by show u (f X).1 = u (g S).1; rw [g1], g2, g3⟩
theorem aj.le {c2 : Int} (hf : aj b κ c f g) (h : c ≤ c2) : aj b κ c2 f g := by
  intro X S hR hk hl
  obtain ⟨g1, g2, g3⟩ := hf X S hR hk (by omega)
  exact ⟨g1, g2, by omega⟩
theorem aj.two {f2 g2 : mm_S → Int32 × mm_S} {c2 : Int} (hf : aj b κ c f g) (hc2 : 0 ≤ c2) (hg : aj b κ c2 f2 g2) (u : Int32 → Int32 → Int32) : aj b κ (c + c2) (fun X => (u (f X).1 (f2 (f X).2).1, (f2 (f X).2).2)) (fun S => (u (g S).1 (g2 (g S).2).1, (g2 (g S).2).2)) := by
  intro X S h hk hl
  obtain ⟨a1, a2, a3⟩ := hf X S h hk (by omega)
  obtain ⟨b1, b2, b3⟩ := hg _ _ a2.2.2 ((rd_of (a2.2.1 5 (by decide)) b).trans hk) (by omega)
  exact ⟨by show u (f X).1 (f2 (f X).2).1 = u (g S).1 (g2 (g S).2).1; rw [a1, b1], a2.tr b2, by show ((g2 (g S).2).2 87 0).toInt ≤ _; omega⟩
theorem aj.fld (hf : aj b κ c f g) {k l : Nat} (hp : ∀ X S : mm_S, RC X S → rd_ X k b = rd_ S l b) (u : Int32 → Int32 → Int32) : aj b κ c (fun X => (u (f X).1 (rd_ (f X).2 k b), (f X).2)) (fun S => (u (g S).1 (rd_ (g S).2 l b), (g S).2)) := by
  intro X S h hk hl
  obtain ⟨a1, a2, a3⟩ := hf X S h hk hl
  exact ⟨by show u (f X).1 (rd_ (f X).2 k b) = u (g S).1 (rd_ (g S).2 l b); rw [a1, hp _ _ a2.2.2], a2, a3⟩
theorem j_bd (x : Int32) : aj b κ 1 (fun X => xa_bd X b x) (fun S => ff_plainBores S b x) := by
  intro X S h hk hl
  obtain ⟨r, r2⟩ := rs_ran h hl 1
  refine ⟨?_, r, r2⟩
  show x + b = x + b
  rfl
theorem j_bw (x : Int32) : aj b κ 2 (fun X => xa_bw X b x) (fun S => ff_wayBores S b x) := ((j_bd x).ran (by decide) 20).map (fun v => v * 2)
theorem j_bs (x : Int32) : aj b κ 3 (fun X => xa_bs X b x) (fun S => ff_shaftBores S b x) := (j_bw (x + 1)).ran (by decide) 50
theorem j_bl (x : Int32) : aj b κ 4 (fun X => xa_bl X b x) (fun S => ((ff_shaftBores (ff_ran S 61) b x).1 ^^^ 7, (ff_shaftBores (ff_ran S 61) b x).2)) := ((j_bs x).ran (by decide) 61).map (fun v => v ^^^ 7)
theorem aj.gc {g2 : mm_S → Int32 × mm_S} {f2 : mm_S → Int32 × mm_S} (hf : aj b κ c f2 g2) (h1 : ∀ X : mm_S, f X = f2 X) (h2 : ∀ S : mm_S, rd_ S 5 b = κ → g S = g2 S) : aj b κ c f g := by
  intro X S h hk hl
  rw [h1, h2 S hk]
  exact hf X S h hk hl
theorem j_bores (q : Nat) (hq : q < 8) (x : Int32) : aj b (Int32.ofNat q) 4 (fun X => xa_bores q X b x) (fun S => ff_bores S b x) := by
  match q, hq with
  | 0, _ => exact (((j_bd x).le (by decide))).gc (fun X => rfl) (fun S hk => by unfold ff_bores; rw [hk]; rfl)
  | 1, _ => exact (((j_bw x).le (by decide))).gc (fun X => rfl) (fun S hk => by unfold ff_bores; rw [hk]; rfl)
  | 2, _ => exact (((j_bw x).le (by decide))).gc (fun X => rfl) (fun S hk => by unfold ff_bores; rw [hk]; rfl)
  | 3, _ => exact (((j_bw x).le (by decide))).gc (fun X => rfl) (fun S hk => by unfold ff_bores; rw [hk]; rfl)
  | 4, _ => exact (((j_bs x).le (by decide))).gc (fun X => rfl) (fun S hk => by unfold ff_bores; rw [hk]; rfl)
  | 5, _ => exact (j_bl x).gc (fun X => rfl) (fun S hk => by unfold ff_bores; rw [hk]; rfl)
  | 6, _ => exact (((j_bw x).le (by decide))).gc (fun X => rfl) (fun S hk => by unfold ff_bores; rw [hk]; rfl)
  | 7, _ => exact (((j_bd x).le (by decide))).gc (fun X => rfl) (fun S hk => by unfold ff_bores; rw [hk]; rfl)
theorem j_cb (q : Nat) (hq : q < 8) (x : Int32) : aj b (Int32.ofNat q) 5 (fun X => xa_cb q X b x) (fun S => ff_plainCarries S b x) := ((j_bores q hq x).ran (by decide) 10).map (fun v => v - 1)
theorem j_ch (q : Nat) (hq : q < 8) (x : Int32) : aj b (Int32.ofNat q) 6 (fun X => xa_ch q X b x) (fun S => ((ff_plainCarries (ff_ran S 30) b x).1 + rd_ (ff_plainCarries (ff_ran S 30) b x).2 7 b, (ff_plainCarries (ff_ran S 30) b x).2)) := ((j_cb q hq x).ran (by decide) 30).fld (k := 62) (l := 7) (fun X S h => h.r62 b) (fun v w => v + w)
theorem j_cm (q : Nat) (hq : q < 8) (x : Int32) : aj b (Int32.ofNat q) 6 (fun X => xa_cm q X b x) (fun S => ((ff_plainCarries (ff_ran S 80) b x).1 - rd_ (ff_plainCarries (ff_ran S 80) b x).2 17 b, (ff_plainCarries (ff_ran S 80) b x).2)) := ((j_cb q hq x).ran (by decide) 80).fld (k := 77) (l := 17) (fun X S h => h.r77 b) (fun v w => v - w)
theorem j_carries (q : Nat) (hq : q < 8) (x : Int32) : aj b (Int32.ofNat q) 6 (fun X => xa_carries q X b x) (fun S => ff_carries S b x) := by
  match q, hq with
  | 0, _ => exact ((j_cb 0 (by decide) x).le (by decide)).gc (fun X => rfl) (fun S hk => by unfold ff_carries; rw [hk]; rfl)
  | 1, _ => exact ((j_cb 1 (by decide) x).le (by decide)).gc (fun X => rfl) (fun S hk => by unfold ff_carries; rw [hk]; rfl)
  | 2, _ => exact (j_ch 2 (by decide) x).gc (fun X => rfl) (fun S hk => by unfold ff_carries; rw [hk]; rfl)
  | 3, _ => exact (j_ch 3 (by decide) x).gc (fun X => rfl) (fun S hk => by unfold ff_carries; rw [hk]; rfl)
  | 4, _ => exact (j_ch 4 (by decide) x).gc (fun X => rfl) (fun S hk => by unfold ff_carries; rw [hk]; rfl)
  | 5, _ => exact (j_ch 5 (by decide) x).gc (fun X => rfl) (fun S hk => by unfold ff_carries; rw [hk]; rfl)
  | 6, _ => exact ((j_cb 6 (by decide) x).le (by decide)).gc (fun X => rfl) (fun S hk => by unfold ff_carries; rw [hk]; rfl)
  | 7, _ => exact (j_cm 7 (by decide) x).gc (fun X => rfl) (fun S hk => by unfold ff_carries; rw [hk]; rfl)
theorem j_hb (x : Int32) : aj b κ 1 (fun X => xa_hb X b x) (fun S => ff_plainHolds S b x) := by
  intro X S h hk hl
  obtain ⟨r, r2⟩ := rs_ran h hl 11
  refine ⟨?_, r, r2⟩
  show x ^^^ b = x ^^^ b
  rfl
theorem j_ht (q : Nat) (hq : q < 8) (x : Int32) : aj b (Int32.ofNat q) 8 (fun X => xa_ht q X b x) (fun S => ((ff_plainHolds (ff_ran S 40) b x).1 - (ff_carries (ff_plainHolds (ff_ran S 40) b x).2 b 1).1, (ff_carries (ff_plainHolds (ff_ran S 40) b x).2 b 1).2)) :=
  (((j_hb x).ran (by decide) 40).two (by decide) (j_carries q hq 1) (fun v w => v - w))
theorem j_hl (x : Int32) : aj b κ 2 (fun X => xa_hl X b x) (fun S => (-(ff_plainHolds (ff_ran S 60) b x).1, (ff_plainHolds (ff_ran S 60) b x).2)) := ((j_hb x).ran (by decide) 60).map (fun v => -v)
theorem j_hs (q : Nat) (hq : q < 8) (x : Int32) : aj b (Int32.ofNat q) 7 (fun X => xa_hs q X b x) (fun S => ((ff_plainHolds (ff_ran S 70) b x).1 + (ff_plainCarries (ff_plainHolds (ff_ran S 70) b x).2 b x).1, (ff_plainCarries (ff_plainHolds (ff_ran S 70) b x).2 b x).2)) :=
  (((j_hb x).ran (by decide) 70).two (by decide) (j_cb q hq x) (fun v w => v + w))
theorem j_holds (q : Nat) (hq : q < 8) (x : Int32) : aj b (Int32.ofNat q) 8 (fun X => xa_holds q X b x) (fun S => ff_holdsBy S b x) := by
  match q, hq with
  | 0, _ => exact ((j_hb x).le (by decide)).gc (fun X => rfl) (fun S hk => by unfold ff_holdsBy; rw [hk]; rfl)
  | 1, _ => exact ((j_hb x).le (by decide)).gc (fun X => rfl) (fun S hk => by unfold ff_holdsBy; rw [hk]; rfl)
  | 2, _ => exact ((j_hb x).le (by decide)).gc (fun X => rfl) (fun S hk => by unfold ff_holdsBy; rw [hk]; rfl)
  | 3, _ => exact (j_ht 3 (by decide) x).gc (fun X => rfl) (fun S hk => by unfold ff_holdsBy; rw [hk]; rfl)
  | 4, _ => exact ((j_hb x).le (by decide)).gc (fun X => rfl) (fun S hk => by unfold ff_holdsBy; rw [hk]; rfl)
  | 5, _ => exact ((j_hl x).le (by decide)).gc (fun X => rfl) (fun S hk => by unfold ff_holdsBy; rw [hk]; rfl)
  | 6, _ => exact ((j_hs 6 (by decide) x).le (by decide)).gc (fun X => rfl) (fun S hk => by unfold ff_holdsBy; rw [hk]; rfl)
  | 7, _ => exact ((j_hb x).le (by decide)).gc (fun X => rfl) (fun S hk => by unfold ff_holdsBy; rw [hk]; rfl)
theorem j_td (q : Nat) (hq : q < 8) (x : Int32) : aj b (Int32.ofNat q) 15 (fun X => xa_td q X b x) (fun S => ff_plainTells S b x) := ((j_carries q hq x).ran (by decide) 2).two (by decide) (j_holds q hq 1) (fun v w => v + w)
theorem j_ts (q : Nat) (hq : q < 8) (x : Int32) : aj b (Int32.ofNat q) 16 (fun X => xa_ts q X b x) (fun S => ((ff_plainTells (ff_ran S 51) b x).1 * 3, (ff_plainTells (ff_ran S 51) b x).2)) := ((j_td q hq x).ran (by decide) 51).map (fun v => v * 3)
theorem j_tells (q : Nat) (hq : q < 8) (x : Int32) : aj b (Int32.ofNat q) 16 (fun X => xa_tells q X b x) (fun S => ff_tells S b x) := by
  match q, hq with
  | 0, _ => exact ((j_td 0 (by decide) x).le (by decide)).gc (fun X => rfl) (fun S hk => by unfold ff_tells; rw [hk]; rfl)
  | 1, _ => exact ((j_td 1 (by decide) x).le (by decide)).gc (fun X => rfl) (fun S hk => by unfold ff_tells; rw [hk]; rfl)
  | 2, _ => exact ((j_td 2 (by decide) x).le (by decide)).gc (fun X => rfl) (fun S hk => by unfold ff_tells; rw [hk]; rfl)
  | 3, _ => exact ((j_td 3 (by decide) x).le (by decide)).gc (fun X => rfl) (fun S hk => by unfold ff_tells; rw [hk]; rfl)
  | 4, _ => exact (j_ts 4 (by decide) x).gc (fun X => rfl) (fun S hk => by unfold ff_tells; rw [hk]; rfl)
  | 5, _ => exact (j_ts 5 (by decide) x).gc (fun X => rfl) (fun S hk => by unfold ff_tells; rw [hk]; rfl)
  | 6, _ => exact ((j_td 6 (by decide) x).le (by decide)).gc (fun X => rfl) (fun S hk => by unfold ff_tells; rw [hk]; rfl)
  | 7, _ => exact ((j_td 7 (by decide) x).le (by decide)).gc (fun X => rfl) (fun S hk => by unfold ff_tells; rw [hk]; rfl)
theorem rs_act (h : RC X S) (b w x : Int32) : (xa_act X b w x).1 = (ff_act S b w x).1 ∧ rr_ [6, 7] [87, 88] X S (xa_act X b w x).2 (ff_act S b w x).2 := by
  unfold xa_act ff_act
  have r0 : rr_ [6, 7] [87, 88] X S (fw_ X 7 0) (fw_ S 87 0) := by
    refine rr_.mk ((fr_.rf X).fw (by decide)) ((fr_.rf S).fw (by decide)) h 19807040628593105996150210560 (by decide +kernel) ⟨?_, ?_, ?_, trivial⟩
    · dsimp only [rc_p]; exact mm_up_p h.p7
    · dsimp only [rc_p]
      rw [fw_k (k := 7) (k2 := 6) (by decide), fw_k (k := 87) (k2 := 88) (by decide)]; exact h.p6
    · dsimp only [rc_itr]; rw [fw_at]; decide
  rw [r0.2.2.isBody]
  by_cases c1 : ff_isBody (fw_ S 87 0) b = 0
  · rw [if_pos c1, if_pos c1]; exact ⟨rfl, r0⟩
  rw [if_neg c1, if_neg c1]
  by_cases c2 : ff_in w 0 3 = 0
  · rw [if_pos c2, if_pos c2]; exact ⟨rfl, r0⟩
  rw [if_neg c2, if_neg c2]
  have kd := h.ikd b.toNatClampNeg
  have eq : xq X b = (S 5 b.toNatClampNeg).toInt.toNat := by unfold xq xx_q; rw [h.p60]
  have hq : xq X b < 8 := by rw [eq]; omega
  have hk : rd_ (fw_ S 87 0) 5 b = Int32.ofNat (xq X b) := by
    rw [rd_fn (by decide), eq]
    exact ww_nat kd.1
  have z87 : ((fw_ S 87 0) 87 0).toInt = 0 := by rw [fw_at]; decide
  generalize xq X b = q at hq hk ⊢
  by_cases w0 : w = 0
  · rw [if_pos w0, if_pos w0]
    have g := j_bores (b := b) q hq x _ _ r0.2.2 hk (by omega)
    exact ⟨g.1, r0.tr g.2.1⟩
  rw [if_neg w0, if_neg w0]
  by_cases w1 : w = 1
  · rw [if_pos w1, if_pos w1]
    have g := j_carries (b := b) q hq x _ _ r0.2.2 hk (by omega)
    exact ⟨g.1, r0.tr g.2.1⟩
  rw [if_neg w1, if_neg w1]
  by_cases w2 : w = 2
  · rw [if_pos w2, if_pos w2]
    have g := j_holds (b := b) q hq x _ _ r0.2.2 hk (by omega)
    exact ⟨g.1, r0.tr g.2.1⟩
  rw [if_neg w2, if_neg w2]
  have g := j_tells (b := b) q hq x _ _ r0.2.2 hk (by omega)
  exact ⟨g.1, r0.tr g.2.1⟩
end RAC
