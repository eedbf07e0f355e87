/-! THE COMPONENT's READING as functions: a place, a depth; a term's steps or none (a fault at the place) -/
abbrev xq_r : Type := Option xt × Int32 × Int32
abbrev xq_f : Type := Int32 → Int32 → xq_r
section XPF
variable (nx : Int32 → Int32)
/-- a row of signs of one kind -/
def xq_lp (ok : Int32 → Bool) (f : xq_f) : Nat → xt → Int32 → Int32 → xq_r
  | 0, _, p, q => (none, p, q)
  | k + 1, t, p, q => if ok (nx p) = true then (match (f (p + 1) q).1 with
    | none => (none, (f (p + 1) q).2)
    | some u => xq_lp ok f k (t ++ u ++ [(nx p, 0)]) (f (p + 1) q).2.1 (f (p + 1) q).2.2) else (some t, p, q)
def xq_row (ok : Int32 → Bool) (f : xq_f) (p q : Int32) : xq_r := match (f p q).1 with
  | none => (none, (f p q).2)
  | some t => xq_lp nx ok f 162 t (f p q).2.1 (f p q).2.2
def xq_co2 (f : xq_f) (t : xt) (p q : Int32) : xq_r := match (f (p + 1) q).1 with
  | none => (none, (f (p + 1) q).2)
  | some u => (some (t ++ u ++ [(nx p, 0)]), (f (p + 1) q).2)
def xq_co1 (f : xq_f) (t : xt) (p q : Int32) : xq_r := if nx p = 60 then xq_co2 nx f t p q else if nx p = 61 then xq_co2 nx f t p q else if nx p = 62 then xq_co2 nx f t p q else (some t, p, q)
def xq_co (f : xq_f) (p q : Int32) : xq_r := match (f p q).1 with
  | none => (none, (f p q).2)
  | some t => xq_co1 nx f t (f p q).2.1 (f p q).2.2
def xq_tn (f : xq_f) (b p q : Int32) : xq_r := if q = 8 then (none, p, q) else match (f (p + 1) (q + 1)).1 with
  | none => (none, (f (p + 1) (q + 1)).2)
  | some t => (some (t ++ [(if b = 0 then 3 else 4, 0)]), (f (p + 1) (q + 1)).2.1, (f (p + 1) (q + 1)).2.2 - 1)
def xq_pa (g : xq_f) (p q : Int32) : xq_r := if q = 8 then (none, p, q) else match (g (p + 1) (q + 1)).1 with
  | none => (none, (g (p + 1) (q + 1)).2)
  | some t => if nx (g (p + 1) (q + 1)).2.1 = 41 then (some t, (g (p + 1) (q + 1)).2.1 + 1, (g (p + 1) (q + 1)).2.2 - 1) else (none, (g (p + 1) (q + 1)).2)
def xq_fin (n v p q : Int32) : xq_r := if n = 0 then (none, p, q) else (some [(1, v)], p, q)
def xq_dg : Nat → Int32 → Int32 → Int32 → Int32 → xq_r
  | 0, _, _, p, q => (none, p, q)
  | k + 1, n, v, p, q => if 5 ≤ n then xq_fin n v p q else if ff_in (nx p) 48 57 = 0 then xq_fin n v p q else xq_dg k (n + 1) (10 * v + nx p - 48) (p + 1) q
def xq_on (f g : xq_f) (p q : Int32) : xq_r :=
  if nx p = 33 then xq_tn f 0 p q else if nx p = 45 then xq_tn f 1 p q else if nx p = 40 then xq_pa nx g p q else if ff_nameOf (nx p) < 0 then xq_dg nx 6 0 0 p q else (some [(2, ff_nameOf (nx p))], p + 1, q)
def xq_k1 (c : Int32) : Bool := c == 42 || c == 47 || c == 37
def xq_k2 (c : Int32) : Bool := c == 43 || c == 45
def xq_k4 (c : Int32) : Bool := c == 38
def xq_k5 (c : Int32) : Bool := c == 124
/-- by levels: 0 an operand, 1 products, 2 sums, 3 a comparison, 4 all, 5 any -/
def xq_ps : Nat → Nat → xq_f
  | 0, _ => fun p q => (none, p, q)
  | fu + 1, 0 => xq_on nx (xq_ps fu 0) (xq_ps fu 5)
  | fu + 1, 1 => xq_row nx xq_k1 (xq_ps fu 0)
  | fu + 1, 2 => xq_row nx xq_k2 (xq_ps fu 1)
  | fu + 1, 3 => xq_co nx (xq_ps fu 2)
  | fu + 1, 4 => xq_row nx xq_k4 (xq_ps fu 3)
  | fu + 1, _ + 5 => xq_row nx xq_k5 (xq_ps fu 4)
def xq_any : xq_f := xq_ps nx 64 5
/-- a line: its test and what it gives -/
abbrev xq_c : Type := Option xt × xt
def xq_li2 (t : xt) (r : xq_r) : Option xq_c × Int32 × Int32 := match r.1 with
  | none => (none, r.2)
  | some u => (some (some t, u), r.2)
def xq_line (p q : Int32) : Option xq_c × Int32 × Int32 := match (xq_any nx p q).1 with
  | none => (none, (xq_any nx p q).2)
  | some t => if nx (xq_any nx p q).2.1 = 63 then xq_li2 t (xq_any nx ((xq_any nx p q).2.1 + 1) (xq_any nx p q).2.2) else (some (none, t), (xq_any nx p q).2)
/-- lines: what has been read, whether to the end, the place -/
def xq_lns : Nat → List xq_c → Int32 → Int32 → List xq_c × Bool × Int32 × Int32
  | 0, l, p, q => (l, false, p, q)
  | k + 1, l, p, q => match (xq_line nx p q).1 with
    | none => (l, false, (xq_line nx p q).2)
    | some c => if nx (xq_line nx p q).2.1 = 59 then xq_lns k (l ++ [c]) ((xq_line nx p q).2.1 + 1) (xq_line nx p q).2.2 else (l ++ [c], true, (xq_line nx p q).2)
def xq_read : List xq_c × Bool × Int32 × Int32 := xq_lns nx 162 [] 0 0
end XPF
/-! what they keep -/
theorem ww_a1 {p : Int32} (h1 : p.toInt < 1000) (h0 : 0 ≤ p.toInt) : (p + 1).toInt = p.toInt + 1 := by
  have e : (1 : Int32).toInt = 1 := by decide
  rw [ww_add, e] <;> rw [e] <;> omega
theorem ww_s1 {q : Int32} (h0 : -1000 ≤ q.toInt) (h1 : q.toInt ≤ 1000) : (q - 1).toInt = q.toInt - 1 := by
  have e : (1 : Int32).toInt = 1 := by decide
  rw [ww_sub, e] <;> rw [e] <;> omega
/-- from a place to a later one; behind a term at least one sign on, as deep as before -/
def xq_go (n : Int) (p q : Int32) (r : xq_r) : Prop := p.toInt ≤ r.2.1.toInt ∧ r.2.1.toInt ≤ n ∧ 0 ≤ r.2.2.toInt ∧ r.2.2.toInt ≤ 8 ∧ ∀ t, r.1 = some t → p.toInt + 1 ≤ r.2.1.toInt ∧ r.2.2 = q
def xq_gow (n : Int) (p q : Int32) (r : xq_r) : Prop := p.toInt ≤ r.2.1.toInt ∧ r.2.1.toInt ≤ n ∧ 0 ≤ r.2.2.toInt ∧ r.2.2.toInt ≤ 8 ∧ ∀ u, r.1 = some u → r.2.2 = q
def xq_god (n : Int) (c p q : Int32) (r : xq_r) : Prop := p.toInt ≤ r.2.1.toInt ∧ r.2.1.toInt ≤ n ∧ r.2.2 = q ∧ ∀ u, r.1 = some u → (¬ c = 0 ∨ p.toInt + 1 ≤ r.2.1.toInt)
def xq_gof (n : Int) (f : xq_f) : Prop := ∀ p q : Int32, 0 ≤ p.toInt → p.toInt ≤ n → 0 ≤ q.toInt → q.toInt ≤ 8 → xq_go n p q (f p q)
section XPG
variable {nx : Int32 → Int32} {n : Int}
theorem xq_no {p q : Int32} (h1 : p.toInt ≤ n) (q0 : 0 ≤ q.toInt) (q1 : q.toInt ≤ 8) : xq_go n p q (none, p, q) := ⟨Int.le_refl _, h1, q0, q1, fun _ h => by cases h⟩
theorem xq_go.tr {p p1 q : Int32} {r : xq_r} (h : p.toInt ≤ p1.toInt) (g : xq_go n p1 q r) : xq_go n p q r := ⟨by have := g.1; omega, g.2.1, g.2.2.1, g.2.2.2.1, fun t ht => by have := g.2.2.2.2 t ht; exact ⟨by omega, this.2⟩⟩
theorem xq_go.non {p q q2 : Int32} {r : xq_r} (g : xq_go n p q r) : xq_go n p q2 (none, r.2) := ⟨g.1, g.2.1, g.2.2.1, g.2.2.2.1, fun _ h => by cases h⟩
theorem xq_ne {c : Int32} {p : Int32} (h : nx p = c) (hc : ¬ c = -1) : ¬ nx p = -1 := by rw [h]; exact hc
theorem xq_ok_ne {ok : Int32 → Bool} (hok : ok (-1) = false) {p : Int32} (h : ok (nx p) = true) : ¬ nx p = -1 := fun e => by rw [e, hok] at h; cases h
theorem xq_lp_go (hn : n ≤ 160) (hx : ∀ p : Int32, 0 ≤ p.toInt → ¬ nx p = -1 → p.toInt < n) {ok : Int32 → Bool} (hok : ok (-1) = false) {f : xq_f} (hf : xq_gof n f) (k : Nat) : ∀ (t : xt) (p q : Int32), 0 ≤ p.toInt → p.toInt ≤ n → 0 ≤ q.toInt → q.toInt ≤ 8 → xq_gow n p q (xq_lp nx ok f k t p q) := by
  induction k with
  | zero => intro t p q p0 p1 q0 q1; exact ⟨Int.le_refl _, p1, q0, q1, fun _ h => by cases h⟩
  | succ k ih =>
    intro t p q p0 p1 q0 q1
    rw [xq_lp]
    split
    · rename_i c
      have hp := hx p p0 (xq_ok_ne hok c)
      have e := ww_a1 (p := p) (by omega) p0
      have g := hf (p + 1) q (by omega) (by omega) q0 q1
      split
      · exact ⟨by have h := g.1; show p.toInt ≤ (f (p + 1) q).2.1.toInt; omega, g.2.1, g.2.2.1, g.2.2.2.1, fun _ h => by cases h⟩
      · rename_i u hu
        have g2 := g.2.2.2.2 u hu
        have z := ih (t ++ u ++ [(nx p, 0)]) (f (p + 1) q).2.1 (f (p + 1) q).2.2 (by omega) g.2.1 g.2.2.1 g.2.2.2.1
        have z1 := z.1
        exact ⟨by omega, z.2.1, z.2.2.1, z.2.2.2.1, fun w hw => (z.2.2.2.2 w hw).trans g2.2⟩
    · exact ⟨Int.le_refl _, p1, q0, q1, fun _ _ => rfl⟩
theorem xq_row_go (hn : n ≤ 160) (hx : ∀ p : Int32, 0 ≤ p.toInt → ¬ nx p = -1 → p.toInt < n) {ok : Int32 → Bool} (hok : ok (-1) = false) {f : xq_f} (hf : xq_gof n f) : xq_gof n (xq_row nx ok f) := by
  intro p q p0 p1 q0 q1
  have g := hf p q p0 p1 q0 q1
  unfold xq_row
  split
  · exact g.non
  · rename_i t ht
    have g2 := g.2.2.2.2 t ht
    have z := xq_lp_go hn hx hok hf 162 t (f p q).2.1 (f p q).2.2 (by omega) g.2.1 g.2.2.1 g.2.2.2.1
    have z1 := z.1
    exact ⟨by omega, z.2.1, z.2.2.1, z.2.2.2.1, fun w hw => ⟨by omega, (z.2.2.2.2 w hw).trans g2.2⟩⟩
theorem xq_co2_go (hn : n ≤ 160) (hx : ∀ p : Int32, 0 ≤ p.toInt → ¬ nx p = -1 → p.toInt < n) {f : xq_f} (hf : xq_gof n f) (t : xt) {p q : Int32} (p0 : 0 ≤ p.toInt) (hp : p.toInt < n) (q0 : 0 ≤ q.toInt) (q1 : q.toInt ≤ 8) : xq_go n p q (xq_co2 nx f t p q) := by
  have e := ww_a1 (p := p) (by omega) p0
  have g := hf (p + 1) q (by omega) (by omega) q0 q1
  unfold xq_co2
  split
  · exact (g.tr (by omega)).non
  · rename_i u hu
    have g2 := g.2.2.2.2 u hu
    exact ⟨by have h := g.1; show p.toInt ≤ (f (p + 1) q).2.1.toInt; omega, g.2.1, g.2.2.1, g.2.2.2.1, fun _ _ => ⟨by show p.toInt + 1 ≤ (f (p + 1) q).2.1.toInt; omega, g2.2⟩⟩
theorem xq_co_go (hn : n ≤ 160) (hx : ∀ p : Int32, 0 ≤ p.toInt → ¬ nx p = -1 → p.toInt < n) {f : xq_f} (hf : xq_gof n f) : xq_gof n (xq_co nx f) := by
  intro p q p0 p1 q0 q1
  have g := hf p q p0 p1 q0 q1
  unfold xq_co
  split
  · exact g.non
  · rename_i t ht
    have g2 := g.2.2.2.2 t ht
    have key : ∀ c : Int32, ¬ c = -1 → nx (f p q).2.1 = c → xq_go n p q (xq_co2 nx f t (f p q).2.1 (f p q).2.2) := fun c hc h => by
      have z := xq_co2_go hn hx hf t (by omega) (hx _ (by omega) (xq_ne h hc)) g.2.2.1 g.2.2.2.1
      have z2 := z.tr (p := p) (by omega)
      rw [g2.2] at z2 ⊢
      exact z2
    unfold xq_co1
    split
    · rename_i h; exact key 60 (by decide) h
    · split
      · rename_i h; exact key 61 (by decide) h
      · split
        · rename_i h; exact key 62 (by decide) h
        · exact ⟨g.1, g.2.1, g.2.2.1, g.2.2.2.1, fun _ _ => g2⟩
theorem xq_tn_go (hn : n ≤ 160) (hx : ∀ p : Int32, 0 ≤ p.toInt → ¬ nx p = -1 → p.toInt < n) {f : xq_f} (hf : xq_gof n f) (b : Int32) {p q : Int32} (p0 : 0 ≤ p.toInt) (hp : p.toInt < n) (q0 : 0 ≤ q.toInt) (q1 : q.toInt ≤ 8) : xq_go n p q (xq_tn f b p q) := by
  unfold xq_tn
  split
  · exact xq_no (by omega) q0 q1
  · rename_i h8
    have h8 := ww_ne h8
    have e8 : (8 : Int32).toInt = 8 := by decide
    have e := ww_a1 (p := p) (by omega) p0
    have eq := ww_a1 (p := q) (by omega) q0
    have g := hf (p + 1) (q + 1) (by omega) (by omega) (by omega) (by omega)
    split
    · exact ((g.tr (by omega)).non)
    · rename_i u hu
      have g2 := g.2.2.2.2 u hu
      have e1 : (f (p + 1) (q + 1)).2.2 - 1 = q := by rw [g2.2]; exact Int32.add_sub_cancel _ _
      exact ⟨by show p.toInt ≤ (f (p + 1) (q + 1)).2.1.toInt; omega, g.2.1, by show 0 ≤ ((f (p + 1) (q + 1)).2.2 - 1).toInt; rw [e1]; exact q0, by show ((f (p + 1) (q + 1)).2.2 - 1).toInt ≤ 8; rw [e1]; exact q1, fun _ _ => ⟨by show p.toInt + 1 ≤ (f (p + 1) (q + 1)).2.1.toInt; omega, e1⟩⟩
theorem xq_pa_go (hn : n ≤ 160) (hx : ∀ p : Int32, 0 ≤ p.toInt → ¬ nx p = -1 → p.toInt < n) {f : xq_f} (hf : xq_gof n f) {p q : Int32} (p0 : 0 ≤ p.toInt) (hp : p.toInt < n) (q0 : 0 ≤ q.toInt) (q1 : q.toInt ≤ 8) : xq_go n p q (xq_pa nx f p q) := by
  unfold xq_pa
  split
  · exact xq_no (by omega) q0 q1
  · rename_i h8
    have h8 := ww_ne h8
    have e8 : (8 : Int32).toInt = 8 := by decide
    have e := ww_a1 (p := p) (by omega) p0
    have eq := ww_a1 (p := q) (by omega) q0
    have g := hf (p + 1) (q + 1) (by omega) (by omega) (by omega) (by omega)
    split
    · exact ((g.tr (by omega)).non)
    · rename_i u hu
      have g2 := g.2.2.2.2 u hu
      split
      · rename_i c
        have hp2 := hx _ (by omega) (xq_ne c (by decide))
        have e2 := ww_a1 (p := (f (p + 1) (q + 1)).2.1) (by omega) (by omega)
        have e1 : (f (p + 1) (q + 1)).2.2 - 1 = q := by rw [g2.2]; exact Int32.add_sub_cancel _ _
        exact ⟨by show p.toInt ≤ ((f (p + 1) (q + 1)).2.1 + 1).toInt; omega, by show ((f (p + 1) (q + 1)).2.1 + 1).toInt ≤ n; omega, by show 0 ≤ ((f (p + 1) (q + 1)).2.2 - 1).toInt; rw [e1]; exact q0, by show ((f (p + 1) (q + 1)).2.2 - 1).toInt ≤ 8; rw [e1]; exact q1, fun _ _ => ⟨by show p.toInt + 1 ≤ ((f (p + 1) (q + 1)).2.1 + 1).toInt; omega, e1⟩⟩
      · exact ((g.tr (by omega)).non)
theorem xq_dg_go (hn : n ≤ 160) (hx : ∀ p : Int32, 0 ≤ p.toInt → ¬ nx p = -1 → p.toInt < n) (k : Nat) : ∀ (c v p q : Int32), 0 ≤ p.toInt → p.toInt ≤ n → 0 ≤ q.toInt → q.toInt ≤ 8 → xq_god n c p q (xq_dg nx k c v p q) := by
  induction k with
  | zero => intro c v p q p0 p1 q0 q1; exact ⟨Int.le_refl _, p1, rfl, fun _ h => by cases h⟩
  | succ k ih =>
    intro c v p q p0 p1 q0 q1
    have hfin : xq_god n c p q (xq_fin c v p q) := by
      unfold xq_fin
      split
      · exact ⟨Int.le_refl _, p1, rfl, fun _ h => by cases h⟩
      · rename_i h; exact ⟨Int.le_refl _, p1, rfl, fun _ _ => Or.inl h⟩
    rw [xq_dg]
    split
    · exact hfin
    · split
      · exact hfin
      · rename_i h
        have hp := hx p p0 (fun z => by rw [z] at h; exact absurd (by decide) h)
        have e := ww_a1 (p := p) (by omega) p0
        have z := ih (c + 1) (10 * v + nx p - 48) (p + 1) q (by omega) (by omega) q0 q1
        have z1 := z.1
        exact ⟨by omega, z.2.1, z.2.2.1, fun u _ => Or.inr (by omega)⟩
theorem xq_on_go (hn : n ≤ 160) (hx : ∀ p : Int32, 0 ≤ p.toInt → ¬ nx p = -1 → p.toInt < n) {f g : xq_f} (hf : xq_gof n f) (hg : xq_gof n g) : xq_gof n (xq_on nx f g) := by
  intro p q p0 p1 q0 q1
  unfold xq_on
  split
  · rename_i h; exact xq_tn_go hn hx hf 0 p0 (hx p p0 (xq_ne h (by decide))) q0 q1
  · split
    · rename_i h; exact xq_tn_go hn hx hf 1 p0 (hx p p0 (xq_ne h (by decide))) q0 q1
    · split
      · rename_i h; exact xq_pa_go hn hx hg p0 (hx p p0 (xq_ne h (by decide))) q0 q1
      · split
        · have z := xq_dg_go hn hx 6 0 0 p q p0 p1 q0 q1
          exact ⟨z.1, z.2.1, by rw [z.2.2.1]; exact q0, by rw [z.2.2.1]; exact q1, fun u hu => ⟨(z.2.2.2 u hu).resolve_left (fun y => y rfl), z.2.2.1⟩⟩
        · rename_i h
          have hp := hx p p0 (fun z => by rw [z] at h; exact absurd (by decide) h)
          have e := ww_a1 (p := p) (by omega) p0
          exact ⟨by show p.toInt ≤ (p + 1).toInt; omega, by show (p + 1).toInt ≤ n; omega, q0, q1, fun _ _ => ⟨by show p.toInt + 1 ≤ (p + 1).toInt; omega, rfl⟩⟩
theorem xq_ps_go (hn : n ≤ 160) (hx : ∀ p : Int32, 0 ≤ p.toInt → ¬ nx p = -1 → p.toInt < n) (fu : Nat) : ∀ lv : Nat, xq_gof n (xq_ps nx fu lv) := by
  induction fu with
  | zero => intro lv p q p0 p1 q0 q1; exact xq_no p1 q0 q1
  | succ fu ih =>
    intro lv
    match lv with
    | 0 => exact xq_on_go hn hx (ih 0) (ih 5)
    | 1 => exact xq_row_go hn hx rfl (ih 0)
    | 2 => exact xq_row_go hn hx rfl (ih 1)
    | 3 => exact xq_co_go hn hx (ih 2)
    | 4 => exact xq_row_go hn hx rfl (ih 3)
    | _ + 5 => exact xq_row_go hn hx rfl (ih 4)
end XPG
section XPH
variable {nx : Int32 → Int32} {n : Int}
theorem xq_row_no {ok : Int32 → Bool} {f : xq_f} {p q : Int32} (h : (f p q).1 = none) : xq_row nx ok f p q = (none, (f p q).2) := by
  unfold xq_row
  simp only [h]
theorem xq_row_so {ok : Int32 → Bool} {f : xq_f} {p q : Int32} {t : xt} (h : (f p q).1 = some t) : xq_row nx ok f p q = xq_lp nx ok f 162 t (f p q).2.1 (f p q).2.2 := by
  unfold xq_row
  simp only [h]
theorem xq_row_end (hn : n ≤ 160) (hx : ∀ p : Int32, 0 ≤ p.toInt → ¬ nx p = -1 → p.toInt < n) {ok : Int32 → Bool} (hok : ok (-1) = false) {f : xq_f} (hf : xq_gof n f) {p q : Int32} (p0 : 0 ≤ p.toInt) (p1 : p.toInt ≤ n) (q0 : 0 ≤ q.toInt) (q1 : q.toInt ≤ 8) : (f p q).2.1.toInt ≤ (xq_row nx ok f p q).2.1.toInt := by
  rcases h : (f p q).1 with _ | t
  · rw [xq_row_no h]
    exact Int.le_refl _
  · rw [xq_row_so h]
    have g := hf p q p0 p1 q0 q1
    have g2 := g.2.2.2.2 t h
    exact (xq_lp_go hn hx hok hf 162 t _ _ (by omega) g.2.1 g.2.2.1 g.2.2.2.1).1
theorem xq_lp_no {ok : Int32 → Bool} {f : xq_f} {k : Nat} {t : xt} {p q : Int32} (c : ok (nx p) = true) (h : (f (p + 1) q).1 = none) : xq_lp nx ok f (k + 1) t p q = (none, (f (p + 1) q).2) := by
  rw [xq_lp, if_pos c]
  simp only [h]
theorem xq_lp_so {ok : Int32 → Bool} {f : xq_f} {k : Nat} {t u : xt} {p q : Int32} (c : ok (nx p) = true) (h : (f (p + 1) q).1 = some u) : xq_lp nx ok f (k + 1) t p q = xq_lp nx ok f k (t ++ u ++ [(nx p, 0)]) (f (p + 1) q).2.1 (f (p + 1) q).2.2 := by
  rw [xq_lp, if_pos c]
  simp only [h]
theorem xq_lp_ok {ok : Int32 → Bool} {f : xq_f} {k : Nat} {t : xt} {p q : Int32} (c : ¬ ok (nx p) = true) : xq_lp nx ok f (k + 1) t p q = (some t, p, q) := by
  rw [xq_lp, if_neg c]
theorem xq_lp_end (hn : n ≤ 160) (hx : ∀ p : Int32, 0 ≤ p.toInt → ¬ nx p = -1 → p.toInt < n) {ok : Int32 → Bool} (hok : ok (-1) = false) {f : xq_f} (hf : xq_gof n f) {k : Nat} {t : xt} {p q : Int32} (c : ok (nx p) = true) (p0 : 0 ≤ p.toInt) (q0 : 0 ≤ q.toInt) (q1 : q.toInt ≤ 8) : (f (p + 1) q).2.1.toInt ≤ (xq_lp nx ok f (k + 1) t p q).2.1.toInt := by
  have hp := hx p p0 (xq_ok_ne hok c)
  have e := ww_a1 (p := p) (by omega) p0
  have g := hf (p + 1) q (by omega) (by omega) q0 q1
  rcases h : (f (p + 1) q).1 with _ | u
  · rw [xq_lp_no c h]
    exact Int.le_refl _
  · rw [xq_lp_so c h]
    have g2 := g.2.2.2.2 u h
    exact (xq_lp_go hn hx hok hf k _ _ _ (by omega) g.2.1 g.2.2.1 g.2.2.2.1).1
theorem xq_co_no {f : xq_f} {p q : Int32} (h : (f p q).1 = none) : xq_co nx f p q = (none, (f p q).2) := by
  unfold xq_co
  simp only [h]
theorem xq_co_so {f : xq_f} {p q : Int32} {t : xt} (h : (f p q).1 = some t) : xq_co nx f p q = xq_co1 nx f t (f p q).2.1 (f p q).2.2 := by
  unfold xq_co
  simp only [h]
theorem xq_co2_no {f : xq_f} {p q : Int32} {t : xt} (h : (f (p + 1) q).1 = none) : xq_co2 nx f t p q = (none, (f (p + 1) q).2) := by
  unfold xq_co2
  simp only [h]
theorem xq_co2_so {f : xq_f} {p q : Int32} {t u : xt} (h : (f (p + 1) q).1 = some u) : xq_co2 nx f t p q = (some (t ++ u ++ [(nx p, 0)]), (f (p + 1) q).2) := by
  unfold xq_co2
  simp only [h]
def xq_k3 (c : Int32) : Bool := c == 60 || c == 61 || c == 62
theorem xq_k1_i {c : Int32} : xq_k1 c = true ↔ c = 42 ∨ c = 47 ∨ c = 37 := by
  unfold xq_k1
  simp only [Bool.or_eq_true, beq_iff_eq, or_assoc]
theorem xq_k2_i {c : Int32} : xq_k2 c = true ↔ c = 43 ∨ c = 45 := by
  unfold xq_k2
  simp only [Bool.or_eq_true, beq_iff_eq]
theorem xq_k3_i {c : Int32} : xq_k3 c = true ↔ c = 60 ∨ c = 61 ∨ c = 62 := by
  unfold xq_k3
  simp only [Bool.or_eq_true, beq_iff_eq, or_assoc]
theorem xq_k4_i {c : Int32} : xq_k4 c = true ↔ c = 38 := by
  unfold xq_k4
  exact beq_iff_eq
theorem xq_k5_i {c : Int32} : xq_k5 c = true ↔ c = 124 := by
  unfold xq_k5
  exact beq_iff_eq
theorem xq_co1_y {f : xq_f} {t : xt} {p q : Int32} (h : xq_k3 (nx p) = true) : xq_co1 nx f t p q = xq_co2 nx f t p q := by
  unfold xq_co1
  rcases xq_k3_i.mp h with e | e | e
  · rw [if_pos e]
  · rw [e, if_neg (by decide), if_pos rfl]
  · rw [e, if_neg (by decide), if_neg (by decide), if_pos rfl]
theorem xq_co1_n {f : xq_f} {t : xt} {p q : Int32} (h : ¬ xq_k3 (nx p) = true) : xq_co1 nx f t p q = (some t, p, q) := by
  unfold xq_co1
  rw [if_neg (fun e => h (xq_k3_i.mpr (Or.inl e))), if_neg (fun e => h (xq_k3_i.mpr (Or.inr (Or.inl e)))), if_neg (fun e => h (xq_k3_i.mpr (Or.inr (Or.inr e))))]
theorem xq_co_end (hn : n ≤ 160) (hx : ∀ p : Int32, 0 ≤ p.toInt → ¬ nx p = -1 → p.toInt < n) {f : xq_f} (hf : xq_gof n f) {p q : Int32} (p0 : 0 ≤ p.toInt) (p1 : p.toInt ≤ n) (q0 : 0 ≤ q.toInt) (q1 : q.toInt ≤ 8) : (f p q).2.1.toInt ≤ (xq_co nx f p q).2.1.toInt := by
  rcases h : (f p q).1 with _ | t
  · rw [xq_co_no h]
    exact Int.le_refl _
  · rw [xq_co_so h]
    have g := hf p q p0 p1 q0 q1
    have g2 := g.2.2.2.2 t h
    by_cases hk : xq_k3 (nx (f p q).2.1) = true
    · rw [xq_co1_y hk]
      exact (xq_co2_go hn hx hf t (by omega) (hx _ (by omega) (xq_ok_ne rfl hk)) g.2.2.1 g.2.2.2.1).1
    · rw [xq_co1_n hk]
      exact Int.le_refl _
theorem xq_tn_no {f : xq_f} {b p q : Int32} (h8 : ¬ q = 8) (h : (f (p + 1) (q + 1)).1 = none) : xq_tn f b p q = (none, (f (p + 1) (q + 1)).2) := by
  unfold xq_tn
  rw [if_neg h8]
  simp only [h]
theorem xq_tn_so {f : xq_f} {b p q : Int32} {t : xt} (h8 : ¬ q = 8) (h : (f (p + 1) (q + 1)).1 = some t) : xq_tn f b p q = (some (t ++ [(if b = 0 then 3 else 4, 0)]), (f (p + 1) (q + 1)).2.1, (f (p + 1) (q + 1)).2.2 - 1) := by
  unfold xq_tn
  rw [if_neg h8]
  simp only [h]
theorem xq_pa_no {g : xq_f} {p q : Int32} (h8 : ¬ q = 8) (h : (g (p + 1) (q + 1)).1 = none) : xq_pa nx g p q = (none, (g (p + 1) (q + 1)).2) := by
  unfold xq_pa
  rw [if_neg h8]
  simp only [h]
theorem xq_pa_so {g : xq_f} {p q : Int32} {t : xt} (h8 : ¬ q = 8) (h : (g (p + 1) (q + 1)).1 = some t) : xq_pa nx g p q = if nx (g (p + 1) (q + 1)).2.1 = 41 then (some t, (g (p + 1) (q + 1)).2.1 + 1, (g (p + 1) (q + 1)).2.2 - 1) else (none, (g (p + 1) (q + 1)).2) := by
  unfold xq_pa
  rw [if_neg h8]
  simp only [h]
theorem xq_nm_t {c : Int32} (h : ¬ ff_nameOf c < 0) : 0 ≤ (ff_nameOf c).toInt ∧ (ff_nameOf c).toInt < 8 := by
  have key : ff_nameOf c = -1 ∨ 0 ≤ (ff_nameOf c).toInt ∧ (ff_nameOf c).toInt < 8 := by
    unfold ff_nameOf
    repeat' split
    all_goals first | exact Or.inl rfl | exact Or.inr ⟨by decide, by decide⟩
  rcases key with e | e
  · rw [e] at h
    exact absurd (by decide) h
  · exact e
end XPH
