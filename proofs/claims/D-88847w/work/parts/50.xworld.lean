/-! THE COMPONENT's def xx_W (G : wm_G) (o d0 : Nat) (X : mm_S) (E : mm_E) (D : xg) (H : Heap) : Prop :=
  (wm_O G o 0 59 (xx_V o D X) H)
  ∧ (∀ k j t n : Nat, xx_arr k = some (j, t, n) → wm_A G (o + j) t n (fun i => .int (X k i)) H)
  ∧ (∃ f : Nat → Value, wm_A G (o + 3) 7 120 f H ∧ ∀ b : Nat, b < xx_n X → f b = .ref (xg_b D b))
  ∧ (wm_A G (o + 6) 8 3 (fun m => xx_b D (X 9 m)) H)
  ∧ (wm_A G (o + 40) 10 6 (fun s => xx_s D (X 58 s) s) H)
  ∧ (∃ V : Nat → Value, wm_O G (o + 8) 16 6 V H)
  ∧ (∃ V : Nat → Value, wm_O G (o + 17) 17 6 V H)
  ∧ (wm_O G (o + 16) 2 4 (fun k => if k = 0 then .ref (o + 17) else if k = 1 then .int (X 95 0) else if k = 2 then .int (X 96 0) else .ref o) H)
  ∧ (wm_A G (o + 18) 9 16 (fun i => .ref (o + (41 + 3 * i))) H)
  ∧ (∀ i : Nat, i < 16 → wm_O G (o + (41 + 3 * i)) 3 7 (fun k => if k = 0 then .ref (o + (42 + 3 * i)) else if k = 1 then .ref (o + (43 + 3 * i)) else if k < 6 then .int (X (88 + k) i) else .ref o) H)
  ∧ (∀ i : Nat, i < 16 → ∃ f g : Nat → Value, wm_A G (o + (42 + 3 * i)) 11 160 f H ∧ wm_A G (o + (43 + 3 * i)) 11 160 g H ∧ ∀ k : Nat, k < (X 90 i).toInt.toNat → xt_op G o D H (xg_l D i k).1 (f k) ∧ xt_op G o D H (some (xg_l D i k).2) (g k))
  ∧ (∀ b : Nat, b < xx_n X → wm_O G (xg_b D b) (4 + xx_q X b) (xx_bn.getD (xx_q X b) 0) (xx_BV o D X b (xx_q X b)) H)
  ∧ (∀ b : Nat, b < xx_n X → 0 ≤ (X 60 b).toInt ∧ (X 60 b).toInt < 8)
  ∧ (∀ b : Nat, b < xx_n X → 2 ≤ xx_q X b → xx_q X b ≤ 5 → ∀ j : Nat, j < 4 → wm_A G (xg_b D b + (1 + j)) (if j = 3 then 1 else 0) 61 (xx_HA X b (xx_hf.getD j 0)) H)
  ∧ (∀ s : Nat, s < 6 → (X 58 s).toInt < -1 → wm_A G (xg_r D s) (xx_rt (-2 - (X 58 s).toInt).toNat) (X 100 s).toInt.toNat (fun i => xx_el (-2 - (X 58 s).toInt).toNat (E 0 (60 * s + i)) (X 101 (60 * s + i))) H ∧ xg_d D (xg_r D s) = (3, s))
  ∧ (∀ j : Nat, j ≤ 88 → xg_d D (o + j) = (1, j))
  ∧ (∀ b i : Nat, b < xx_n X → (i = 0 ∨ 2 ≤ xx_q X b ∧ xx_q X b ≤ 5 ∧ i < 5) → xg_d D (xg_b D b + i) = (2, 5 * b + i))
  ∧ (∀ q : Nat, H.size ≤ q → xg_d D q = (0, 0))
  ∧ (∀ q : Nat, xg_d D q ≠ (0, 0) → xx_F o d0 q)
  ∧ (o + 88 < d0 ∧ d0 ≤ H.size)
  ∧ ((X 5 0).toInt < (X 4 0).toInt ∧ (∀ m : Nat, m < 3 → (X 9 m).toInt < (X 4 0).toInt) ∧ ∀ q : Nat, q < 6 → (X 58 q).toInt < (X 4 0).toInt)
  ∧ (0 ≤ (X 4 0).toInt ∧ (X 4 0).toInt ≤ 120 ∧ ∀ i : Nat, i < 16 → 0 ≤ (X 90 i).toInt ∧ (X 90 i).toInt ≤ 160)
  ∧ (∀ q : Nat, q < 6 → 0 ≤ (X 100 q).toInt ∧ (X 100 q).toInt ≤ 60)
section XX
variable {G : wm_G} {o d0 : Nat} {X : mm_S} {E : mm_E} {D : xg} {H : Heap}
theorem xx_W.main (w : xx_W G o d0 X E D H) : wm_O G o 0 59 (xx_V o D X) H := w.1
theorem xx_W.arr (w : xx_W G o d0 X E D H) : ∀ k j t n : Nat, xx_arr k = some (j, t, n) → wm_A G (o + j) t n (fun i => .int (X k i)) H := w.2.1
theorem xx_W.bod (w : xx_W G o d0 X E D H) : ∃ f : Nat → Value, wm_A G (o + 3) 7 120 f H ∧ ∀ b : Nat, b < xx_n X → f b = .ref (xg_b D b) := w.2.2.1
theorem xx_W.wrk (w : xx_W G o d0 X E D H) : wm_A G (o + 6) 8 3 (fun m => xx_b D (X 9 m)) H := w.2.2.2.1
theorem xx_W.shv (w : xx_W G o d0 X E D H) : wm_A G (o + 40) 10 6 (fun s => xx_s D (X 58 s) s) H := w.2.2.2.2.1
theorem xx_W.trn (w : xx_W G o d0 X E D H) : ∃ V : Nat → Value, wm_O G (o + 8) 16 6 V H := w.2.2.2.2.2.1
theorem xx_W.flt (w : xx_W G o d0 X E D H) : ∃ V : Nat → Value, wm_O G (o + 17) 17 6 V H := w.2.2.2.2.2.2.1
theorem xx_W.rdr (w : xx_W G o d0 X E D H) : wm_O G (o + 16) 2 4 (fun k => if k = 0 then .ref (o + 17) else if k = 1 then .int (X 95 0) else if k = 2 then .int (X 96 0) else .ref o) H := w.2.2.2.2.2.2.2.1
theorem xx_W.txa (w : xx_W G o d0 X E D H) : wm_A G (o + 18) 9 16 (fun i => .ref (o + (41 + 3 * i))) H := w.2.2.2.2.2.2.2.2.1
theorem xx_W.txt (w : xx_W G o d0 X E D H) : ∀ i : Nat, i < 16 → wm_O G (o + (41 + 3 * i)) 3 7 (fun k => if k = 0 then .ref (o + (42 + 3 * i)) else if k = 1 then .ref (o + (43 + 3 * i)) else if k < 6 then .int (X (88 + k) i) else .ref o) H := w.2.2.2.2.2.2.2.2.2.1
theorem xx_W.tst (w : xx_W G o d0 X E D H) : ∀ i : Nat, i < 16 → ∃ f g : Nat → Value, wm_A G (o + (42 + 3 * i)) 11 160 f H ∧ wm_A G (o + (43 + 3 * i)) 11 160 g H ∧ ∀ k : Nat, k < (X 90 i).toInt.toNat → xt_op G o D H (xg_l D i k).1 (f k) ∧ xt_op G o D H (some (xg_l D i k).2) (g k) := w.2.2.2.2.2.2.2.2.2.2.1
theorem xx_W.bdy (w : xx_W G o d0 X E D H) : ∀ b : Nat, b < xx_n X → wm_O G (xg_b D b) (4 + xx_q X b) (xx_bn.getD (xx_q X b) 0) (xx_BV o D X b (xx_q X b)) H := w.2.2.2.2.2.2.2.2.2.2.2.1
theorem xx_W.knd (w : xx_W G o d0 X E D H) : ∀ b : Nat, b < xx_n X → 0 ≤ (X 60 b).toInt ∧ (X 60 b).toInt < 8 := w.2.2.2.2.2.2.2.2.2.2.2.2.1
theorem xx_W.har (w : xx_W G o d0 X E D H) : ∀ b : Nat, b < xx_n X → 2 ≤ xx_q X b → xx_q X b ≤ 5 → ∀ j : Nat, j < 4 → wm_A G (xg_b D b + (1 + j)) (if j = 3 then 1 else 0) 61 (xx_HA X b (xx_hf.getD j 0)) H := w.2.2.2.2.2.2.2.2.2.2.2.2.2.1
theorem xx_W.row (w : xx_W G o d0 X E D H) : ∀ s : Nat, s < 6 → (X 58 s).toInt < -1 → wm_A G (xg_r D s) (xx_rt (-2 - (X 58 s).toInt).toNat) (X 100 s).toInt.toNat (fun i => xx_el (-2 - (X 58 s).toInt).toNat (E 0 (60 * s + i)) (X 101 (60 * s + i))) H ∧ xg_d D (xg_r D s) = (3, s) := w.2.2.2.2.2.2.2.2.2.2.2.2.2.2.1
theorem xx_W.dfx (w : xx_W G o d0 X E D H) : ∀ j : Nat, j ≤ 88 → xg_d D (o + j) = (1, j) := w.2.2.2.2.2.2.2.2.2.2.2.2.2.2.2.1
theorem xx_W.dby (w : xx_W G o d0 X E D H) : ∀ b i : Nat, b < xx_n X → (i = 0 ∨ 2 ≤ xx_q X b ∧ xx_q X b ≤ 5 ∧ i < 5) → xg_d D (xg_b D b + i) = (2, 5 * b + i) := w.2.2.2.2.2.2.2.2.2.2.2.2.2.2.2.2.1
theorem xx_W.dnw (w : xx_W G o d0 X E D H) : ∀ q : Nat, H.size ≤ q → xg_d D q = (0, 0) := w.2.2.2.2.2.2.2.2.2.2.2.2.2.2.2.2.2.1
theorem xx_W.din (w : xx_W G o d0 X E D H) : ∀ q : Nat, xg_d D q ≠ (0, 0) → xx_F o d0 q := w.2.2.2.2.2.2.2.2.2.2.2.2.2.2.2.2.2.2.1
theorem xx_W.lim (w : xx_W G o d0 X E D H) : o + 88 < d0 ∧ d0 ≤ H.size := w.2.2.2.2.2.2.2.2.2.2.2.2.2.2.2.2.2.2.2.1
theorem xx_W.rng (w : xx_W G o d0 X E D H) : (X 5 0).toInt < (X 4 0).toInt ∧ (∀ m : Nat, m < 3 → (X 9 m).toInt < (X 4 0).toInt) ∧ ∀ q : Nat, q < 6 → (X 58 q).toInt < (X 4 0).toInt := w.2.2.2.2.2.2.2.2.2.2.2.2.2.2.2.2.2.2.2.2.1
theorem xx_W.cap (w : xx_W G o d0 X E D H) : 0 ≤ (X 4 0).toInt ∧ (X 4 0).toInt ≤ 120 ∧ ∀ i : Nat, i < 16 → 0 ≤ (X 90 i).toInt ∧ (X 90 i).toInt ≤ 160 := w.2.2.2.2.2.2.2.2.2.2.2.2.2.2.2.2.2.2.2.2.2.1
theorem xx_W.siz (w : xx_W G o d0 X E D H) : ∀ q : Nat, q < 6 → 0 ≤ (X 100 q).toInt ∧ (X 100 q).toInt ≤ 60 := w.2.2.2.2.2.2.2.2.2.2.2.2.2.2.2.2.2.2.2.2.2.2
end XX
, in its own coordinates: an int store by field number, addresses of what is made later on -/
set_option maxRecDepth 100000
/-- a term's steps on a pile, last its own: what, with what -/
abbrev xt : Type := List (Int32 × Int32)
/-- where things lie: bodies, rows by shelf, a directory of addresses, the lines of the texts -/
abbrev xg : Type := (Nat → Nat) × (Nat → Nat) × (Nat → Nat × Nat) × (Nat → Nat → Option xt × xt)
abbrev xg_b (D : xg) : Nat → Nat := D.1
abbrev xg_r (D : xg) : Nat → Nat := D.2.1
abbrev xg_d (D : xg) : Nat → Nat × Nat := D.2.2.1
abbrev xg_l (D : xg) : Nat → Nat → Option xt × xt := D.2.2.2
def xx_tab : List (Option (Nat × Nat × Nat)) := [none, some (1, 0, 1952), some (2, 1, 1952), none, none, none, some (4, 0, 24), none, some (5, 0, 3), none, some (7, 0, 3), none, none, some (9, 0, 8), some (10, 0, 8), some (11, 0, 8), some (12, 1, 15616), some (13, 0, 8), none, some (14, 0, 8), none, some (15, 0, 160), none, none, none, none, none, none, some (19, 0, 60), some (20, 0, 60), none, some (21, 1, 3), some (22, 0, 120), some (23, 0, 40), some (24, 0, 40), none, some (25, 0, 10), some (26, 0, 10), some (27, 0, 10), some (28, 0, 10), none, some (29, 0, 1024), some (30, 0, 10), none, some (31, 0, 9), none, some (32, 0, 6), some (33, 0, 6), none, some (34, 0, 24), some (35, 0, 2), some (36, 0, 2), none, some (37, 0, 120), some (38, 0, 120), none, none, some (39, 0, 120), none]
def xx_rtb : List (Option Nat) := [none, none, none, some 3, none, none, none, none, none, some 6, none, some 8, none, none, none, none, none, none, none, none, none, none, none, some 16, some 18, none, none, none, none, none, none, none, none, none, none, none, none, none, none, none, none, none, none, none, none, none, none, none, none, none, none, none, none, none, none, none, none, none, some 40]
def xx_arr (k : Nat) : Option (Nat × Nat × Nat) := xx_tab.getD k none
def xx_ref (k : Nat) : Option Nat := xx_rtb.getD k none
def xx_b (D : xg) (v : Int32) : Value := if v < 0 then .null else .ref (xg_b D v.toNatClampNeg)
def xx_s (D : xg) (v : Int32) (s : Nat) : Value := if v = -1 then .null else if v < 0 then .ref (xg_r D s) else .ref (xg_b D v.toNatClampNeg)
/-- the main object's fields -/
def xx_V (o : Nat) (D : xg) (X : mm_S) : Nat → Value := fun k => if k = 5 then xx_b D (X 5 0) else match xx_arr k with
  | some x => .ref (o + x.1)
  | none => match xx_ref k with
    | some j => .ref (o + j)
    | none => .int (X k 0)
/-- the bodies' fields by kind: (false, number) an int, (true, place) an array behind it, none: the outer object -/
def xx_bt : List (List (Option (Bool × Nat))) := [[none, none], [none, none, none], [none, none, none, some (false, 61), some (false, 62), some (true, 1), some (false, 64), some (true, 2), some (false, 66), some (false, 67), some (false, 68), some (false, 69), some (true, 3), some (true, 4), none], [none, none, none, some (false, 61), some (false, 62), some (true, 1), some (false, 64), some (true, 2), some (false, 66), some (false, 67), some (false, 68), some (false, 69), some (true, 3), some (true, 4), none, some (false, 72), none], [none, none, none, some (false, 61), some (false, 62), some (true, 1), some (false, 64), some (true, 2), some (false, 66), some (false, 67), some (false, 68), some (false, 69), some (true, 3), some (true, 4), none, none], [none, none, none, some (false, 61), some (false, 62), some (true, 1), some (false, 64), some (true, 2), some (false, 66), some (false, 67), some (false, 68), some (false, 69), some (true, 3), some (true, 4), none, none, none], [none, none, none, some (false, 73), some (false, 74), some (false, 75), some (false, 76), none], [none, none, some (false, 77), some (false, 78), some (false, 79), some (false, 80), none]]
def xx_bn : List Nat := [2, 3, 15, 17, 16, 17, 8, 7]
def xx_bq (q k : Nat) : Option (Bool × Nat) := (xx_bt.getD q []).getD k none
def xx_BV (o : Nat) (D : xg) (X : mm_S) (b q : Nat) : Nat → Value := fun k => if k = 0 then .int (Int32.ofNat b) else match xx_bq q k with
  | some (false, f) => .int (X f b)
  | some (true, j) => .ref (xg_b D b + j)
  | none => .ref o
/-- an array behind a hole: its field -/
def xx_hf : List Nat := [63, 65, 70, 71]
def xx_HA (X : mm_S) (b f : Nat) : Nat → Value := fun y => .int (X f (61 * b + y))
/-- a row's element by its sort -/
def xx_el (q : Nat) (e : Int64) (z : Int32) : Value := if q = 3 then .float (if z = 0 then (FP.l2f e) else 0x7fc00000) else if q = 4 then .double (if z = 0 then (FP.l2d e) else 0x7ff8000000000000) else .int e.toInt32
def xx_rt (q : Nat) : Nat := if q = 0 then 2 else if q = 1 then 3 else if q = 2 then 0 else if q = 3 then 5 else 6
/-- the signs of two -/
def xt_sg : List Int32 := [37, 38, 42, 43, 45, 47, 60, 61, 62, 124]
/-- a term of so many steps lies at an address, no higher than h -/
def xt_at (G : wm_G) (o : Nat) (D : xg) (H : Heap) : Nat → xt → Nat → Prop
  | 0, _, _ => False
  | h + 1, c, a => xg_d D a = (4, 0) ∧ ((∃ v : Int32, c = [(1, v)] ∧ wm_O G a 14 3 (fun k => if k = 1 then .int v else .ref o) H) ∨ (∃ n : Int32, c = [(2, n)] ∧ 0 ≤ n.toInt ∧ n.toInt < 8 ∧ wm_O G a 13 3 (fun k => if k = 1 then .int n else .ref o) H)
      ∨ (∃ (b : Int32) (c1 : xt) (a1 : Nat), (b = 0 ∧ c = c1 ++ [(3, 0)] ∨ b = 1 ∧ c = c1 ++ [(4, 0)]) ∧ wm_O G a 12 4 (fun k => if k = 1 then .int b else if k = 2 then .ref a1 else .ref o) H ∧ xt_at G o D H h c1 a1)
      ∨ (∃ (g : Int32) (c1 c2 : xt) (a1 a2 : Nat), g ∈ xt_sg ∧ c = c1 ++ c2 ++ [(g, 0)] ∧ wm_O G a 15 5 (fun k => if k = 1 then .int g else if k = 2 then .ref a1 else if k = 3 then .ref a2 else .ref o) H ∧ xt_at G o D H h c1 a1 ∧ xt_at G o D H h c2 a2))
def xt_op (G : wm_G) (o : Nat) (D : xg) (H : Heap) (t : Option xt) (v : Value) : Prop := match t with
  | none => v = .null
  | some t => ∃ a, v = .ref a ∧ xt_at G o D H 170 t a
/-- the component's addresses -/
def xx_F (o d0 : Nat) : Nat → Prop := fun q => (o ≤ q ∧ q ≤ o + 88) ∨ d0 ≤ q
def xx_n (X : mm_S) : Nat := (X 4 0).toInt.toNat
def xx_q (X : mm_S) (b : Nat) : Nat := (X 60 b).toInt.toNat
def xx_W (G : wm_G) (o d0 : Nat) (X : mm_S) (E : mm_E) (D : xg) (H : Heap) : Prop :=
  (wm_O G o 0 59 (xx_V o D X) H)
  ∧ (∀ k j t n : Nat, xx_arr k = some (j, t, n) → wm_A G (o + j) t n (fun i => .int (X k i)) H)
  ∧ (∃ f : Nat → Value, wm_A G (o + 3) 7 120 f H ∧ ∀ b : Nat, b < xx_n X → f b = .ref (xg_b D b))
  ∧ (wm_A G (o + 6) 8 3 (fun m => xx_b D (X 9 m)) H)
  ∧ (wm_A G (o + 40) 10 6 (fun s => xx_s D (X 58 s) s) H)
  ∧ (∃ V : Nat → Value, wm_O G (o + 8) 16 6 V H)
  ∧ (∃ V : Nat → Value, wm_O G (o + 17) 17 6 V H)
  ∧ (wm_O G (o + 16) 2 4 (fun k => if k = 0 then .ref (o + 17) else if k = 1 then .int (X 95 0) else if k = 2 then .int (X 96 0) else .ref o) H)
  ∧ (wm_A G (o + 18) 9 16 (fun i => .ref (o + (41 + 3 * i))) H)
  ∧ (∀ i : Nat, i < 16 → wm_O G (o + (41 + 3 * i)) 3 7 (fun k => if k = 0 then .ref (o + (42 + 3 * i)) else if k = 1 then .ref (o + (43 + 3 * i)) else if k < 6 then .int (X (88 + k) i) else .ref o) H)
  ∧ (∀ i : Nat, i < 16 → ∃ f g : Nat → Value, wm_A G (o + (42 + 3 * i)) 11 160 f H ∧ wm_A G (o + (43 + 3 * i)) 11 160 g H ∧ ∀ k : Nat, k < (X 90 i).toInt.toNat → xt_op G o D H (xg_l D i k).1 (f k) ∧ xt_op G o D H (some (xg_l D i k).2) (g k))
  ∧ (∀ b : Nat, b < xx_n X → wm_O G (xg_b D b) (4 + xx_q X b) (xx_bn.getD (xx_q X b) 0) (xx_BV o D X b (xx_q X b)) H)
  ∧ (∀ b : Nat, b < xx_n X → 0 ≤ (X 60 b).toInt ∧ (X 60 b).toInt < 8)
  ∧ (∀ b : Nat, b < xx_n X → 2 ≤ xx_q X b → xx_q X b ≤ 5 → ∀ j : Nat, j < 4 → wm_A G (xg_b D b + (1 + j)) (if j = 3 then 1 else 0) 61 (xx_HA X b (xx_hf.getD j 0)) H)
  ∧ (∀ s : Nat, s < 6 → (X 58 s).toInt < -1 → wm_A G (xg_r D s) (xx_rt (-2 - (X 58 s).toInt).toNat) (X 100 s).toInt.toNat (fun i => xx_el (-2 - (X 58 s).toInt).toNat (E 0 (60 * s + i)) (X 101 (60 * s + i))) H ∧ xg_d D (xg_r D s) = (3, s))
  ∧ (∀ j : Nat, j ≤ 88 → xg_d D (o + j) = (1, j))
  ∧ (∀ b i : Nat, b < xx_n X → (i = 0 ∨ 2 ≤ xx_q X b ∧ xx_q X b ≤ 5 ∧ i < 5) → xg_d D (xg_b D b + i) = (2, 5 * b + i))
  ∧ (∀ q : Nat, H.size ≤ q → xg_d D q = (0, 0))
  ∧ (∀ q : Nat, xg_d D q ≠ (0, 0) → xx_F o d0 q)
  ∧ (o + 88 < d0 ∧ d0 ≤ H.size)
  ∧ ((X 5 0).toInt < (X 4 0).toInt ∧ (∀ m : Nat, m < 3 → (X 9 m).toInt < (X 4 0).toInt) ∧ ∀ q : Nat, q < 6 → (X 58 q).toInt < (X 4 0).toInt)
  ∧ (0 ≤ (X 4 0).toInt ∧ (X 4 0).toInt ≤ 120 ∧ ∀ i : Nat, i < 16 → 0 ≤ (X 90 i).toInt ∧ (X 90 i).toInt ≤ 160)
  ∧ (∀ q : Nat, q < 6 → 0 ≤ (X 100 q).toInt ∧ (X 100 q).toInt ≤ 60)
section XX
variable {G : wm_G} {o d0 : Nat} {X : mm_S} {E : mm_E} {D : xg} {H : Heap}
theorem xx_W.main (w : xx_W G o d0 X E D H) : wm_O G o 0 59 (xx_V o D X) H := w.1
theorem xx_W.arr (w : xx_W G o d0 X E D H) : ∀ k j t n : Nat, xx_arr k = some (j, t, n) → wm_A G (o + j) t n (fun i => .int (X k i)) H := w.2.1
theorem xx_W.bod (w : xx_W G o d0 X E D H) : ∃ f : Nat → Value, wm_A G (o + 3) 7 120 f H ∧ ∀ b : Nat, b < xx_n X → f b = .ref (xg_b D b) := w.2.2.1
theorem xx_W.wrk (w : xx_W G o d0 X E D H) : wm_A G (o + 6) 8 3 (fun m => xx_b D (X 9 m)) H := w.2.2.2.1
theorem xx_W.shv (w : xx_W G o d0 X E D H) : wm_A G (o + 40) 10 6 (fun s => xx_s D (X 58 s) s) H := w.2.2.2.2.1
theorem xx_W.trn (w : xx_W G o d0 X E D H) : ∃ V : Nat → Value, wm_O G (o + 8) 16 6 V H := w.2.2.2.2.2.1
theorem xx_W.flt (w : xx_W G o d0 X E D H) : ∃ V : Nat → Value, wm_O G (o + 17) 17 6 V H := w.2.2.2.2.2.2.1
theorem xx_W.rdr (w : xx_W G o d0 X E D H) : wm_O G (o + 16) 2 4 (fun k => if k = 0 then .ref (o + 17) else if k = 1 then .int (X 95 0) else if k = 2 then .int (X 96 0) else .ref o) H := w.2.2.2.2.2.2.2.1
theorem xx_W.txa (w : xx_W G o d0 X E D H) : wm_A G (o + 18) 9 16 (fun i => .ref (o + (41 + 3 * i))) H := w.2.2.2.2.2.2.2.2.1
theorem xx_W.txt (w : xx_W G o d0 X E D H) : ∀ i : Nat, i < 16 → wm_O G (o + (41 + 3 * i)) 3 7 (fun k => if k = 0 then .ref (o + (42 + 3 * i)) else if k = 1 then .ref (o + (43 + 3 * i)) else if k < 6 then .int (X (88 + k) i) else .ref o) H := w.2.2.2.2.2.2.2.2.2.1
theorem xx_W.tst (w : xx_W G o d0 X E D H) : ∀ i : Nat, i < 16 → ∃ f g : Nat → Value, wm_A G (o + (42 + 3 * i)) 11 160 f H ∧ wm_A G (o + (43 + 3 * i)) 11 160 g H ∧ ∀ k : Nat, k < (X 90 i).toInt.toNat → xt_op G o D H (xg_l D i k).1 (f k) ∧ xt_op G o D H (some (xg_l D i k).2) (g k) := w.2.2.2.2.2.2.2.2.2.2.1
theorem xx_W.bdy (w : xx_W G o d0 X E D H) : ∀ b : Nat, b < xx_n X → wm_O G (xg_b D b) (4 + xx_q X b) (xx_bn.getD (xx_q X b) 0) (xx_BV o D X b (xx_q X b)) H := w.2.2.2.2.2.2.2.2.2.2.2.1
theorem xx_W.knd (w : xx_W G o d0 X E D H) : ∀ b : Nat, b < xx_n X → 0 ≤ (X 60 b).toInt ∧ (X 60 b).toInt < 8 := w.2.2.2.2.2.2.2.2.2.2.2.2.1
theorem xx_W.har (w : xx_W G o d0 X E D H) : ∀ b : Nat, b < xx_n X → 2 ≤ xx_q X b → xx_q X b ≤ 5 → ∀ j : Nat, j < 4 → wm_A G (xg_b D b + (1 + j)) (if j = 3 then 1 else 0) 61 (xx_HA X b (xx_hf.getD j 0)) H := w.2.2.2.2.2.2.2.2.2.2.2.2.2.1
theorem xx_W.row (w : xx_W G o d0 X E D H) : ∀ s : Nat, s < 6 → (X 58 s).toInt < -1 → wm_A G (xg_r D s) (xx_rt (-2 - (X 58 s).toInt).toNat) (X 100 s).toInt.toNat (fun i => xx_el (-2 - (X 58 s).toInt).toNat (E 0 (60 * s + i)) (X 101 (60 * s + i))) H ∧ xg_d D (xg_r D s) = (3, s) := w.2.2.2.2.2.2.2.2.2.2.2.2.2.2.1
theorem xx_W.dfx (w : xx_W G o d0 X E D H) : ∀ j : Nat, j ≤ 88 → xg_d D (o + j) = (1, j) := w.2.2.2.2.2.2.2.2.2.2.2.2.2.2.2.1
theorem xx_W.dby (w : xx_W G o d0 X E D H) : ∀ b i : Nat, b < xx_n X → (i = 0 ∨ 2 ≤ xx_q X b ∧ xx_q X b ≤ 5 ∧ i < 5) → xg_d D (xg_b D b + i) = (2, 5 * b + i) := w.2.2.2.2.2.2.2.2.2.2.2.2.2.2.2.2.1
theorem xx_W.dnw (w : xx_W G o d0 X E D H) : ∀ q : Nat, H.size ≤ q → xg_d D q = (0, 0) := w.2.2.2.2.2.2.2.2.2.2.2.2.2.2.2.2.2.1
theorem xx_W.din (w : xx_W G o d0 X E D H) : ∀ q : Nat, xg_d D q ≠ (0, 0) → xx_F o d0 q := w.2.2.2.2.2.2.2.2.2.2.2.2.2.2.2.2.2.2.1
theorem xx_W.lim (w : xx_W G o d0 X E D H) : o + 88 < d0 ∧ d0 ≤ H.size := w.2.2.2.2.2.2.2.2.2.2.2.2.2.2.2.2.2.2.2.1
theorem xx_W.rng (w : xx_W G o d0 X E D H) : (X 5 0).toInt < (X 4 0).toInt ∧ (∀ m : Nat, m < 3 → (X 9 m).toInt < (X 4 0).toInt) ∧ ∀ q : Nat, q < 6 → (X 58 q).toInt < (X 4 0).toInt := w.2.2.2.2.2.2.2.2.2.2.2.2.2.2.2.2.2.2.2.2.1
theorem xx_W.cap (w : xx_W G o d0 X E D H) : 0 ≤ (X 4 0).toInt ∧ (X 4 0).toInt ≤ 120 ∧ ∀ i : Nat, i < 16 → 0 ≤ (X 90 i).toInt ∧ (X 90 i).toInt ≤ 160 := w.2.2.2.2.2.2.2.2.2.2.2.2.2.2.2.2.2.2.2.2.2.1
theorem xx_W.siz (w : xx_W G o d0 X E D H) : ∀ q : Nat, q < 6 → 0 ≤ (X 100 q).toInt ∧ (X 100 q).toInt ≤ 60 := w.2.2.2.2.2.2.2.2.2.2.2.2.2.2.2.2.2.2.2.2.2.2
end XX
