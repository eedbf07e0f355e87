/-! THE REFERENCE's METHODS AS FUNCTIONS, by the order of their code: 1 -/
/-! fields: 1 hour 2 harder 3 isOpen 4 bodies 5 kind 6 column 7 width 8 trueColumn 9 toldYards 10 bored 11 kept 12 throughOn 13 lean 14 metAt 15 isLogged 16 logged 17 strength 18 skill 19 ill 20 isBelow 21 theShelter 22 shelterA 23 shelterB 24 shelterYard 25 shelterMoved 26 speedOf 27 holeOf 28 brokenTill 29 spreadIs 30 maps 31 mapA 32 mapB 33 mapYard 34 olds 35 oldCell 36 tape 37 taped 38 texts 39 textWhat 40 made 41 textFrom 42 lineMany 43 testEnd 44 lineEnd 45 act 46 with 47 here 48 fault 49 open 50 row 51 laid 52 facts 53 pile 54 spoonsBelow 55 eaten 56 moveMany 57 moveCell 58 moveHour 59 mayBore 60 boreSpeed 61 trialStrength 62 ways 63 wayWhat 64 wayHour 65 tubeFree 66 stuffBelow 67 needs 68 needHours 69 needWeight 70 needBy 71 leastOf 72 orderMany 73 orderRow 74 watchPlaces 75 watcher 76 aims 77 aimMisses 78 rocks 79 aimedMany 80 aimedPlace 81 aimedMachine 82 upMany 83 capsuleHour 84 upMan 85 upValue 86 upHour 87 traces 88 traced 89 holds 90 size 91 elements 92 isBlank 93 shifted 94 shiftedBlank -/
def ff_in (v a b : Int32) : Int32 := if v < a then 0 else if b < v then 0 else 1
def ff_held (v a b : Int32) : Int32 := if a ≤ v then (if v ≤ b then v else b) else a
def ff_isHour (h : Int32) : Int32 := ff_in h 0 1699
def ff_isCell (c : Int32) : Int32 := if c < 0 then 0 else if 32 ≤ c / 100 then 0 else if ff_in (jr_ c 100) 1 60 = 0 then 0 else 1
def ff_placeOf (c : Int32) : Int32 := 61 * (c / 100) + jr_ c 100
def ff_hard (S : mm_S) (c v : Int32) : Int32 × mm_S :=
  if ff_isCell c = 0 then (-1, S) else if ff_in v 1 9 = 0 then (-1, S) else (3 + rd_ S 2 (ff_placeOf c), wr_ S 2 (ff_placeOf c) (v - 3))
def ff_open (S : mm_S) (c v : Int32) : Int32 × mm_S :=
  if ff_isCell c = 0 then (-1, S) else if ff_in v 0 1 = 0 then (-1, S) else (if rd_ S 3 (ff_placeOf c) = 0 then 0 else 1, wr_ S 3 (ff_placeOf c) (if v = 1 then 1 else 0))
def ff_ofCell (S : mm_S) (c w : Int32) : Int32 :=
  if ff_isCell c = 0 then -1 else if ff_in w 0 1 = 0 then -1 else if w = 0 then 3 + rd_ S 2 (ff_placeOf c) else if rd_ S 3 (ff_placeOf c) = 0 then 0 else 1
def ff_isBody (S : mm_S) (b : Int32) : Int32 := ff_in b 0 (fd_ S 4 - 1)
def ff_isUnder (k a : Int32) : Int32 :=
  if a = 0 then 1 else if k = a then 1 else
  if a = 1 then (if k = 2 then 1 else if k = 3 then 1 else if k = 4 then 1 else if k = 5 then 1 else if k = 6 then 1 else 0) else
  if a = 2 then (if k = 3 then 1 else if k = 4 then 1 else if k = 5 then 1 else 0) else
  if a = 4 then (if k = 5 then 1 else 0) else 0
def ff_isHole (S : mm_S) (b : Int32) : Int32 := if ff_isBody S b = 0 then 0 else if ff_isUnder (rd_ S 5 b) 2 = 0 then 0 else 1
def ff_isMan (S : mm_S) (b : Int32) : Int32 := if ff_isBody S b = 0 then 0 else if rd_ S 5 b = 7 then 1 else 0
def ff_add (S : mm_S) (k : Int32) : Int32 × mm_S := (fd_ (fw_ (wr_ S 5 (fd_ S 4) k) 4 (fd_ (wr_ S 5 (fd_ S 4) k) 4 + 1)) 4 - 1, fw_ (wr_ S 5 (fd_ S 4) k) 4 (fd_ (wr_ S 5 (fd_ S 4) k) 4 + 1))
def ff_body (S : mm_S) (k : Int32) : Int32 × mm_S := if ff_in k 0 1 = 0 then (-1, S) else if fd_ S 4 = 120 then (-3, S) else ff_add S k
def ff_hole (S : mm_S) (k w : Int32) : Int32 × mm_S :=
  if ff_in k 2 5 = 0 then (-1, S) else if w < 0 then (-1, S) else if 32 ≤ w / 100 then (-1, S) else if jr_ w 100 = 0 then (-1, S) else if fd_ S 4 = 120 then (-3, S) else
  ((ff_add S k).1, wr_ (wr_ (wr_ (ff_add S k).2 6 (ff_add S k).1 (w / 100)) 8 (ff_add S k).1 (w / 100)) 7 (ff_add S k).1 (jr_ w 100))
def ff_isSpan (s : Int32) : Int32 := if s < 0 then 0 else if jr_ s 100 < s / 100 then 0 else if 32 ≤ jr_ s 100 then 0 else 1
def ff_shelter (S : mm_S) (s y : Int32) : Int32 × mm_S :=
  if ff_isSpan s = 0 then (-1, S) else if ff_in y 1 60 = 0 then (-1, S) else if fd_ S 21 < 0 then (if fd_ S 4 = 120 then (-3, S) else
  (fd_ (fw_ (fw_ (fw_ (fw_ (ff_add S 6).2 21 (ff_add S 6).1) 22 (s / 100)) 23 (jr_ s 100)) 24 y) 21, fw_ (fw_ (fw_ (fw_ (ff_add S 6).2 21 (ff_add S 6).1) 22 (s / 100)) 23 (jr_ s 100)) 24 y)) else (-2, S)
def ff_man (S : mm_S) (s w : Int32) : Int32 × mm_S :=
  if ff_in s 0 999 = 0 then (-1, S) else if ff_in w 0 99 = 0 then (-1, S) else if fd_ S 4 = 120 then (-3, S) else
  ((ff_add S 7).1, wr_ (wr_ (wr_ (wr_ (ff_add S 7).2 17 (ff_add S 7).1 s) 18 (ff_add S 7).1 (w / 10)) 19 (ff_add S 7).1 (jr_ w 10)) 20 (ff_add S 7).1 1)
def ff_ofBody (S : mm_S) (b w : Int32) : Int32 :=
  if ff_isBody S b = 0 then -2000000000 else if w = 0 then rd_ S 5 b else
  if ff_isHole S b = 0 then
    (if rd_ S 5 b = 6 then (if w = 1 then fd_ S 22 else if w = 2 then fd_ S 23 else if w = 3 then fd_ S 24 else if w = 4 then (if fd_ S 25 = 0 then 0 else 1) else -2000000000)
    else if rd_ S 5 b = 7 then (if w = 1 then rd_ S 17 b else if w = 2 then rd_ S 18 b else if w = 3 then rd_ S 19 b else if w = 4 then (if rd_ S 20 b = 0 then 0 else 1) else -2000000000)
    else -2000000000)
  else if w = 1 then rd_ S 6 b else if w = 2 then rd_ S 7 b else if w = 3 then rd_ S 10 b else if w = 4 then rd_ S 8 b else if w = 5 then (if rd_ S 12 b ≤ 0 then 0 else 1) else if w = 6 then rd_ S 11 b else if w = 7 then rd_ S 9 b else -2000000000
def ff_ill (S : mm_S) (b v : Int32) : Int32 × mm_S := if ff_isMan S b = 0 then (-1, S) else if ff_in v 0 9 = 0 then (-1, S) else (rd_ S 19 b, wr_ S 19 b v)
def ff_menBelow_go : Nat → mm_S → Int32 → Int32 → Int32
  | 0, _, n, _ => n
  | fu + 1, S, n, b => if fd_ S 4 ≤ b then n else if rd_ S 20 b = 0 then ff_menBelow_go fu S (n + 0) (b + 1) else ff_menBelow_go fu S (n + 1) (b + 1)
def ff_menBelow (S : mm_S) : Int32 := ff_menBelow_go 121 S 0 0
def ff_isMachine (m : Int32) : Int32 := ff_in m 0 2
/-! laws of them -/
/-- how many bodies there can be -/
def iv_B (S : mm_S) : Prop := 0 ≤ (fd_ S 4).toInt ∧ (fd_ S 4).toInt ≤ 120
theorem iv_B_lt {S : mm_S} (hB : iv_B S) (h : ¬ fd_ S 4 = 120) : 0 ≤ (fd_ S 4).toInt ∧ (fd_ S 4).toInt < 120 := by
  have h1 := ww_ne h
  have h2 := hB.2
  have h3 : (120 : Int32).toInt = 120 := by decide
  have h4 := hB.1
  omega
theorem ff_in_b (v a b : Int32) : ff_in v a b = 0 ∨ ff_in v a b = 1 := by
  unfold ff_in
  split
  · exact Or.inl rfl
  · split
    · exact Or.inl rfl
    · exact Or.inr rfl
theorem nz_ {v : Int32} (h : v = 0 ∨ v = 1) : narrow .boolean (.int v) = .int v := by
  rcases h with rfl | rfl <;> rfl
theorem ff_in_t {v a b : Int32} (h : ¬ ff_in v a b = 0) : a.toInt ≤ v.toInt ∧ v.toInt ≤ b.toInt := by
  unfold ff_in at h
  split at h
  · exact absurd rfl h
  · rename_i h1
    split at h
    · exact absurd rfl h
    · rename_i h2
      exact ⟨ww_nlt h1, ww_nlt h2⟩
theorem ff_in_f {v a b : Int32} (h : ff_in v a b = 0) : v.toInt < a.toInt ∨ b.toInt < v.toInt := by
  unfold ff_in at h
  split at h
  · rename_i h1; exact Or.inl (ww_lt h1)
  · split at h
    · rename_i h2; exact Or.inr (ww_lt h2)
    · exact absurd h (by decide)
theorem ff_in_1 {v a b : Int32} (h1 : a.toInt ≤ v.toInt) (h2 : v.toInt ≤ b.toInt) : ff_in v a b = 1 := by
  unfold ff_in
  rw [if_neg (ww_nlt' h1), if_neg (ww_nlt' h2)]
theorem ff_isCell_b (c : Int32) : ff_isCell c = 0 ∨ ff_isCell c = 1 := by
  unfold ff_isCell
  repeat' split
  all_goals first | exact Or.inl rfl | exact Or.inr rfl
theorem ff_isCell_t {c : Int32} (h : ¬ ff_isCell c = 0) : 0 ≤ c.toInt ∧ c.toInt / 100 < 32 ∧ 1 ≤ c.toInt % 100 ∧ c.toInt % 100 ≤ 60 := by
  unfold ff_isCell at h
  split at h
  · exact absurd rfl h
  · rename_i h1
    have t1 : 0 ≤ c.toInt := ww_nlt h1
    split at h
    · exact absurd rfl h
    · rename_i h2
      have t2 : (c / 100).toInt < 32 := ww_nle h2
      rw [ww_div _ _ t1 (by decide)] at t2
      split at h
      · exact absurd rfl h
      · rename_i h3
        have t3 := ff_in_t h3
        rw [ww_rem _ _ t1 (by decide)] at t3
        exact ⟨t1, t2, t3.1, t3.2⟩
theorem ff_placeOf_t {c : Int32} (h : ¬ ff_isCell c = 0) : (ff_placeOf c).toInt = 61 * (c.toInt / 100) + c.toInt % 100 := by
  obtain ⟨h1, h2, h3, h4⟩ := ff_isCell_t h
  have e1 : (c / 100).toInt = c.toInt / 100 := ww_div _ _ h1 (by decide)
  have e2 : (jr_ c 100).toInt = c.toInt % 100 := ww_rem _ _ h1 (by decide)
  have e61 : (61 : Int32).toInt = 61 := by decide
  have e3 : (61 * (c / 100)).toInt = 61 * (c.toInt / 100) := by
    rw [ww_mul, e1, e61] <;> rw [e1, e61] <;> omega
  unfold ff_placeOf
  rw [ww_add, e3, e2] <;> rw [e3, e2] <;> omega
theorem ff_placeOf_in {c : Int32} (h : ¬ ff_isCell c = 0) : vp_in (ff_placeOf c) 1952 := by
  obtain ⟨h1, h2, h3, h4⟩ := ff_isCell_t h
  have := ff_placeOf_t h
  exact ww_in (by omega) (by omega)
theorem ff_isBody_t {S : mm_S} {b : Int32} (hB : iv_B S) (h : ¬ ff_isBody S b = 0) : 0 ≤ b.toInt ∧ b.toInt < (fd_ S 4).toInt ∧ b.toInt < 120 := by
  have t := ff_in_t h
  have e0 : (0 : Int32).toInt = 0 := by decide
  have e1 : (1 : Int32).toInt = 1 := by decide
  have e : (fd_ S 4 - 1).toInt = (fd_ S 4).toInt - 1 := by
    rw [ww_sub, e1] <;> rw [e1] <;> have := hB.1 <;> have := hB.2 <;> omega
  rw [e, e0] at t
  have := hB.2
  omega
theorem ff_isUnder_b (k a : Int32) : ff_isUnder k a = 0 ∨ ff_isUnder k a = 1 := by
  unfold ff_isUnder
  repeat' split
  all_goals first | exact Or.inl rfl | exact Or.inr rfl
theorem ff_isHole_b (S : mm_S) (b : Int32) : ff_isHole S b = 0 ∨ ff_isHole S b = 1 := by
  unfold ff_isHole
  repeat' split
  all_goals first | exact Or.inl rfl | exact Or.inr rfl
theorem ff_isMan_b (S : mm_S) (b : Int32) : ff_isMan S b = 0 ∨ ff_isMan S b = 1 := by
  unfold ff_isMan
  repeat' split
  all_goals first | exact Or.inl rfl | exact Or.inr rfl
theorem ff_isHole_t {S : mm_S} {b : Int32} (hB : iv_B S) (h : ¬ ff_isHole S b = 0) : 0 ≤ b.toInt ∧ b.toInt < (fd_ S 4).toInt ∧ b.toInt < 120 := by
  unfold ff_isHole at h
  split at h
  · exact absurd rfl h
  · rename_i h1; exact ff_isBody_t hB h1
theorem ff_isMan_t {S : mm_S} {b : Int32} (hB : iv_B S) (h : ¬ ff_isMan S b = 0) : 0 ≤ b.toInt ∧ b.toInt < (fd_ S 4).toInt ∧ b.toInt < 120 := by
  unfold ff_isMan at h
  split at h
  · exact absurd rfl h
  · rename_i h1; exact ff_isBody_t hB h1
theorem fd_fw (S : mm_S) (k : Nat) (v : Int32) : fd_ (fw_ S k v) k = v := mm_up_s S k 0 v
theorem fd_fn {S : mm_S} {k k2 : Nat} {v : Int32} (h : k2 ≠ k) : fd_ (fw_ S k v) k2 = fd_ S k2 := congrFun (mm_up_k h) 0
theorem fd_wn {S : mm_S} {k k2 : Nat} {i v : Int32} (h : k2 ≠ k) : fd_ (wr_ S k i v) k2 = fd_ S k2 := congrFun (mm_up_k h) 0
theorem rd_fn {S : mm_S} {k k2 : Nat} {v i : Int32} (h : k2 ≠ k) : rd_ (fw_ S k v) k2 i = rd_ S k2 i := congrFun (mm_up_k h) _
theorem rd_wn {S : mm_S} {k k2 : Nat} {i v j : Int32} (h : k2 ≠ k) : rd_ (wr_ S k i v) k2 j = rd_ S k2 j := congrFun (mm_up_k h) _
theorem rd_ws (S : mm_S) (k : Nat) (i v : Int32) : rd_ (wr_ S k i v) k i = v := mm_up_s S k _ v
theorem ff_add_1 (S : mm_S) (k : Int32) : (ff_add S k).1 = fd_ S 4 := by
  show fd_ (fw_ (wr_ S 5 (fd_ S 4) k) 4 (fd_ (wr_ S 5 (fd_ S 4) k) 4 + 1)) 4 - 1 = fd_ S 4
  rw [fd_fw, fd_wn (by decide)]
  exact Int32.add_sub_cancel _ _
